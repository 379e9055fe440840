/-! the reference, walked (written by gen/main_m.py) -/
def fX6_shipComes (σ : ZS) (p1 : Int32) (p2 : Int32) (p3 : Int32) : Option (Int32 × ZS) := nm (σ.1 1 (2 : Int32).toNatClampNeg) (fun (x4_1 : Int32) => nm (p1 / 10) (fun (v_2 : Int32) => gd (¬ ((fX6_shipAt x4_1 0) < 0 ∨ 242 ≤ (fX6_shipAt x4_1 0).toNatClampNeg)) (nm (p1 - p1 / 10 * 10) (fun (v_4 : Int32) => gd (¬ ((fX6_shipAt x4_1 1) < 0 ∨ 242 ≤ (fX6_shipAt x4_1 1).toNatClampNeg)) (gd (¬ ((fX6_shipAt x4_1 2) < 0 ∨ 242 ≤ (fX6_shipAt x4_1 2).toNatClampNeg)) (gd (¬ ((fX6_shipAt x4_1 3) < 0 ∨ 242 ≤ (fX6_shipAt x4_1 3).toNatClampNeg)) (gd (¬ ((fX6_shipAt x4_1 4) < 0 ∨ 242 ≤ (fX6_shipAt x4_1 4).toNatClampNeg)) (nm (((sI (sI (sI (sI (sI σ 1 ((fX6_shipAt x4_1 0).toNatClampNeg) v_2) 1 ((fX6_shipAt x4_1 1).toNatClampNeg) v_4) 1 ((fX6_shipAt x4_1 2).toNatClampNeg) p2) 1 ((fX6_shipAt x4_1 3).toNatClampNeg) p3) 1 ((fX6_shipAt x4_1 4).toNatClampNeg) 0).1 1 (2 : Int32).toNatClampNeg) + 1) (fun (v_9 : Int32) => some (x4_1, sI (sI (sI (sI (sI (sI σ 1 ((fX6_shipAt x4_1 0).toNatClampNeg) v_2) 1 ((fX6_shipAt x4_1 1).toNatClampNeg) v_4) 1 ((fX6_shipAt x4_1 2).toNatClampNeg) p2) 1 ((fX6_shipAt x4_1 3).toNatClampNeg) p3) 1 ((fX6_shipAt x4_1 4).toNatClampNeg) 0) 1 ((2 : Int32).toNatClampNeg) v_9))))))))))
set_option maxHeartbeats 4000000 in
set_option maxRecDepth 100000 in
theorem tX6_shipComes (l : Launch) (w : ZW) {σ σ' : ZS} {p1 : Int32} {p2 : Int32} {p3 : Int32} {r : Int32} (hf : fX6_shipComes σ p1 p2 p3 = some (r, σ')) : zC l w zLm yX6_shipComes (ws_ yX6_shipComes cX6_shipComes 5 (some .int)) 1 14 [.ref (w.2.2 0), .int p1, .int p2, .int p3] σ (.returned (some (.int r))) σ' := by
  refine zC.of (plainFor_of_name (by decide)) (Nat.le_of_ble_eq_true rfl) ?_
  intro p e s m args below meth c C hnm
  show Z p l e _ s m args below meth c _ w _ _ 5 σ 0 [(0, .ref (w.2.2 0)), (1, .int p1), (2, .int p2), (3, .int p3)] []
  unfold fX6_shipComes at hf
  refine z_aload_n C 0 dX6_shipComes_0 rfl rfl ?_
  refine z_getR C ly_m0 (Cn := RX6) (T := TX6) (N := 24) rfl in_X6 0 (by decide) q1404 (Or.inl rfl) rfl dX6_shipComes_1 ?_
  refine z_iconst C 2 dX6_shipComes_4 (by decide) ?_
  refine z_ialoadF C ly_m1 (by decide) dX6_shipComes_5 ?_
  obtain ⟨x4_1, ex4_1, hf⟩ := nmo_ hf
  refine z_top ex4_1 ?_
  refine z_istore C dX6_shipComes_6 (by decide) rfl (lv' := [(4, .int x4_1), (0, .ref (w.2.2 0)), (1, .int p1), (2, .int p2), (3, .int p3)]) ?_
  refine z_aload_n C 1 dX6_shipComes_8 rfl rfl ?_
  refine z_getR C ly_m0 (Cn := RX6) (T := TX6) (N := 24) rfl in_X6 0 (by decide) q1404 (Or.inl rfl) rfl dX6_shipComes_9 ?_
  refine z_iload C 0 dX6_shipComes_12 rfl ?_
  refine z_iconst C 0 dX6_shipComes_14 (by decide) ?_
  refine z_calli C (rest := [.ref (w.2.2 1)]) (av := [.int x4_1, .int 0]) (zPay.of q1631 q83) (fun H ls hH h2 => zInv_S C (As := [.int x4_1, .int 0]) (rest := [.ref (w.2.2 1)]) q1629 q1630 q83 (Or.inl rfl) q1631 mh_X6 np_X6_shipAt dX6_shipComes_15) (tX6_shipAt l w zLm σ x4_1 0) (Nat.le_of_ble_eq_true rfl) (Nat.le_of_ble_eq_true rfl) ?_
  refine z_iload_n C 2 dX6_shipComes_18 rfl rfl ?_
  refine z_bipush C 10 dX6_shipComes_19 (by decide) ?_
  refine z_idiv C dX6_shipComes_21 (by decide) ?_
  obtain ⟨v_2, ev_2, hf⟩ := nmo_ hf
  refine z_top ev_2 ?_
  obtain ⟨g_3, hf⟩ := gd_ hf
  refine z_iastore C ly_m1 g_3 dX6_shipComes_22 ?_
  refine z_aload_n C 1 dX6_shipComes_23 rfl rfl ?_
  refine z_getR C ly_m0 (Cn := RX6) (T := TX6) (N := 24) rfl in_X6 0 (by decide) q1404 (Or.inl rfl) rfl dX6_shipComes_24 ?_
  refine z_iload C 0 dX6_shipComes_27 rfl ?_
  refine z_iconst C 1 dX6_shipComes_29 (by decide) ?_
  refine z_calli C (rest := [.ref (w.2.2 1)]) (av := [.int x4_1, .int 1]) (zPay.of q1631 q83) (fun H ls hH h2 => zInv_S C (As := [.int x4_1, .int 1]) (rest := [.ref (w.2.2 1)]) q1629 q1630 q83 (Or.inl rfl) q1631 mh_X6 np_X6_shipAt dX6_shipComes_30) (tX6_shipAt l w zLm (sI σ 1 ((fX6_shipAt x4_1 0).toNatClampNeg) v_2) x4_1 1) (Nat.le_of_ble_eq_true rfl) (Nat.le_of_ble_eq_true rfl) ?_
  refine z_iload_n C 2 dX6_shipComes_33 rfl rfl ?_
  refine z_bipush C 10 dX6_shipComes_34 (by decide) ?_
  refine z_irem C dX6_shipComes_36 (by decide) ?_
  obtain ⟨v_4, ev_4, hf⟩ := nmo_ hf
  refine z_top ev_4 ?_
  obtain ⟨g_5, hf⟩ := gd_ hf
  refine z_iastore C ly_m1 g_5 dX6_shipComes_37 ?_
  refine z_aload_n C 1 dX6_shipComes_38 rfl rfl ?_
  refine z_getR C ly_m0 (Cn := RX6) (T := TX6) (N := 24) rfl in_X6 0 (by decide) q1404 (Or.inl rfl) rfl dX6_shipComes_39 ?_
  refine z_iload C 0 dX6_shipComes_42 rfl ?_
  refine z_iconst C 2 dX6_shipComes_44 (by decide) ?_
  refine z_calli C (rest := [.ref (w.2.2 1)]) (av := [.int x4_1, .int 2]) (zPay.of q1631 q83) (fun H ls hH h2 => zInv_S C (As := [.int x4_1, .int 2]) (rest := [.ref (w.2.2 1)]) q1629 q1630 q83 (Or.inl rfl) q1631 mh_X6 np_X6_shipAt dX6_shipComes_45) (tX6_shipAt l w zLm (sI (sI σ 1 ((fX6_shipAt x4_1 0).toNatClampNeg) v_2) 1 ((fX6_shipAt x4_1 1).toNatClampNeg) v_4) x4_1 2) (Nat.le_of_ble_eq_true rfl) (Nat.le_of_ble_eq_true rfl) ?_
  refine z_iload_n C 3 dX6_shipComes_48 rfl rfl ?_
  obtain ⟨g_6, hf⟩ := gd_ hf
  refine z_iastore C ly_m1 g_6 dX6_shipComes_49 ?_
  refine z_aload_n C 1 dX6_shipComes_50 rfl rfl ?_
  refine z_getR C ly_m0 (Cn := RX6) (T := TX6) (N := 24) rfl in_X6 0 (by decide) q1404 (Or.inl rfl) rfl dX6_shipComes_51 ?_
  refine z_iload C 0 dX6_shipComes_54 rfl ?_
  refine z_iconst C 3 dX6_shipComes_56 (by decide) ?_
  refine z_calli C (rest := [.ref (w.2.2 1)]) (av := [.int x4_1, .int 3]) (zPay.of q1631 q83) (fun H ls hH h2 => zInv_S C (As := [.int x4_1, .int 3]) (rest := [.ref (w.2.2 1)]) q1629 q1630 q83 (Or.inl rfl) q1631 mh_X6 np_X6_shipAt dX6_shipComes_57) (tX6_shipAt l w zLm (sI (sI (sI σ 1 ((fX6_shipAt x4_1 0).toNatClampNeg) v_2) 1 ((fX6_shipAt x4_1 1).toNatClampNeg) v_4) 1 ((fX6_shipAt x4_1 2).toNatClampNeg) p2) x4_1 3) (Nat.le_of_ble_eq_true rfl) (Nat.le_of_ble_eq_true rfl) ?_
  refine z_iload_n C 4 dX6_shipComes_60 rfl rfl ?_
  obtain ⟨g_7, hf⟩ := gd_ hf
  refine z_iastore C ly_m1 g_7 dX6_shipComes_61 ?_
  refine z_aload_n C 1 dX6_shipComes_62 rfl rfl ?_
  refine z_getR C ly_m0 (Cn := RX6) (T := TX6) (N := 24) rfl in_X6 0 (by decide) q1404 (Or.inl rfl) rfl dX6_shipComes_63 ?_
  refine z_iload C 0 dX6_shipComes_66 rfl ?_
  refine z_iconst C 4 dX6_shipComes_68 (by decide) ?_
  refine z_calli C (rest := [.ref (w.2.2 1)]) (av := [.int x4_1, .int 4]) (zPay.of q1631 q83) (fun H ls hH h2 => zInv_S C (As := [.int x4_1, .int 4]) (rest := [.ref (w.2.2 1)]) q1629 q1630 q83 (Or.inl rfl) q1631 mh_X6 np_X6_shipAt dX6_shipComes_69) (tX6_shipAt l w zLm (sI (sI (sI (sI σ 1 ((fX6_shipAt x4_1 0).toNatClampNeg) v_2) 1 ((fX6_shipAt x4_1 1).toNatClampNeg) v_4) 1 ((fX6_shipAt x4_1 2).toNatClampNeg) p2) 1 ((fX6_shipAt x4_1 3).toNatClampNeg) p3) x4_1 4) (Nat.le_of_ble_eq_true rfl) (Nat.le_of_ble_eq_true rfl) ?_
  refine z_iconst C 0 dX6_shipComes_72 (by decide) ?_
  obtain ⟨g_8, hf⟩ := gd_ hf
  refine z_iastore C ly_m1 g_8 dX6_shipComes_73 ?_
  refine z_aload_n C 1 dX6_shipComes_74 rfl rfl ?_
  refine z_getR C ly_m0 (Cn := RX6) (T := TX6) (N := 24) rfl in_X6 0 (by decide) q1404 (Or.inl rfl) rfl dX6_shipComes_75 ?_
  refine z_iconst C 2 dX6_shipComes_78 (by decide) ?_
  refine z_dup2 C dX6_shipComes_79 rfl rfl ?_
  refine z_ialoadF C ly_m1 (by decide) dX6_shipComes_80 ?_
  refine z_iconst C 1 dX6_shipComes_81 (by decide) ?_
  refine z_iadd C dX6_shipComes_82 ?_
  obtain ⟨v_9, ev_9, hf⟩ := nmo_ hf
  refine z_top ev_9 ?_
  refine z_iastore C ly_m1 (by decide) dX6_shipComes_83 ?_
  refine z_iload C 0 dX6_shipComes_84 rfl ?_
  obtain ⟨rfl, rfl⟩ := fin_ hf
  exact z_iret C rfl dX6_shipComes_86
def fX6_isShip (σ : ZS) (p1 : Int32) : Int32 := fX6_within p1 0 ((σ.1 1 (2 : Int32).toNatClampNeg) - 1)
set_option maxHeartbeats 4000000 in
set_option maxRecDepth 100000 in
theorem tX6_isShip (l : Launch) (w : ZW) (σ : ZS) (p1 : Int32) : zC l w zLm yX6_isShip (ws_ yX6_isShip cX6_isShip 2 (some .boolean)) 1 14 [.ref (w.2.2 0), .int p1] σ (.returned (some (.int (fX6_isShip σ p1)))) σ := by
  obtain ⟨r, hf⟩ : ∃ r, r = fX6_isShip σ p1 := ⟨_, rfl⟩
  rw [← hf]
  refine zC.of (plainFor_of_name (by decide)) (Nat.le_of_ble_eq_true rfl) ?_
  intro p e s m args below meth c C hnm
  show Z p l e _ s m args below meth c _ w _ _ 2 σ 0 [(0, .ref (w.2.2 0)), (1, .int p1)] []
  unfold fX6_isShip at hf
  refine z_iload_n C 1 dX6_isShip_0 rfl rfl ?_
  refine z_iconst C 0 dX6_isShip_1 (by decide) ?_
  refine z_aload_n C 0 dX6_isShip_2 rfl rfl ?_
  refine z_getR C ly_m0 (Cn := RX6) (T := TX6) (N := 24) rfl in_X6 0 (by decide) q1404 (Or.inl rfl) rfl dX6_isShip_3 ?_
  refine z_iconst C 2 dX6_isShip_6 (by decide) ?_
  refine z_ialoadF C ly_m1 (by decide) dX6_isShip_7 ?_
  refine z_iconst C 1 dX6_isShip_8 (by decide) ?_
  refine z_isub C dX6_isShip_9 ?_
  refine z_calli C (rest := []) (av := [.int p1, .int 0, .int ((σ.1 1 (2 : Int32).toNatClampNeg) - 1)]) (zPay.of q1483 q83) (fun H ls hH h2 => zInv_S C (As := [.int p1, .int 0, .int ((σ.1 1 (2 : Int32).toNatClampNeg) - 1)]) (rest := []) q1481 q1482 q83 (Or.inl rfl) q1483 mh_X6 np_X6_within dX6_isShip_10) (tX6_within l w zLm σ p1 0 ((σ.1 1 (2 : Int32).toNatClampNeg) - 1)) (Nat.le_of_ble_eq_true rfl) (Nat.le_of_ble_eq_true rfl) ?_
  subst hf
  exact z_iret C (b01 (bX6_within p1 0 ((σ.1 1 (2 : Int32).toNatClampNeg) - 1))) dX6_isShip_13
theorem bX6_isShip (σ : ZS) (p1 : Int32) : fX6_isShip σ p1 = 0 ∨ fX6_isShip σ p1 = 1 := by
  exact bX6_within p1 0 ((σ.1 1 (2 : Int32).toNatClampNeg) - 1)
def fX6_change (σ : ZS) (p1 : Int32) (p2 : Int32) (p3 : Int32) : Option (Int32 × ZS) := nm (if p2 = 0 then (fX6_isDigit p3) else (if p2 = 1 then (fX6_isCell σ p3) else (if p2 = 2 then (if (fX6_within p3 0 1) = 0 then 0 else 1) else 0))) (fun (j_1 : Int32) => bd (if (fX6_isShip σ p1) = 0 then (bd (fX6_finding σ (-1000000001)) (fun r_6 σ_8 => some (r_6, σ_8))) else (if j_1 = 0 then (bd (fX6_finding σ (-1000000001)) (fun r_10 σ_12 => some (r_10, σ_12))) else (bd (fX6_turn σ (fX6_shipAt p1 (2 + p2)) p3) (fun r_13 σ_15 => some (r_13, σ_15))))) (fun (j_2 : Int32) σ_3 => some (j_2, σ_3)))
set_option maxHeartbeats 4000000 in
set_option maxRecDepth 100000 in
theorem tX6_change (l : Launch) (w : ZW) {σ σ' : ZS} {p1 : Int32} {p2 : Int32} {p3 : Int32} {r : Int32} (hf : fX6_change σ p1 p2 p3 = some (r, σ')) : zC l w zLm yX6_change (ws_ yX6_change cX6_change 5 (some .int)) 2 27 [.ref (w.2.2 0), .int p1, .int p2, .int p3] σ (.returned (some (.int r))) σ' := by
  refine zC.of (plainFor_of_name (by decide)) (Nat.le_of_ble_eq_true rfl) ?_
  intro p e s m args below meth c C hnm
  show Z p l e _ s m args below meth c _ w _ _ 5 σ 0 [(0, .ref (w.2.2 0)), (1, .int p1), (2, .int p2), (3, .int p3)] []
  unfold fX6_change at hf
  refine z_iload_n C 2 dX6_change_0 rfl rfl ?_
  obtain ⟨j_1, ej_1, hf⟩ := nmo_ hf
  have hjj_1 : Z p l e (zRm 2 27 σ) s m args below meth c (zQ below w zLm σ (.returned (some (.int r))) σ' args s) w zLm (zA w zLm σ) 5 σ 43 [(0, .ref (w.2.2 0)), (1, .int p1), (2, .int p2), (3, .int p3)] [.int j_1] := by
    refine z_istore C dX6_change_43 (by decide) rfl (lv' := [(4, .int j_1), (0, .ref (w.2.2 0)), (1, .int p1), (2, .int p2), (3, .int p3)]) ?_
    refine z_aload_n C 1 dX6_change_45 rfl rfl ?_
    refine z_iload_n C 2 dX6_change_46 rfl rfl ?_
    refine z_calli C (rest := []) (av := (.ref (w.2.2 0) :: [.int p1])) (zPay.of q1664 q83) (fun H ls hH h2 => zInv_V C (As := [.int p1]) (rest := []) (ci := 6) (T := TX6) (N := 24) rfl (zSee.fix ly_m0) hH q1661 q1663 qs55 (Or.inl rfl) q1664 mh_X6 np_X6_isShip dX6_change_47) (tX6_isShip l w σ p1) (Nat.le_of_ble_eq_true rfl) (Nat.le_of_ble_eq_true rfl) ?_
    obtain ⟨j_2, σ_3, e_4, hf⟩ := bd_ hf
    have hje_4 : Z p l e (zRm 2 27 σ) s m args below meth c (zQ below w zLm σ (.returned (some (.int r))) σ' args s) w zLm (zA w zLm σ) 5 σ_3 79 [(0, .ref (w.2.2 0)), (1, .int p1), (2, .int p2), (3, .int p3), (4, .int j_1)] [.int j_2] := by
      obtain ⟨rfl, rfl⟩ := fin_ hf
      exact z_iret C rfl dX6_change_79
    replace hf := e_4
    refine z_if_eq C 73 dX6_change_50 (by decide) (fun c_5 => ?_) (fun c_5 => ?_)
    · replace hf := if_t c_5 hf
      refine z_aload_n C 1 dX6_change_73 rfl rfl ?_
      refine z_ldc C dX6_change_74 q1484 ?_
      obtain ⟨r_6, σ_8, e_7, hf⟩ := bd_ hf
      refine z_calli C (rest := []) (av := (.ref (w.2.2 0) :: [.int (-1000000001)])) (zPay.of q1488 q83) (fun H ls hH h2 => zInv_V C (As := [.int (-1000000001)]) (rest := []) (ci := 6) (T := TX6) (N := 24) rfl (zSee.fix ly_m0) hH q1485 q1487 qs32 (Or.inl rfl) q1488 mh_X6 np_X6_finding dX6_change_76) (tX6_finding l w e_7) (Nat.le_of_ble_eq_true rfl) (Nat.le_of_ble_eq_true rfl) ?_
      obtain ⟨rfl, rfl⟩ := fin_ hf
      exact z_lv [1, 2, 3, 4, 0] rfl hje_4
    · replace hf := if_f c_5 hf
      refine z_iload C 0 dX6_change_53 rfl ?_
      refine z_if_eq C 73 dX6_change_55 (by decide) (fun c_9 => ?_) (fun c_9 => ?_)
      · replace hf := if_t c_9 hf
        refine z_aload_n C 1 dX6_change_73 rfl rfl ?_
        refine z_ldc C dX6_change_74 q1484 ?_
        obtain ⟨r_10, σ_12, e_11, hf⟩ := bd_ hf
        refine z_calli C (rest := []) (av := (.ref (w.2.2 0) :: [.int (-1000000001)])) (zPay.of q1488 q83) (fun H ls hH h2 => zInv_V C (As := [.int (-1000000001)]) (rest := []) (ci := 6) (T := TX6) (N := 24) rfl (zSee.fix ly_m0) hH q1485 q1487 qs32 (Or.inl rfl) q1488 mh_X6 np_X6_finding dX6_change_76) (tX6_finding l w e_11) (Nat.le_of_ble_eq_true rfl) (Nat.le_of_ble_eq_true rfl) ?_
        obtain ⟨rfl, rfl⟩ := fin_ hf
        exact z_lv [1, 2, 3, 4, 0] rfl hje_4
      · replace hf := if_f c_9 hf
        refine z_aload_n C 1 dX6_change_58 rfl rfl ?_
        refine z_iload_n C 2 dX6_change_59 rfl rfl ?_
        refine z_iconst C 2 dX6_change_60 (by decide) ?_
        refine z_iload_n C 3 dX6_change_61 rfl rfl ?_
        refine z_iadd C dX6_change_62 ?_
        refine z_calli C (rest := [.ref (w.2.2 0)]) (av := [.int p1, .int (2 + p2)]) (zPay.of q1631 q83) (fun H ls hH h2 => zInv_S C (As := [.int p1, .int (2 + p2)]) (rest := [.ref (w.2.2 0)]) q1629 q1630 q83 (Or.inl rfl) q1631 mh_X6 np_X6_shipAt dX6_change_63) (tX6_shipAt l w zLm σ p1 (2 + p2)) (Nat.le_of_ble_eq_true rfl) (Nat.le_of_ble_eq_true rfl) ?_
        refine z_iload_n C 4 dX6_change_66 rfl rfl ?_
        obtain ⟨r_13, σ_15, e_14, hf⟩ := bd_ hf
        refine z_calli C (rest := []) (av := (.ref (w.2.2 0) :: [.int (fX6_shipAt p1 (2 + p2)), .int p3])) (zPay.of q1403 q83) (fun H ls hH h2 => zInv_V C (As := [.int (fX6_shipAt p1 (2 + p2)), .int p3]) (rest := []) (ci := 6) (T := TX6) (N := 24) rfl (zSee.fix ly_m0) hH q1400 q1402 qs31 (Or.inl rfl) q1403 mh_X6 np_X6_turn dX6_change_67) (tX6_turn l w e_14) (Nat.le_of_ble_eq_true rfl) (Nat.le_of_ble_eq_true rfl) ?_
        refine z_goto C 79 dX6_change_70 (by decide) ?_
        obtain ⟨rfl, rfl⟩ := fin_ hf
        exact z_lv [1, 2, 3, 4, 0] rfl hje_4
  replace hf := ej_1
  refine z_if_ne C 11 dX6_change_1 (by decide) (fun c_16 => ?_) (fun c_16 => ?_)
  · replace hf := ifp_f c_16 hf
    refine z_iload_n C 2 dX6_change_11 rfl rfl ?_
    refine z_iconst C 1 dX6_change_12 (by decide) ?_
    refine z_icmp_ne C 24 dX6_change_13 (by decide) (fun c_17 => ?_) (fun c_17 => ?_)
    · replace hf := ifp_f c_17 hf
      refine z_iload_n C 2 dX6_change_24 rfl rfl ?_
      refine z_iconst C 2 dX6_change_25 (by decide) ?_
      refine z_icmp_ne C 42 dX6_change_26 (by decide) (fun c_18 => ?_) (fun c_18 => ?_)
      · replace hf := ifp_f c_18 hf
        refine z_iconst C 0 dX6_change_42 (by decide) ?_
        subst hf
        exact hjj_1
      · replace hf := ifp_t c_18 hf
        refine z_iload_n C 3 dX6_change_29 rfl rfl ?_
        refine z_iconst C 0 dX6_change_30 (by decide) ?_
        refine z_iconst C 1 dX6_change_31 (by decide) ?_
        refine z_calli C (rest := []) (av := [.int p3, .int 0, .int 1]) (zPay.of q1483 q83) (fun H ls hH h2 => zInv_S C (As := [.int p3, .int 0, .int 1]) (rest := []) q1481 q1482 q83 (Or.inl rfl) q1483 mh_X6 np_X6_within dX6_change_32) (tX6_within l w zLm σ p3 0 1) (Nat.le_of_ble_eq_true rfl) (Nat.le_of_ble_eq_true rfl) ?_
        refine z_if_eq C 42 dX6_change_35 (by decide) (fun c_19 => ?_) (fun c_19 => ?_)
        · replace hf := ifp_t c_19 hf
          refine z_iconst C 0 dX6_change_42 (by decide) ?_
          subst hf
          exact hjj_1
        · replace hf := ifp_f c_19 hf
          refine z_iconst C 1 dX6_change_38 (by decide) ?_
          refine z_goto C 43 dX6_change_39 (by decide) ?_
          subst hf
          exact hjj_1
    · replace hf := ifp_t c_17 hf
      refine z_aload_n C 0 dX6_change_16 rfl rfl ?_
      refine z_iload_n C 3 dX6_change_17 rfl rfl ?_
      refine z_calli C (rest := []) (av := (.ref (w.2.2 0) :: [.int p3])) (zPay.of q1593 q83) (fun H ls hH h2 => zInv_V C (As := [.int p3]) (rest := []) (ci := 6) (T := TX6) (N := 24) rfl (zSee.fix ly_m0) hH q1590 q1592 qs46 (Or.inl rfl) q1593 mh_X6 np_X6_isCell dX6_change_18) (tX6_isCell l w σ p3) (Nat.le_of_ble_eq_true rfl) (Nat.le_of_ble_eq_true rfl) ?_
      refine z_goto C 43 dX6_change_21 (by decide) ?_
      subst hf
      exact hjj_1
  · replace hf := ifp_t c_16 hf
    refine z_iload_n C 3 dX6_change_4 rfl rfl ?_
    refine z_calli C (rest := []) (av := [.int p3]) (zPay.of q1652 q83) (fun H ls hH h2 => zInv_S C (As := [.int p3]) (rest := []) q1650 q1651 q83 (Or.inl rfl) q1652 mh_X6 np_X6_isDigit dX6_change_5) (tX6_isDigit l w zLm σ p3) (Nat.le_of_ble_eq_true rfl) (Nat.le_of_ble_eq_true rfl) ?_
    refine z_goto C 43 dX6_change_8 (by decide) ?_
    subst hf
    exact hjj_1
def fX6_become (σ : ZS) (p1 : Int32) (p2 : Int32) : Option (Int32 × ZS) := if (fX6_isShip σ p1) = 0 then (bd (fX6_finding σ (-1000000001)) (fun r_2 σ_4 => some (r_2, σ_4))) else (if (fX6_isKindM p2) = 0 then (bd (fX6_finding σ (-1000000001)) (fun r_11 σ_13 => some (r_11, σ_13))) else (nm (p2 - p2 / 10 * 10) (fun (v_6 : Int32) => gd (¬ ((fX6_shipAt p1 1) < 0 ∨ 242 ≤ (fX6_shipAt p1 1).toNatClampNeg)) (bd (fX6_turn (sI σ 1 ((fX6_shipAt p1 1).toNatClampNeg) v_6) (fX6_shipAt p1 0) (p2 / 10)) (fun r_8 σ_10 => some (r_8, σ_10))))))
set_option maxHeartbeats 4000000 in
set_option maxRecDepth 100000 in
theorem tX6_become (l : Launch) (w : ZW) {σ σ' : ZS} {p1 : Int32} {p2 : Int32} {r : Int32} (hf : fX6_become σ p1 p2 = some (r, σ')) : zC l w zLm yX6_become (ws_ yX6_become cX6_become 3 (some .int)) 2 27 [.ref (w.2.2 0), .int p1, .int p2] σ (.returned (some (.int r))) σ' := by
  refine zC.of (plainFor_of_name (by decide)) (Nat.le_of_ble_eq_true rfl) ?_
  intro p e s m args below meth c C hnm
  show Z p l e _ s m args below meth c _ w _ _ 3 σ 0 [(0, .ref (w.2.2 0)), (1, .int p1), (2, .int p2)] []
  unfold fX6_become at hf
  refine z_aload_n C 0 dX6_become_0 rfl rfl ?_
  refine z_iload_n C 1 dX6_become_1 rfl rfl ?_
  refine z_calli C (rest := []) (av := (.ref (w.2.2 0) :: [.int p1])) (zPay.of q1664 q83) (fun H ls hH h2 => zInv_V C (As := [.int p1]) (rest := []) (ci := 6) (T := TX6) (N := 24) rfl (zSee.fix ly_m0) hH q1661 q1663 qs55 (Or.inl rfl) q1664 mh_X6 np_X6_isShip dX6_become_2) (tX6_isShip l w σ p1) (Nat.le_of_ble_eq_true rfl) (Nat.le_of_ble_eq_true rfl) ?_
  refine z_if_eq C 15 dX6_become_5 (by decide) (fun c_1 => ?_) (fun c_1 => ?_)
  · replace hf := if_t c_1 hf
    refine z_aload_n C 0 dX6_become_15 rfl rfl ?_
    refine z_ldc C dX6_become_16 q1484 ?_
    obtain ⟨r_2, σ_4, e_3, hf⟩ := bd_ hf
    refine z_calli C (rest := []) (av := (.ref (w.2.2 0) :: [.int (-1000000001)])) (zPay.of q1488 q83) (fun H ls hH h2 => zInv_V C (As := [.int (-1000000001)]) (rest := []) (ci := 6) (T := TX6) (N := 24) rfl (zSee.fix ly_m0) hH q1485 q1487 qs32 (Or.inl rfl) q1488 mh_X6 np_X6_finding dX6_become_18) (tX6_finding l w e_3) (Nat.le_of_ble_eq_true rfl) (Nat.le_of_ble_eq_true rfl) ?_
    obtain ⟨rfl, rfl⟩ := fin_ hf
    exact z_iret C rfl dX6_become_21
  · replace hf := if_f c_1 hf
    refine z_iload_n C 2 dX6_become_8 rfl rfl ?_
    refine z_calli C (rest := []) (av := [.int p2]) (zPay.of q1649 q83) (fun H ls hH h2 => zInv_S C (As := [.int p2]) (rest := []) q1647 q1648 q83 (Or.inl rfl) q1649 mh_X6 np_X6_isKindM dX6_become_9) (tX6_isKindM l w zLm σ p2) (Nat.le_of_ble_eq_true rfl) (Nat.le_of_ble_eq_true rfl) ?_
    refine z_if_ne C 22 dX6_become_12 (by decide) (fun c_5 => ?_) (fun c_5 => ?_)
    · replace hf := if_f c_5 hf
      refine z_aload_n C 0 dX6_become_22 rfl rfl ?_
      refine z_getR C ly_m0 (Cn := RX6) (T := TX6) (N := 24) rfl in_X6 0 (by decide) q1404 (Or.inl rfl) rfl dX6_become_23 ?_
      refine z_iload_n C 1 dX6_become_26 rfl rfl ?_
      refine z_iconst C 1 dX6_become_27 (by decide) ?_
      refine z_calli C (rest := [.ref (w.2.2 1)]) (av := [.int p1, .int 1]) (zPay.of q1631 q83) (fun H ls hH h2 => zInv_S C (As := [.int p1, .int 1]) (rest := [.ref (w.2.2 1)]) q1629 q1630 q83 (Or.inl rfl) q1631 mh_X6 np_X6_shipAt dX6_become_28) (tX6_shipAt l w zLm σ p1 1) (Nat.le_of_ble_eq_true rfl) (Nat.le_of_ble_eq_true rfl) ?_
      refine z_iload_n C 2 dX6_become_31 rfl rfl ?_
      refine z_bipush C 10 dX6_become_32 (by decide) ?_
      refine z_irem C dX6_become_34 (by decide) ?_
      obtain ⟨v_6, ev_6, hf⟩ := nmo_ hf
      refine z_top ev_6 ?_
      obtain ⟨g_7, hf⟩ := gd_ hf
      refine z_iastore C ly_m1 g_7 dX6_become_35 ?_
      refine z_aload_n C 0 dX6_become_36 rfl rfl ?_
      refine z_iload_n C 1 dX6_become_37 rfl rfl ?_
      refine z_iconst C 0 dX6_become_38 (by decide) ?_
      refine z_calli C (rest := [.ref (w.2.2 0)]) (av := [.int p1, .int 0]) (zPay.of q1631 q83) (fun H ls hH h2 => zInv_S C (As := [.int p1, .int 0]) (rest := [.ref (w.2.2 0)]) q1629 q1630 q83 (Or.inl rfl) q1631 mh_X6 np_X6_shipAt dX6_become_39) (tX6_shipAt l w zLm (sI σ 1 ((fX6_shipAt p1 1).toNatClampNeg) v_6) p1 0) (Nat.le_of_ble_eq_true rfl) (Nat.le_of_ble_eq_true rfl) ?_
      refine z_iload_n C 2 dX6_become_42 rfl rfl ?_
      refine z_bipush C 10 dX6_become_43 (by decide) ?_
      refine z_idiv C dX6_become_45 (by decide) ?_
      obtain ⟨r_8, σ_10, e_9, hf⟩ := bd_ hf
      refine z_calli C (rest := []) (av := (.ref (w.2.2 0) :: [.int (fX6_shipAt p1 0), .int (p2 / 10)])) (zPay.of q1403 q83) (fun H ls hH h2 => zInv_V C (As := [.int (fX6_shipAt p1 0), .int (p2 / 10)]) (rest := []) (ci := 6) (T := TX6) (N := 24) rfl (zSee.fix ly_m0) hH q1400 q1402 qs31 (Or.inl rfl) q1403 mh_X6 np_X6_turn dX6_become_46) (tX6_turn l w e_9) (Nat.le_of_ble_eq_true rfl) (Nat.le_of_ble_eq_true rfl) ?_
      obtain ⟨rfl, rfl⟩ := fin_ hf
      exact z_iret C rfl dX6_become_49
    · replace hf := if_t c_5 hf
      refine z_aload_n C 0 dX6_become_15 rfl rfl ?_
      refine z_ldc C dX6_become_16 q1484 ?_
      obtain ⟨r_11, σ_13, e_12, hf⟩ := bd_ hf
      refine z_calli C (rest := []) (av := (.ref (w.2.2 0) :: [.int (-1000000001)])) (zPay.of q1488 q83) (fun H ls hH h2 => zInv_V C (As := [.int (-1000000001)]) (rest := []) (ci := 6) (T := TX6) (N := 24) rfl (zSee.fix ly_m0) hH q1485 q1487 qs32 (Or.inl rfl) q1488 mh_X6 np_X6_finding dX6_become_18) (tX6_finding l w e_12) (Nat.le_of_ble_eq_true rfl) (Nat.le_of_ble_eq_true rfl) ?_
      obtain ⟨rfl, rfl⟩ := fin_ hf
      exact z_iret C rfl dX6_become_21
def fX6_above (p1 : Int32) : Int32 := nm (if p1 = 0 then (-1) else (if p1 = 4 then 1 else (if p1 = 5 then 2 else (if p1 = 6 then 3 else 0)))) (fun (j_1 : Int32) => j_1)
set_option maxHeartbeats 4000000 in
set_option maxRecDepth 100000 in
theorem tX6_above (l : Launch) (w : ZW) (L : ZL) (σ : ZS) (p1 : Int32) : zC l w L yX6_above (ws_ yX6_above cX6_above 1 (some .int)) 0 0 [.int p1] σ (.returned (some (.int (fX6_above p1)))) σ := by
  obtain ⟨r, hf⟩ : ∃ r, r = fX6_above p1 := ⟨_, rfl⟩
  rw [← hf]
  refine zC.of (plainFor_of_name (by decide)) (Nat.le_of_ble_eq_true rfl) ?_
  intro p e s m args below meth c C hnm
  show Z p l e _ s m args below meth c _ w _ _ 1 σ 0 [(0, .int p1)] []
  unfold fX6_above at hf
  refine z_iload_n C 0 dX6_above_0 rfl rfl ?_
  obtain ⟨j_1, ej_1, hf⟩ := nmp_ hf
  have hjj_1 : Z p l e (zRm 0 0 σ) s m args below meth c (zQ below w L σ (.returned (some (.int r))) σ args s) w L (zA w L σ) 1 σ 37 [(0, .int p1)] [.int j_1] := by
    subst hf
    exact z_iret C rfl dX6_above_37
  replace hf := ej_1
  refine z_if_ne C 8 dX6_above_1 (by decide) (fun c_2 => ?_) (fun c_2 => ?_)
  · replace hf := ifp_f c_2 hf
    refine z_iload_n C 0 dX6_above_8 rfl rfl ?_
    refine z_iconst C 4 dX6_above_9 (by decide) ?_
    refine z_icmp_ne C 17 dX6_above_10 (by decide) (fun c_3 => ?_) (fun c_3 => ?_)
    · replace hf := ifp_f c_3 hf
      refine z_iload_n C 0 dX6_above_17 rfl rfl ?_
      refine z_iconst C 5 dX6_above_18 (by decide) ?_
      refine z_icmp_ne C 26 dX6_above_19 (by decide) (fun c_4 => ?_) (fun c_4 => ?_)
      · replace hf := ifp_f c_4 hf
        refine z_iload_n C 0 dX6_above_26 rfl rfl ?_
        refine z_bipush C 6 dX6_above_27 (by decide) ?_
        refine z_icmp_ne C 36 dX6_above_29 (by decide) (fun c_5 => ?_) (fun c_5 => ?_)
        · replace hf := ifp_f c_5 hf
          refine z_iconst C 0 dX6_above_36 (by decide) ?_
          subst hf
          exact hjj_1
        · replace hf := ifp_t c_5 hf
          refine z_iconst C 3 dX6_above_32 (by decide) ?_
          refine z_goto C 37 dX6_above_33 (by decide) ?_
          subst hf
          exact hjj_1
      · replace hf := ifp_t c_4 hf
        refine z_iconst C 2 dX6_above_22 (by decide) ?_
        refine z_goto C 37 dX6_above_23 (by decide) ?_
        subst hf
        exact hjj_1
    · replace hf := ifp_t c_3 hf
      refine z_iconst C 1 dX6_above_13 (by decide) ?_
      refine z_goto C 37 dX6_above_14 (by decide) ?_
      subst hf
      exact hjj_1
  · replace hf := ifp_t c_2 hf
    refine z_iconst C (-1) dX6_above_4 (by decide) ?_
    refine z_goto C 37 dX6_above_5 (by decide) ?_
    subst hf
    exact hjj_1
def fX6_bits_L4 (y0 : Int32) : Nat → Int32 → Int32 → Option (Int32 × Int32)
  | 0, _, _ => none
  | n + 1, y1, y2 => if y2 = 0 then (some (y1, y2)) else (nm (y1 + 1) (fun (x1_5 : Int32) => nm (y2 &&& (y2 - 1)) (fun (x2_6 : Int32) => fX6_bits_L4 y0 n x1_5 x2_6)))
def fX6_bits (σ : ZS) (p1 : Int32) : Option Int32 := bo (fX6_bits_L4 p1 10000 0 p1) (fun uu9 => some (uu9.1))
set_option maxHeartbeats 4000000 in
set_option maxRecDepth 100000 in
theorem lfX6_bits_L4 {p : Program} {l : Launch} {e : Env} {R : Room} {s : State} {m : MethodId} {args : Array Value} {below : List Frame} {meth : Method} {c : Code} {Q : State → Prop} {w : ZW} {A : Nat → Prop} {ret : Option FieldType} {hh : List (Nat × Nat × Nat × Nat)} (C : zCx p s m args meth c w zLm A 3 cX6_bits RX6 ret hh) (hfr : 0 ≤ R.frames) (hlo : 0 ≤ R.locals) (σ : ZS) (y0 : Int32) {z1 : Int32} {z2 : Int32} (hk : Z p l e R s m args below meth c Q w zLm A 3 σ 20 [(0, .int y0), (1, .int z1), (2, .int z2)] []) : ∀ (n : Nat) (y1 : Int32) (y2 : Int32), fX6_bits_L4 y0 n y1 y2 = some (z1, z2) → Z p l e R s m args below meth c Q w zLm A 3 σ 4 [(0, .int y0), (1, .int y1), (2, .int y2)] [] := by
  intro n
  induction n with
  | zero => intro y1 y2 hf; exact none_ hf
  | succ n ih =>
    intro y1 y2 hf
    rw [fX6_bits_L4] at hf
    refine z_iload_n C 2 dX6_bits_4 rfl rfl ?_
    refine z_if_eq C 20 dX6_bits_5 (by decide) (fun c_4 => ?_) (fun c_4 => ?_)
    · replace hf := if_t c_4 hf
      have hf1 := fino_ hf
      simp only [Prod.mk.injEq] at hf1
      obtain ⟨rfl, rfl⟩ := hf1
      exact hk
    · replace hf := if_f c_4 hf
      obtain ⟨x1_5, ex1_5, hf⟩ := nmo_ hf
      refine z_iinc C x1_5 1 dX6_bits_8 rfl (by rw [ex1_5]; rfl) (by decide) rfl (lv' := [(1, .int x1_5), (0, .int y0), (2, .int y2)]) ?_
      refine z_iload_n C 2 dX6_bits_11 rfl rfl ?_
      refine z_iload_n C 2 dX6_bits_12 rfl rfl ?_
      refine z_iconst C 1 dX6_bits_13 (by decide) ?_
      refine z_isub C dX6_bits_14 ?_
      refine z_iand C dX6_bits_15 ?_
      obtain ⟨x2_6, ex2_6, hf⟩ := nmo_ hf
      refine z_top ex2_6 ?_
      refine z_istore_n C dX6_bits_16 rfl (by decide) rfl (lv' := [(2, .int x2_6), (1, .int x1_5), (0, .int y0)]) ?_
      refine z_goto C 4 dX6_bits_17 (by decide) ?_
      exact z_lv [2, 1, 0] rfl (ih _ _ hf)
set_option maxHeartbeats 4000000 in
set_option maxRecDepth 100000 in
theorem tX6_bits (l : Launch) (w : ZW) {σ : ZS} {p1 : Int32} {r : Int32} (hf : fX6_bits σ p1 = some r) : zC l w zLm yX6_bits (ws_ yX6_bits cX6_bits 3 (some .int)) 0 0 [.int p1] σ (.returned (some (.int r))) σ := by
  refine zC.of (plainFor_of_name (by decide)) (Nat.le_of_ble_eq_true rfl) ?_
  intro p e s m args below meth c C hnm
  show Z p l e _ s m args below meth c _ w _ _ 3 σ 0 [(0, .int p1)] []
  unfold fX6_bits at hf
  refine z_iconst C 0 dX6_bits_0 (by decide) ?_
  refine z_istore_n C dX6_bits_1 rfl (by decide) rfl (lv' := [(1, .int 0), (0, .int p1)]) ?_
  refine z_iload_n C 1 dX6_bits_2 rfl rfl ?_
  refine z_istore_n C dX6_bits_3 rfl (by decide) rfl (lv' := [(2, .int p1), (1, .int 0), (0, .int p1)]) ?_
  obtain ⟨⟨x1_7, x2_8⟩, e_10, hf⟩ := bo_ hf
  try dsimp only at hf
  refine z_lv (lv' := [(0, .int p1), (1, .int 0), (2, .int p1)]) [2, 1, 0] rfl ?_
  refine lfX6_bits_L4 C (Nat.le_of_ble_eq_true rfl) (Nat.le_of_ble_eq_true rfl) σ p1 ?_ _ _ _ e_10
  refine z_iload_n C 1 dX6_bits_20 rfl rfl ?_
  obtain rfl := fino_ hf
  exact z_iret C rfl dX6_bits_21
def fX6_drawn (σ : ZS) : Option (Int32 × ZS) := nm (((σ.1 1 (6 : Int32).toNatClampNeg) * 1103515245) + 12345) (fun (v_1 : Int32) => some ((((sI σ 1 ((6 : Int32).toNatClampNeg) v_1).1 1 (6 : Int32).toNatClampNeg).toUInt32 >>> ((8 : Int32).toUInt32 &&& Int32.toUInt32 31)).toInt32, sI σ 1 ((6 : Int32).toNatClampNeg) v_1))
set_option maxHeartbeats 4000000 in
set_option maxRecDepth 100000 in
theorem tX6_drawn (l : Launch) (w : ZW) {σ σ' : ZS} {r : Int32} (hf : fX6_drawn σ = some (r, σ')) : zC l w zLm yX6_drawn (ws_ yX6_drawn cX6_drawn 1 (some .int)) 0 0 [.ref (w.2.2 0)] σ (.returned (some (.int r))) σ' := by
  refine zC.of (plainFor_of_name (by decide)) (Nat.le_of_ble_eq_true rfl) ?_
  intro p e s m args below meth c C hnm
  show Z p l e _ s m args below meth c _ w _ _ 1 σ 0 [(0, .ref (w.2.2 0))] []
  unfold fX6_drawn at hf
  refine z_aload_n C 0 dX6_drawn_0 rfl rfl ?_
  refine z_getR C ly_m0 (Cn := RX6) (T := TX6) (N := 24) rfl in_X6 0 (by decide) q1404 (Or.inl rfl) rfl dX6_drawn_1 ?_
  refine z_bipush C 6 dX6_drawn_4 (by decide) ?_
  refine z_aload_n C 0 dX6_drawn_6 rfl rfl ?_
  refine z_getR C ly_m0 (Cn := RX6) (T := TX6) (N := 24) rfl in_X6 0 (by decide) q1404 (Or.inl rfl) rfl dX6_drawn_7 ?_
  refine z_bipush C 6 dX6_drawn_10 (by decide) ?_
  refine z_ialoadF C ly_m1 (by decide) dX6_drawn_12 ?_
  refine z_ldc C dX6_drawn_13 q1719 ?_
  refine z_imul C dX6_drawn_15 ?_
  refine z_sipush C 12345 dX6_drawn_16 (by decide) ?_
  refine z_iadd C dX6_drawn_19 ?_
  obtain ⟨v_1, ev_1, hf⟩ := nmo_ hf
  refine z_top ev_1 ?_
  refine z_iastore C ly_m1 (by decide) dX6_drawn_20 ?_
  refine z_aload_n C 0 dX6_drawn_21 rfl rfl ?_
  refine z_getR C ly_m0 (Cn := RX6) (T := TX6) (N := 24) rfl in_X6 0 (by decide) q1404 (Or.inl rfl) rfl dX6_drawn_22 ?_
  refine z_bipush C 6 dX6_drawn_25 (by decide) ?_
  refine z_ialoadF C ly_m1 (by decide) dX6_drawn_27 ?_
  refine z_bipush C 8 dX6_drawn_28 (by decide) ?_
  refine z_iushr C dX6_drawn_30 ?_
  obtain ⟨rfl, rfl⟩ := fin_ hf
  exact z_iret C rfl dX6_drawn_31
def fX6_isBehind (p1 : Int32) : Int32 := fX6_within p1 0 60
set_option maxHeartbeats 4000000 in
set_option maxRecDepth 100000 in
theorem tX6_isBehind (l : Launch) (w : ZW) (L : ZL) (σ : ZS) (p1 : Int32) : zC l w L yX6_isBehind (ws_ yX6_isBehind cX6_isBehind 1 (some .boolean)) 1 14 [.int p1] σ (.returned (some (.int (fX6_isBehind p1)))) σ := by
  obtain ⟨r, hf⟩ : ∃ r, r = fX6_isBehind p1 := ⟨_, rfl⟩
  rw [← hf]
  refine zC.of (plainFor_of_name (by decide)) (Nat.le_of_ble_eq_true rfl) ?_
  intro p e s m args below meth c C hnm
  show Z p l e _ s m args below meth c _ w _ _ 1 σ 0 [(0, .int p1)] []
  unfold fX6_isBehind at hf
  refine z_iload_n C 0 dX6_isBehind_0 rfl rfl ?_
  refine z_iconst C 0 dX6_isBehind_1 (by decide) ?_
  refine z_bipush C 60 dX6_isBehind_2 (by decide) ?_
  refine z_calli C (rest := []) (av := [.int p1, .int 0, .int 60]) (zPay.of q1483 q83) (fun H ls hH h2 => zInv_S C (As := [.int p1, .int 0, .int 60]) (rest := []) q1481 q1482 q83 (Or.inl rfl) q1483 mh_X6 np_X6_within dX6_isBehind_4) (tX6_within l w L σ p1 0 60) (Nat.le_of_ble_eq_true rfl) (Nat.le_of_ble_eq_true rfl) ?_
  subst hf
  exact z_iret C (b01 (bX6_within p1 0 60)) dX6_isBehind_7
theorem bX6_isBehind (p1 : Int32) : fX6_isBehind p1 = 0 ∨ fX6_isBehind p1 = 1 := by
  exact bX6_within p1 0 60
def fX6_copy_L2 (q1 : Nat) (q2 : Nat) : Nat → Int32 → ZS → Option ((Int32) × ZS)
  | 0, _, _ => none
  | n + 1, y2, σ => if 242 ≤ y2 then (some (y2, σ)) else (gd (¬ (y2 < 0 ∨ 242 ≤ y2.toNatClampNeg)) (nm (σ.1 q1 y2.toNatClampNeg) (fun (v_3 : Int32) => nm (y2 + 1) (fun (x2_4 : Int32) => fX6_copy_L2 q1 q2 n x2_4 (sI σ q2 (y2.toNatClampNeg) v_3)))))
def fX6_copy (σ : ZS) (q1 : Nat) (q2 : Nat) : Option (Unit × ZS) := bd (fX6_copy_L2 q1 q2 10000 0 σ) (fun x2_5 σ_6 => some ((), σ_6))
set_option maxHeartbeats 4000000 in
set_option maxRecDepth 100000 in
theorem lfX6_copy_L2 {p : Program} {l : Launch} {e : Env} {R : Room} {s : State} {m : MethodId} {args : Array Value} {below : List Frame} {meth : Method} {c : Code} {Q : State → Prop} {w : ZW} {A : Nat → Prop} {ret : Option FieldType} {hh : List (Nat × Nat × Nat × Nat)} (C : zCx p s m args meth c w zLm A 3 cX6_copy RX6 ret hh) (hfr : 0 ≤ R.frames) (hlo : 0 ≤ R.locals) {q1 : Nat} (hq1 : zLm q1 = some (.inl (0, 242, false))) {q2 : Nat} (hq2 : zLm q2 = some (.inl (0, 242, false))) {z2 : Int32} {σ' : ZS} (hk : Z p l e R s m args below meth c Q w zLm A 3 σ' 21 [(0, .ref (w.2.2 q1)), (1, .ref (w.2.2 q2)), (2, .int z2)] []) : ∀ (n : Nat) (y2 : Int32) (σ : ZS), fX6_copy_L2 q1 q2 n y2 σ = some (z2, σ') → Z p l e R s m args below meth c Q w zLm A 3 σ 2 [(0, .ref (w.2.2 q1)), (1, .ref (w.2.2 q2)), (2, .int y2)] [] := by
  intro n
  induction n with
  | zero => intro y2 σ hf; exact none_ hf
  | succ n ih =>
    intro y2 σ hf
    rw [fX6_copy_L2] at hf
    refine z_iload_n C 2 dX6_copy_2 rfl rfl ?_
    refine z_sipush C 242 dX6_copy_3 (by decide) ?_
    refine z_icmp_ge C 21 dX6_copy_6 (by decide) (fun c_1 => ?_) (fun c_1 => ?_)
    · replace hf := if_t c_1 hf
      obtain ⟨rfl, rfl⟩ := fin_ hf
      exact hk
    · replace hf := if_f c_1 hf
      refine z_aload_n C 1 dX6_copy_9 rfl rfl ?_
      refine z_iload_n C 2 dX6_copy_10 rfl rfl ?_
      refine z_aload_n C 0 dX6_copy_11 rfl rfl ?_
      refine z_iload_n C 2 dX6_copy_12 rfl rfl ?_
      obtain ⟨g_2, hf⟩ := gd_ hf
      refine z_ialoadF C hq1 g_2 dX6_copy_13 ?_
      obtain ⟨v_3, ev_3, hf⟩ := nmo_ hf
      refine z_top ev_3 ?_
      refine z_iastore C hq2 g_2 dX6_copy_14 ?_
      obtain ⟨x2_4, ex2_4, hf⟩ := nmo_ hf
      refine z_iinc C x2_4 2 dX6_copy_15 rfl (by rw [ex2_4]; rfl) (by decide) rfl (lv' := [(2, .int x2_4), (0, .ref (w.2.2 q1)), (1, .ref (w.2.2 q2))]) ?_
      refine z_goto C 2 dX6_copy_18 (by decide) ?_
      exact z_lv [1, 2, 0] rfl (ih _ _ hf)
set_option maxHeartbeats 4000000 in
set_option maxRecDepth 100000 in
theorem tX6_copy (l : Launch) (w : ZW) {σ σ' : ZS} {q1 : Nat} {q2 : Nat} (hq1 : zLm q1 = some (.inl (0, 242, false))) (hq2 : zLm q2 = some (.inl (0, 242, false))) (hf : fX6_copy σ q1 q2 = some ((), σ')) : zC l w zLm yX6_copy (ws_ yX6_copy cX6_copy 3 none) 0 0 [.ref (w.2.2 q1), .ref (w.2.2 q2)] σ (.returned none) σ' := by
  refine zC.of (plainFor_of_name (by decide)) (Nat.le_of_ble_eq_true rfl) ?_
  intro p e s m args below meth c C hnm
  show Z p l e _ s m args below meth c _ w _ _ 3 σ 0 [(0, .ref (w.2.2 q1)), (1, .ref (w.2.2 q2))] []
  unfold fX6_copy at hf
  refine z_iconst C 0 dX6_copy_0 (by decide) ?_
  refine z_istore_n C dX6_copy_1 rfl (by decide) rfl (lv' := [(2, .int 0), (0, .ref (w.2.2 q1)), (1, .ref (w.2.2 q2))]) ?_
  obtain ⟨x2_5, σ_6, e_7, hf⟩ := bd_ hf
  refine z_lv (lv' := [(0, .ref (w.2.2 q1)), (1, .ref (w.2.2 q2)), (2, .int 0)]) [1, 2, 0] rfl ?_
  refine lfX6_copy_L2 C (Nat.le_of_ble_eq_true rfl) (Nat.le_of_ble_eq_true rfl) hq1 hq2 ?_ _ _ _ e_7
  obtain ⟨-, rfl⟩ := fin_ hf
  exact z_vret C dX6_copy_21
def fX6_putBack (σ : ZS) (p1 : Int32) : Option (Int32 × ZS) := bd (fX6_copy σ 3 1) (fun _ σ_3 => some (p1, σ_3))
set_option maxHeartbeats 4000000 in
set_option maxRecDepth 100000 in
theorem tX6_putBack (l : Launch) (w : ZW) {σ σ' : ZS} {p1 : Int32} {r : Int32} (hf : fX6_putBack σ p1 = some (r, σ')) : zC l w zLm yX6_putBack (ws_ yX6_putBack cX6_putBack 2 (some .int)) 1 14 [.ref (w.2.2 0), .int p1] σ (.returned (some (.int r))) σ' := by
  refine zC.of (plainFor_of_name (by decide)) (Nat.le_of_ble_eq_true rfl) ?_
  intro p e s m args below meth c C hnm
  show Z p l e _ s m args below meth c _ w _ _ 2 σ 0 [(0, .ref (w.2.2 0)), (1, .int p1)] []
  unfold fX6_putBack at hf
  refine z_aload_n C 0 dX6_putBack_0 rfl rfl ?_
  refine z_getR C ly_m0 (Cn := RX6) (T := TX6) (N := 24) rfl in_X6 2 (by decide) q1406 (Or.inl rfl) rfl dX6_putBack_1 ?_
  refine z_aload_n C 0 dX6_putBack_4 rfl rfl ?_
  refine z_getR C ly_m0 (Cn := RX6) (T := TX6) (N := 24) rfl in_X6 0 (by decide) q1404 (Or.inl rfl) rfl dX6_putBack_5 ?_
  obtain ⟨⟨⟩, σ_3, e_2, hf⟩ := bd_ hf
  refine z_callv C (rest := []) (av := [.ref (w.2.2 3), .ref (w.2.2 1)]) (zPay.of q1729 q83) (fun H ls hH h2 => zInv_S C (As := [.ref (w.2.2 3), .ref (w.2.2 1)]) (rest := []) q1727 q1728 q83 (Or.inl rfl) q1729 mh_X6 np_X6_copy dX6_putBack_8) (tX6_copy l w ly_m3 ly_m1 e_2) (Nat.le_of_ble_eq_true rfl) (Nat.le_of_ble_eq_true rfl) ?_
  refine z_iload_n C 1 dX6_putBack_11 rfl rfl ?_
  obtain ⟨rfl, rfl⟩ := fin_ hf
  exact z_iret C rfl dX6_putBack_12
def fX6_isSheet (p1 : Int32) : Int32 := fX6_within p1 0 3
set_option maxHeartbeats 4000000 in
set_option maxRecDepth 100000 in
theorem tX6_isSheet (l : Launch) (w : ZW) (L : ZL) (σ : ZS) (p1 : Int32) : zC l w L yX6_isSheet (ws_ yX6_isSheet cX6_isSheet 1 (some .boolean)) 1 14 [.int p1] σ (.returned (some (.int (fX6_isSheet p1)))) σ := by
  obtain ⟨r, hf⟩ : ∃ r, r = fX6_isSheet p1 := ⟨_, rfl⟩
  rw [← hf]
  refine zC.of (plainFor_of_name (by decide)) (Nat.le_of_ble_eq_true rfl) ?_
  intro p e s m args below meth c C hnm
  show Z p l e _ s m args below meth c _ w _ _ 1 σ 0 [(0, .int p1)] []
  unfold fX6_isSheet at hf
  refine z_iload_n C 0 dX6_isSheet_0 rfl rfl ?_
  refine z_iconst C 0 dX6_isSheet_1 (by decide) ?_
  refine z_iconst C 3 dX6_isSheet_2 (by decide) ?_
  refine z_calli C (rest := []) (av := [.int p1, .int 0, .int 3]) (zPay.of q1483 q83) (fun H ls hH h2 => zInv_S C (As := [.int p1, .int 0, .int 3]) (rest := []) q1481 q1482 q83 (Or.inl rfl) q1483 mh_X6 np_X6_within dX6_isSheet_3) (tX6_within l w L σ p1 0 3) (Nat.le_of_ble_eq_true rfl) (Nat.le_of_ble_eq_true rfl) ?_
  subst hf
  exact z_iret C (b01 (bX6_within p1 0 3)) dX6_isSheet_6
theorem bX6_isSheet (p1 : Int32) : fX6_isSheet p1 = 0 ∨ fX6_isSheet p1 = 1 := by
  exact bX6_within p1 0 3
def fX6_seed (σ : ZS) (p1 : Int32) : Option (Int32 × ZS) := bd (fX6_turn σ 6 p1) (fun r_1 σ_3 => some (r_1, σ_3))
set_option maxHeartbeats 4000000 in
set_option maxRecDepth 100000 in
theorem tX6_seed (l : Launch) (w : ZW) {σ σ' : ZS} {p1 : Int32} {r : Int32} (hf : fX6_seed σ p1 = some (r, σ')) : zC l w zLm yX6_seed (ws_ yX6_seed cX6_seed 2 (some .int)) 1 15 [.ref (w.2.2 0), .int p1] σ (.returned (some (.int r))) σ' := by
  refine zC.of (plainFor_of_name (by decide)) (Nat.le_of_ble_eq_true rfl) ?_
  intro p e s m args below meth c C hnm
  show Z p l e _ s m args below meth c _ w _ _ 2 σ 0 [(0, .ref (w.2.2 0)), (1, .int p1)] []
  unfold fX6_seed at hf
  refine z_aload_n C 0 dX6_seed_0 rfl rfl ?_
  refine z_bipush C 6 dX6_seed_1 (by decide) ?_
  refine z_iload_n C 1 dX6_seed_3 rfl rfl ?_
  obtain ⟨r_1, σ_3, e_2, hf⟩ := bd_ hf
  refine z_calli C (rest := []) (av := (.ref (w.2.2 0) :: [.int 6, .int p1])) (zPay.of q1403 q83) (fun H ls hH h2 => zInv_V C (As := [.int 6, .int p1]) (rest := []) (ci := 6) (T := TX6) (N := 24) rfl (zSee.fix ly_m0) hH q1400 q1402 qs31 (Or.inl rfl) q1403 mh_X6 np_X6_turn dX6_seed_4) (tX6_turn l w e_2) (Nat.le_of_ble_eq_true rfl) (Nat.le_of_ble_eq_true rfl) ?_
  obtain ⟨rfl, rfl⟩ := fin_ hf
  exact z_iret C rfl dX6_seed_7
def fX6_ran (σ : ZS) (p1 : Int32) : Option (Unit × ZS) := bd (if 40 ≤ (σ.1 0 16) then (some ((), σ)) else (gd (¬ ((σ.1 0 16) < 0 ∨ 40 ≤ (σ.1 0 16).toNatClampNeg)) (nm (((sI σ 16 ((σ.1 0 16).toNatClampNeg) p1).1 0 16) + 1) (fun (f_5 : Int32) => some ((), sI (sI σ 16 ((σ.1 0 16).toNatClampNeg) p1) 0 16 f_5))))) (fun (_ : Unit) σ_1 => some ((), σ_1))
set_option maxHeartbeats 4000000 in
set_option maxRecDepth 100000 in
theorem tX6_ran (l : Launch) (w : ZW) {σ σ' : ZS} {p1 : Int32} (hf : fX6_ran σ p1 = some ((), σ')) : zC l w zLm yX6_ran (ws_ yX6_ran cX6_ran 2 none) 0 0 [.ref (w.2.2 0), .int p1] σ (.returned none) σ' := by
  refine zC.of (plainFor_of_name (by decide)) (Nat.le_of_ble_eq_true rfl) ?_
  intro p e s m args below meth c C hnm
  show Z p l e _ s m args below meth c _ w _ _ 2 σ 0 [(0, .ref (w.2.2 0)), (1, .int p1)] []
  unfold fX6_ran at hf
  refine z_aload_n C 0 dX6_ran_0 rfl rfl ?_
  refine z_getI C ly_m0 (Cn := RX6) (T := TX6) (N := 24) rfl in_X6 16 (by decide) q1420 (Or.inl rfl) rfl dX6_ran_1 ?_
  refine z_bipush C 40 dX6_ran_4 (by decide) ?_
  obtain ⟨⟨⟩, σ_1, e_2, hf⟩ := bd_ hf
  have hje_2 : Z p l e (zRm 0 0 σ) s m args below meth c (zQ below w zLm σ (.returned none) σ' args s) w zLm (zA w zLm σ) 2 σ_1 29 [(0, .ref (w.2.2 0)), (1, .int p1)] [] := by
    obtain ⟨-, rfl⟩ := fin_ hf
    exact z_vret C dX6_ran_29
  replace hf := e_2
  refine z_icmp_ge C 29 dX6_ran_6 (by decide) (fun c_3 => ?_) (fun c_3 => ?_)
  · replace hf := if_t c_3 hf
    obtain ⟨-, rfl⟩ := fin_ hf
    exact hje_2
  · replace hf := if_f c_3 hf
    refine z_aload_n C 0 dX6_ran_9 rfl rfl ?_
    refine z_getR C ly_m0 (Cn := RX6) (T := TX6) (N := 24) rfl in_X6 15 (by decide) q1419 (Or.inl rfl) rfl dX6_ran_10 ?_
    refine z_aload_n C 0 dX6_ran_13 rfl rfl ?_
    refine z_getI C ly_m0 (Cn := RX6) (T := TX6) (N := 24) rfl in_X6 16 (by decide) q1420 (Or.inl rfl) rfl dX6_ran_14 ?_
    refine z_iload_n C 1 dX6_ran_17 rfl rfl ?_
    obtain ⟨g_4, hf⟩ := gd_ hf
    refine z_iastore C ly_m16 g_4 dX6_ran_18 ?_
    refine z_aload_n C 0 dX6_ran_19 rfl rfl ?_
    refine z_dup C dX6_ran_20 rfl ?_
    refine z_getI C ly_m0 (Cn := RX6) (T := TX6) (N := 24) rfl in_X6 16 (by decide) q1420 (Or.inl rfl) rfl dX6_ran_21 ?_
    refine z_iconst C 1 dX6_ran_24 (by decide) ?_
    refine z_iadd C dX6_ran_25 ?_
    obtain ⟨f_5, ef_5, hf⟩ := nmo_ hf
    refine z_top ef_5 ?_
    refine z_putI C ly_m0 (k := 16) rfl (zPut C (Cn := RX6) (T := TX6) (N := 24) rfl in_X6 tyX6 tyX6_ok nmX6 16 (by decide) q1420 (Or.inl rfl) rfl rfl rfl (zFs_lt (Nat.le_of_ble_eq_true rfl)) dX6_ran_26) ?_
    obtain ⟨-, rfl⟩ := fin_ hf
    exact hje_2
def fX6_trace (σ : ZS) (p1 : Int32) : Option (Int32 × ZS) := bd (if (fX6_within p1 0 ((σ.1 0 16) - 1)) = 0 then (bd (fX6_finding σ (-1000000002)) (fun r_5 σ_7 => some (r_5, σ_7))) else (gd (¬ (p1 < 0 ∨ 40 ≤ p1.toNatClampNeg)) (some (σ.1 16 p1.toNatClampNeg, σ)))) (fun (j_1 : Int32) σ_2 => some (j_1, σ_2))
set_option maxHeartbeats 4000000 in
set_option maxRecDepth 100000 in
theorem tX6_trace (l : Launch) (w : ZW) {σ σ' : ZS} {p1 : Int32} {r : Int32} (hf : fX6_trace σ p1 = some (r, σ')) : zC l w zLm yX6_trace (ws_ yX6_trace cX6_trace 2 (some .int)) 1 14 [.ref (w.2.2 0), .int p1] σ (.returned (some (.int r))) σ' := by
  refine zC.of (plainFor_of_name (by decide)) (Nat.le_of_ble_eq_true rfl) ?_
  intro p e s m args below meth c C hnm
  show Z p l e _ s m args below meth c _ w _ _ 2 σ 0 [(0, .ref (w.2.2 0)), (1, .int p1)] []
  unfold fX6_trace at hf
  refine z_iload_n C 1 dX6_trace_0 rfl rfl ?_
  refine z_iconst C 0 dX6_trace_1 (by decide) ?_
  refine z_aload_n C 0 dX6_trace_2 rfl rfl ?_
  refine z_getI C ly_m0 (Cn := RX6) (T := TX6) (N := 24) rfl in_X6 16 (by decide) q1420 (Or.inl rfl) rfl dX6_trace_3 ?_
  refine z_iconst C 1 dX6_trace_6 (by decide) ?_
  refine z_isub C dX6_trace_7 ?_
  refine z_calli C (rest := []) (av := [.int p1, .int 0, .int ((σ.1 0 16) - 1)]) (zPay.of q1483 q83) (fun H ls hH h2 => zInv_S C (As := [.int p1, .int 0, .int ((σ.1 0 16) - 1)]) (rest := []) q1481 q1482 q83 (Or.inl rfl) q1483 mh_X6 np_X6_within dX6_trace_8) (tX6_within l w zLm σ p1 0 ((σ.1 0 16) - 1)) (Nat.le_of_ble_eq_true rfl) (Nat.le_of_ble_eq_true rfl) ?_
  obtain ⟨j_1, σ_2, e_3, hf⟩ := bd_ hf
  have hje_3 : Z p l e (zRm 1 14 σ) s m args below meth c (zQ below w zLm σ (.returned (some (.int r))) σ' args s) w zLm (zA w zLm σ) 2 σ_2 30 [(0, .ref (w.2.2 0)), (1, .int p1)] [.int j_1] := by
    obtain ⟨rfl, rfl⟩ := fin_ hf
    exact z_iret C rfl dX6_trace_30
  replace hf := e_3
  refine z_if_eq C 23 dX6_trace_11 (by decide) (fun c_4 => ?_) (fun c_4 => ?_)
  · replace hf := if_t c_4 hf
    refine z_aload_n C 0 dX6_trace_23 rfl rfl ?_
    refine z_ldc_w C dX6_trace_24 q1742 ?_
    obtain ⟨r_5, σ_7, e_6, hf⟩ := bd_ hf
    refine z_calli C (rest := []) (av := (.ref (w.2.2 0) :: [.int (-1000000002)])) (zPay.of q1488 q83) (fun H ls hH h2 => zInv_V C (As := [.int (-1000000002)]) (rest := []) (ci := 6) (T := TX6) (N := 24) rfl (zSee.fix ly_m0) hH q1485 q1487 qs32 (Or.inl rfl) q1488 mh_X6 np_X6_finding dX6_trace_27) (tX6_finding l w e_6) (Nat.le_of_ble_eq_true rfl) (Nat.le_of_ble_eq_true rfl) ?_
    obtain ⟨rfl, rfl⟩ := fin_ hf
    exact hje_3
  · replace hf := if_f c_4 hf
    refine z_aload_n C 0 dX6_trace_14 rfl rfl ?_
    refine z_getR C ly_m0 (Cn := RX6) (T := TX6) (N := 24) rfl in_X6 15 (by decide) q1419 (Or.inl rfl) rfl dX6_trace_15 ?_
    refine z_iload_n C 1 dX6_trace_18 rfl rfl ?_
    obtain ⟨g_8, hf⟩ := gd_ hf
    refine z_ialoadF C ly_m16 g_8 dX6_trace_19 ?_
    refine z_goto C 30 dX6_trace_20 (by decide) ?_
    obtain ⟨rfl, rfl⟩ := fin_ hf
    exact hje_3
def fX6_sheet_L93 (y1 : Int32) (y2 : Int32) (y3 : Int32) : Nat → Int32 → ZS → Option ((Int32) × ZS)
  | 0, _, _ => none
  | n + 1, y4, σ => if 40 ≤ y4 then (some (y4, σ)) else (gd (¬ (((40 * y1) + y4) < 0 ∨ 160 ≤ ((40 * y1) + y4).toNatClampNeg)) (nm (y4 + 1) (fun (x4_12 : Int32) => fX6_sheet_L93 y1 y2 y3 n x4_12 (sI σ 23 (((40 * y1) + y4).toNatClampNeg) 0))))
def fX6_sheet (σ : ZS) (p1 : Int32) (p2 : Int32) (p3 : Int32) : Option (Int32 × ZS) := if (fX6_isSheet p1) = 0 then (bd (fX6_finding σ (-1000000001)) (fun r_2 σ_4 => some (r_2, σ_4))) else (if p2 = 0 then (if p2 = 0 then (if p2 = 0 then (gd (¬ (p1 < 0 ∨ 4 ≤ p1.toNatClampNeg)) (nm (if p2 = 0 then 0 else p3) (fun (j_9 : Int32) => bd (fX6_sheet_L93 p1 p2 p3 10000 0 (sI (sI σ 21 (p1.toNatClampNeg) p2) 22 (p1.toNatClampNeg) j_9)) (fun x4_13 σ_14 => some (1, σ_14))))) else (if p3 ≤ 40 then (gd (¬ (p1 < 0 ∨ 4 ≤ p1.toNatClampNeg)) (nm (if p2 = 0 then 0 else p3) (fun (j_19 : Int32) => bd (fX6_sheet_L93 p1 p2 p3 10000 0 (sI (sI σ 21 (p1.toNatClampNeg) p2) 22 (p1.toNatClampNeg) j_19)) (fun x4_20 σ_21 => some (1, σ_21))))) else (bd (fX6_finding σ (-1000000001)) (fun r_24 σ_26 => some (r_24, σ_26))))) else (if 0 ≤ p3 then (if p2 = 0 then (gd (¬ (p1 < 0 ∨ 4 ≤ p1.toNatClampNeg)) (nm (if p2 = 0 then 0 else p3) (fun (j_30 : Int32) => bd (fX6_sheet_L93 p1 p2 p3 10000 0 (sI (sI σ 21 (p1.toNatClampNeg) p2) 22 (p1.toNatClampNeg) j_30)) (fun x4_31 σ_32 => some (1, σ_32))))) else (if p3 ≤ 40 then (gd (¬ (p1 < 0 ∨ 4 ≤ p1.toNatClampNeg)) (nm (if p2 = 0 then 0 else p3) (fun (j_37 : Int32) => bd (fX6_sheet_L93 p1 p2 p3 10000 0 (sI (sI σ 21 (p1.toNatClampNeg) p2) 22 (p1.toNatClampNeg) j_37)) (fun x4_38 σ_39 => some (1, σ_39))))) else (bd (fX6_finding σ (-1000000001)) (fun r_42 σ_44 => some (r_42, σ_44))))) else (bd (fX6_finding σ (-1000000003)) (fun r_45 σ_47 => some (r_45, σ_47))))) else (if p2 = 8 then (if p2 = 0 then (if p2 = 0 then (gd (¬ (p1 < 0 ∨ 4 ≤ p1.toNatClampNeg)) (nm (if p2 = 0 then 0 else p3) (fun (j_52 : Int32) => bd (fX6_sheet_L93 p1 p2 p3 10000 0 (sI (sI σ 21 (p1.toNatClampNeg) p2) 22 (p1.toNatClampNeg) j_52)) (fun x4_53 σ_54 => some (1, σ_54))))) else (if p3 ≤ 40 then (gd (¬ (p1 < 0 ∨ 4 ≤ p1.toNatClampNeg)) (nm (if p2 = 0 then 0 else p3) (fun (j_59 : Int32) => bd (fX6_sheet_L93 p1 p2 p3 10000 0 (sI (sI σ 21 (p1.toNatClampNeg) p2) 22 (p1.toNatClampNeg) j_59)) (fun x4_60 σ_61 => some (1, σ_61))))) else (bd (fX6_finding σ (-1000000001)) (fun r_64 σ_66 => some (r_64, σ_66))))) else (if 0 ≤ p3 then (if p2 = 0 then (gd (¬ (p1 < 0 ∨ 4 ≤ p1.toNatClampNeg)) (nm (if p2 = 0 then 0 else p3) (fun (j_70 : Int32) => bd (fX6_sheet_L93 p1 p2 p3 10000 0 (sI (sI σ 21 (p1.toNatClampNeg) p2) 22 (p1.toNatClampNeg) j_70)) (fun x4_71 σ_72 => some (1, σ_72))))) else (if p3 ≤ 40 then (gd (¬ (p1 < 0 ∨ 4 ≤ p1.toNatClampNeg)) (nm (if p2 = 0 then 0 else p3) (fun (j_77 : Int32) => bd (fX6_sheet_L93 p1 p2 p3 10000 0 (sI (sI σ 21 (p1.toNatClampNeg) p2) 22 (p1.toNatClampNeg) j_77)) (fun x4_78 σ_79 => some (1, σ_79))))) else (bd (fX6_finding σ (-1000000001)) (fun r_82 σ_84 => some (r_82, σ_84))))) else (bd (fX6_finding σ (-1000000003)) (fun r_85 σ_87 => some (r_85, σ_87))))) else (if p2 = 16 then (if p2 = 0 then (if p2 = 0 then (gd (¬ (p1 < 0 ∨ 4 ≤ p1.toNatClampNeg)) (nm (if p2 = 0 then 0 else p3) (fun (j_92 : Int32) => bd (fX6_sheet_L93 p1 p2 p3 10000 0 (sI (sI σ 21 (p1.toNatClampNeg) p2) 22 (p1.toNatClampNeg) j_92)) (fun x4_93 σ_94 => some (1, σ_94))))) else (if p3 ≤ 40 then (gd (¬ (p1 < 0 ∨ 4 ≤ p1.toNatClampNeg)) (nm (if p2 = 0 then 0 else p3) (fun (j_99 : Int32) => bd (fX6_sheet_L93 p1 p2 p3 10000 0 (sI (sI σ 21 (p1.toNatClampNeg) p2) 22 (p1.toNatClampNeg) j_99)) (fun x4_100 σ_101 => some (1, σ_101))))) else (bd (fX6_finding σ (-1000000001)) (fun r_104 σ_106 => some (r_104, σ_106))))) else (if 0 ≤ p3 then (if p2 = 0 then (gd (¬ (p1 < 0 ∨ 4 ≤ p1.toNatClampNeg)) (nm (if p2 = 0 then 0 else p3) (fun (j_110 : Int32) => bd (fX6_sheet_L93 p1 p2 p3 10000 0 (sI (sI σ 21 (p1.toNatClampNeg) p2) 22 (p1.toNatClampNeg) j_110)) (fun x4_111 σ_112 => some (1, σ_112))))) else (if p3 ≤ 40 then (gd (¬ (p1 < 0 ∨ 4 ≤ p1.toNatClampNeg)) (nm (if p2 = 0 then 0 else p3) (fun (j_117 : Int32) => bd (fX6_sheet_L93 p1 p2 p3 10000 0 (sI (sI σ 21 (p1.toNatClampNeg) p2) 22 (p1.toNatClampNeg) j_117)) (fun x4_118 σ_119 => some (1, σ_119))))) else (bd (fX6_finding σ (-1000000001)) (fun r_122 σ_124 => some (r_122, σ_124))))) else (bd (fX6_finding σ (-1000000003)) (fun r_125 σ_127 => some (r_125, σ_127))))) else (if p2 = 32 then (if p2 = 0 then (if p2 = 0 then (gd (¬ (p1 < 0 ∨ 4 ≤ p1.toNatClampNeg)) (nm (if p2 = 0 then 0 else p3) (fun (j_132 : Int32) => bd (fX6_sheet_L93 p1 p2 p3 10000 0 (sI (sI σ 21 (p1.toNatClampNeg) p2) 22 (p1.toNatClampNeg) j_132)) (fun x4_133 σ_134 => some (1, σ_134))))) else (if p3 ≤ 40 then (gd (¬ (p1 < 0 ∨ 4 ≤ p1.toNatClampNeg)) (nm (if p2 = 0 then 0 else p3) (fun (j_139 : Int32) => bd (fX6_sheet_L93 p1 p2 p3 10000 0 (sI (sI σ 21 (p1.toNatClampNeg) p2) 22 (p1.toNatClampNeg) j_139)) (fun x4_140 σ_141 => some (1, σ_141))))) else (bd (fX6_finding σ (-1000000001)) (fun r_144 σ_146 => some (r_144, σ_146))))) else (if 0 ≤ p3 then (if p2 = 0 then (gd (¬ (p1 < 0 ∨ 4 ≤ p1.toNatClampNeg)) (nm (if p2 = 0 then 0 else p3) (fun (j_150 : Int32) => bd (fX6_sheet_L93 p1 p2 p3 10000 0 (sI (sI σ 21 (p1.toNatClampNeg) p2) 22 (p1.toNatClampNeg) j_150)) (fun x4_151 σ_152 => some (1, σ_152))))) else (if p3 ≤ 40 then (gd (¬ (p1 < 0 ∨ 4 ≤ p1.toNatClampNeg)) (nm (if p2 = 0 then 0 else p3) (fun (j_157 : Int32) => bd (fX6_sheet_L93 p1 p2 p3 10000 0 (sI (sI σ 21 (p1.toNatClampNeg) p2) 22 (p1.toNatClampNeg) j_157)) (fun x4_158 σ_159 => some (1, σ_159))))) else (bd (fX6_finding σ (-1000000001)) (fun r_162 σ_164 => some (r_162, σ_164))))) else (bd (fX6_finding σ (-1000000003)) (fun r_165 σ_167 => some (r_165, σ_167))))) else (bd (fX6_finding σ (-1000000001)) (fun r_168 σ_170 => some (r_168, σ_170)))))))
set_option maxHeartbeats 4000000 in
set_option maxRecDepth 100000 in
theorem lfX6_sheet_L93 {p : Program} {l : Launch} {e : Env} {R : Room} {s : State} {m : MethodId} {args : Array Value} {below : List Frame} {meth : Method} {c : Code} {Q : State → Prop} {w : ZW} {A : Nat → Prop} {ret : Option FieldType} {hh : List (Nat × Nat × Nat × Nat)} (C : zCx p s m args meth c w zLm A 5 cX6_sheet RX6 ret hh) (hfr : 0 ≤ R.frames) (hlo : 0 ≤ R.locals) (y1 : Int32) (y2 : Int32) (y3 : Int32) {z4 : Int32} {σ' : ZS} (hk : Z p l e R s m args below meth c Q w zLm A 5 σ' 119 [(0, .ref (w.2.2 0)), (1, .int y1), (2, .int y2), (3, .int y3), (4, .int z4)] []) : ∀ (n : Nat) (y4 : Int32) (σ : ZS), fX6_sheet_L93 y1 y2 y3 n y4 σ = some (z4, σ') → Z p l e R s m args below meth c Q w zLm A 5 σ 93 [(0, .ref (w.2.2 0)), (1, .int y1), (2, .int y2), (3, .int y3), (4, .int y4)] [] := by
  intro n
  induction n with
  | zero => intro y4 σ hf; exact none_ hf
  | succ n ih =>
    intro y4 σ hf
    rw [fX6_sheet_L93] at hf
    refine z_iload C 4 dX6_sheet_93 rfl ?_
    refine z_bipush C 40 dX6_sheet_95 (by decide) ?_
    refine z_icmp_ge C 119 dX6_sheet_97 (by decide) (fun c_10 => ?_) (fun c_10 => ?_)
    · replace hf := if_t c_10 hf
      obtain ⟨rfl, rfl⟩ := fin_ hf
      exact hk
    · replace hf := if_f c_10 hf
      refine z_aload_n C 0 dX6_sheet_100 rfl rfl ?_
      refine z_getR C ly_m0 (Cn := RX6) (T := TX6) (N := 24) rfl in_X6 22 (by decide) q1426 (Or.inl rfl) rfl dX6_sheet_101 ?_
      refine z_bipush C 40 dX6_sheet_104 (by decide) ?_
      refine z_iload_n C 1 dX6_sheet_106 rfl rfl ?_
      refine z_imul C dX6_sheet_107 ?_
      refine z_iload C 4 dX6_sheet_108 rfl ?_
      refine z_iadd C dX6_sheet_110 ?_
      refine z_iconst C 0 dX6_sheet_111 (by decide) ?_
      obtain ⟨g_11, hf⟩ := gd_ hf
      refine z_iastore C ly_m23 g_11 dX6_sheet_112 ?_
      obtain ⟨x4_12, ex4_12, hf⟩ := nmo_ hf
      refine z_iinc C x4_12 4 dX6_sheet_113 rfl (by rw [ex4_12]; rfl) (by decide) rfl (lv' := [(4, .int x4_12), (0, .ref (w.2.2 0)), (1, .int y1), (2, .int y2), (3, .int y3)]) ?_
      refine z_goto C 93 dX6_sheet_116 (by decide) ?_
      exact z_lv [1, 2, 3, 4, 0] rfl (ih _ _ hf)
set_option maxHeartbeats 4000000 in
set_option maxRecDepth 100000 in
theorem tX6_sheet (l : Launch) (w : ZW) {σ σ' : ZS} {p1 : Int32} {p2 : Int32} {p3 : Int32} {r : Int32} (hf : fX6_sheet σ p1 p2 p3 = some (r, σ')) : zC l w zLm yX6_sheet (ws_ yX6_sheet cX6_sheet 5 (some .int)) 2 26 [.ref (w.2.2 0), .int p1, .int p2, .int p3] σ (.returned (some (.int r))) σ' := by
  refine zC.of (plainFor_of_name (by decide)) (Nat.le_of_ble_eq_true rfl) ?_
  intro p e s m args below meth c C hnm
  show Z p l e _ s m args below meth c _ w _ _ 5 σ 0 [(0, .ref (w.2.2 0)), (1, .int p1), (2, .int p2), (3, .int p3)] []
  unfold fX6_sheet at hf
  refine z_iload_n C 1 dX6_sheet_0 rfl rfl ?_
  refine z_calli C (rest := []) (av := [.int p1]) (zPay.of q1765 q83) (fun H ls hH h2 => zInv_S C (As := [.int p1]) (rest := []) q1763 q1764 q83 (Or.inl rfl) q1765 mh_X6 np_X6_isSheet dX6_sheet_1) (tX6_isSheet l w zLm σ p1) (Nat.le_of_ble_eq_true rfl) (Nat.le_of_ble_eq_true rfl) ?_
  refine z_if_eq C 29 dX6_sheet_4 (by decide) (fun c_1 => ?_) (fun c_1 => ?_)
  · replace hf := if_t c_1 hf
    refine z_aload_n C 0 dX6_sheet_29 rfl rfl ?_
    refine z_ldc C dX6_sheet_30 q1484 ?_
    obtain ⟨r_2, σ_4, e_3, hf⟩ := bd_ hf
    refine z_calli C (rest := []) (av := (.ref (w.2.2 0) :: [.int (-1000000001)])) (zPay.of q1488 q83) (fun H ls hH h2 => zInv_V C (As := [.int (-1000000001)]) (rest := []) (ci := 6) (T := TX6) (N := 24) rfl (zSee.fix ly_m0) hH q1485 q1487 qs32 (Or.inl rfl) q1488 mh_X6 np_X6_finding dX6_sheet_32) (tX6_finding l w e_3) (Nat.le_of_ble_eq_true rfl) (Nat.le_of_ble_eq_true rfl) ?_
    obtain ⟨rfl, rfl⟩ := fin_ hf
    exact z_iret C rfl dX6_sheet_35
  · replace hf := if_f c_1 hf
    refine z_iload_n C 2 dX6_sheet_7 rfl rfl ?_
    refine z_if_eq C 36 dX6_sheet_8 (by decide) (fun c_5 => ?_) (fun c_5 => ?_)
    · replace hf := if_t c_5 hf
      refine z_iload_n C 2 dX6_sheet_36 rfl rfl ?_
      refine z_if_eq C 51 dX6_sheet_37 (by decide) (fun c_6 => ?_) (fun c_6 => ?_)
      · replace hf := if_t c_6 hf
        refine z_iload_n C 2 dX6_sheet_51 rfl rfl ?_
        refine z_if_eq C 68 dX6_sheet_52 (by decide) (fun c_7 => ?_) (fun c_7 => ?_)
        · replace hf := if_t c_7 hf
          refine z_aload_n C 0 dX6_sheet_68 rfl rfl ?_
          refine z_getR C ly_m0 (Cn := RX6) (T := TX6) (N := 24) rfl in_X6 20 (by decide) q1424 (Or.inl rfl) rfl dX6_sheet_69 ?_
          refine z_iload_n C 1 dX6_sheet_72 rfl rfl ?_
          refine z_iload_n C 2 dX6_sheet_73 rfl rfl ?_
          obtain ⟨g_8, hf⟩ := gd_ hf
          refine z_iastore C ly_m21 g_8 dX6_sheet_74 ?_
          refine z_aload_n C 0 dX6_sheet_75 rfl rfl ?_
          refine z_getR C ly_m0 (Cn := RX6) (T := TX6) (N := 24) rfl in_X6 21 (by decide) q1425 (Or.inl rfl) rfl dX6_sheet_76 ?_
          refine z_iload_n C 1 dX6_sheet_79 rfl rfl ?_
          refine z_iload_n C 2 dX6_sheet_80 rfl rfl ?_
          obtain ⟨j_9, ej_9, hf⟩ := nmo_ hf
          have hjj_9 : Z p l e (zRm 2 26 σ) s m args below meth c (zQ below w zLm σ (.returned (some (.int r))) σ' args s) w zLm (zA w zLm σ) 5 (sI σ 21 (p1.toNatClampNeg) p2) 89 [(0, .ref (w.2.2 0)), (1, .int p1), (2, .int p2), (3, .int p3)] [.int j_9, .int p1, .ref (w.2.2 22)] := by
            refine z_iastore C ly_m22 g_8 dX6_sheet_89 ?_
            refine z_iconst C 0 dX6_sheet_90 (by decide) ?_
            refine z_istore C dX6_sheet_91 (by decide) rfl (lv' := [(4, .int 0), (0, .ref (w.2.2 0)), (1, .int p1), (2, .int p2), (3, .int p3)]) ?_
            obtain ⟨x4_13, σ_14, e_15, hf⟩ := bd_ hf
            refine z_lv (lv' := [(0, .ref (w.2.2 0)), (1, .int p1), (2, .int p2), (3, .int p3), (4, .int 0)]) [1, 2, 3, 4, 0] rfl ?_
            refine lfX6_sheet_L93 C (Nat.le_of_ble_eq_true rfl) (Nat.le_of_ble_eq_true rfl) p1 p2 p3 ?_ _ _ _ e_15
            refine z_iconst C 1 dX6_sheet_119 (by decide) ?_
            obtain ⟨rfl, rfl⟩ := fin_ hf
            exact z_iret C rfl dX6_sheet_120
          replace hf := ej_9
          refine z_if_ne C 88 dX6_sheet_81 (by decide) (fun c_16 => ?_) (fun c_16 => ?_)
          · replace hf := ifp_f c_16 hf
            refine z_iload_n C 3 dX6_sheet_88 rfl rfl ?_
            subst hf
            exact hjj_9
          · replace hf := ifp_t c_16 hf
            refine z_iconst C 0 dX6_sheet_84 (by decide) ?_
            refine z_goto C 89 dX6_sheet_85 (by decide) ?_
            subst hf
            exact hjj_9
        · replace hf := if_f c_7 hf
          refine z_iload_n C 3 dX6_sheet_55 rfl rfl ?_
          refine z_bipush C 40 dX6_sheet_56 (by decide) ?_
          refine z_icmp_le C 68 dX6_sheet_58 (by decide) (fun c_17 => ?_) (fun c_17 => ?_)
          · replace hf := if_t c_17 hf
            refine z_aload_n C 0 dX6_sheet_68 rfl rfl ?_
            refine z_getR C ly_m0 (Cn := RX6) (T := TX6) (N := 24) rfl in_X6 20 (by decide) q1424 (Or.inl rfl) rfl dX6_sheet_69 ?_
            refine z_iload_n C 1 dX6_sheet_72 rfl rfl ?_
            refine z_iload_n C 2 dX6_sheet_73 rfl rfl ?_
            obtain ⟨g_18, hf⟩ := gd_ hf
            refine z_iastore C ly_m21 g_18 dX6_sheet_74 ?_
            refine z_aload_n C 0 dX6_sheet_75 rfl rfl ?_
            refine z_getR C ly_m0 (Cn := RX6) (T := TX6) (N := 24) rfl in_X6 21 (by decide) q1425 (Or.inl rfl) rfl dX6_sheet_76 ?_
            refine z_iload_n C 1 dX6_sheet_79 rfl rfl ?_
            refine z_iload_n C 2 dX6_sheet_80 rfl rfl ?_
            obtain ⟨j_19, ej_19, hf⟩ := nmo_ hf
            have hjj_19 : Z p l e (zRm 2 26 σ) s m args below meth c (zQ below w zLm σ (.returned (some (.int r))) σ' args s) w zLm (zA w zLm σ) 5 (sI σ 21 (p1.toNatClampNeg) p2) 89 [(0, .ref (w.2.2 0)), (1, .int p1), (2, .int p2), (3, .int p3)] [.int j_19, .int p1, .ref (w.2.2 22)] := by
              refine z_iastore C ly_m22 g_18 dX6_sheet_89 ?_
              refine z_iconst C 0 dX6_sheet_90 (by decide) ?_
              refine z_istore C dX6_sheet_91 (by decide) rfl (lv' := [(4, .int 0), (0, .ref (w.2.2 0)), (1, .int p1), (2, .int p2), (3, .int p3)]) ?_
              obtain ⟨x4_20, σ_21, e_22, hf⟩ := bd_ hf
              refine z_lv (lv' := [(0, .ref (w.2.2 0)), (1, .int p1), (2, .int p2), (3, .int p3), (4, .int 0)]) [1, 2, 3, 4, 0] rfl ?_
              refine lfX6_sheet_L93 C (Nat.le_of_ble_eq_true rfl) (Nat.le_of_ble_eq_true rfl) p1 p2 p3 ?_ _ _ _ e_22
              refine z_iconst C 1 dX6_sheet_119 (by decide) ?_
              obtain ⟨rfl, rfl⟩ := fin_ hf
              exact z_iret C rfl dX6_sheet_120
            replace hf := ej_19
            refine z_if_ne C 88 dX6_sheet_81 (by decide) (fun c_23 => ?_) (fun c_23 => ?_)
            · replace hf := ifp_f c_23 hf
              refine z_iload_n C 3 dX6_sheet_88 rfl rfl ?_
              subst hf
              exact hjj_19
            · replace hf := ifp_t c_23 hf
              refine z_iconst C 0 dX6_sheet_84 (by decide) ?_
              refine z_goto C 89 dX6_sheet_85 (by decide) ?_
              subst hf
              exact hjj_19
          · replace hf := if_f c_17 hf
            refine z_aload_n C 0 dX6_sheet_61 rfl rfl ?_
            refine z_ldc C dX6_sheet_62 q1484 ?_
            obtain ⟨r_24, σ_26, e_25, hf⟩ := bd_ hf
            refine z_calli C (rest := []) (av := (.ref (w.2.2 0) :: [.int (-1000000001)])) (zPay.of q1488 q83) (fun H ls hH h2 => zInv_V C (As := [.int (-1000000001)]) (rest := []) (ci := 6) (T := TX6) (N := 24) rfl (zSee.fix ly_m0) hH q1485 q1487 qs32 (Or.inl rfl) q1488 mh_X6 np_X6_finding dX6_sheet_64) (tX6_finding l w e_25) (Nat.le_of_ble_eq_true rfl) (Nat.le_of_ble_eq_true rfl) ?_
            obtain ⟨rfl, rfl⟩ := fin_ hf
            exact z_iret C rfl dX6_sheet_67
      · replace hf := if_f c_6 hf
        refine z_iload_n C 3 dX6_sheet_40 rfl rfl ?_
        refine z_if_ge C 51 dX6_sheet_41 (by decide) (fun c_27 => ?_) (fun c_27 => ?_)
        · replace hf := if_t c_27 hf
          refine z_iload_n C 2 dX6_sheet_51 rfl rfl ?_
          refine z_if_eq C 68 dX6_sheet_52 (by decide) (fun c_28 => ?_) (fun c_28 => ?_)
          · replace hf := if_t c_28 hf
            refine z_aload_n C 0 dX6_sheet_68 rfl rfl ?_
            refine z_getR C ly_m0 (Cn := RX6) (T := TX6) (N := 24) rfl in_X6 20 (by decide) q1424 (Or.inl rfl) rfl dX6_sheet_69 ?_
            refine z_iload_n C 1 dX6_sheet_72 rfl rfl ?_
            refine z_iload_n C 2 dX6_sheet_73 rfl rfl ?_
            obtain ⟨g_29, hf⟩ := gd_ hf
            refine z_iastore C ly_m21 g_29 dX6_sheet_74 ?_
            refine z_aload_n C 0 dX6_sheet_75 rfl rfl ?_
            refine z_getR C ly_m0 (Cn := RX6) (T := TX6) (N := 24) rfl in_X6 21 (by decide) q1425 (Or.inl rfl) rfl dX6_sheet_76 ?_
            refine z_iload_n C 1 dX6_sheet_79 rfl rfl ?_
            refine z_iload_n C 2 dX6_sheet_80 rfl rfl ?_
            obtain ⟨j_30, ej_30, hf⟩ := nmo_ hf
            have hjj_30 : Z p l e (zRm 2 26 σ) s m args below meth c (zQ below w zLm σ (.returned (some (.int r))) σ' args s) w zLm (zA w zLm σ) 5 (sI σ 21 (p1.toNatClampNeg) p2) 89 [(0, .ref (w.2.2 0)), (1, .int p1), (2, .int p2), (3, .int p3)] [.int j_30, .int p1, .ref (w.2.2 22)] := by
              refine z_iastore C ly_m22 g_29 dX6_sheet_89 ?_
              refine z_iconst C 0 dX6_sheet_90 (by decide) ?_
              refine z_istore C dX6_sheet_91 (by decide) rfl (lv' := [(4, .int 0), (0, .ref (w.2.2 0)), (1, .int p1), (2, .int p2), (3, .int p3)]) ?_
              obtain ⟨x4_31, σ_32, e_33, hf⟩ := bd_ hf
              refine z_lv (lv' := [(0, .ref (w.2.2 0)), (1, .int p1), (2, .int p2), (3, .int p3), (4, .int 0)]) [1, 2, 3, 4, 0] rfl ?_
              refine lfX6_sheet_L93 C (Nat.le_of_ble_eq_true rfl) (Nat.le_of_ble_eq_true rfl) p1 p2 p3 ?_ _ _ _ e_33
              refine z_iconst C 1 dX6_sheet_119 (by decide) ?_
              obtain ⟨rfl, rfl⟩ := fin_ hf
              exact z_iret C rfl dX6_sheet_120
            replace hf := ej_30
            refine z_if_ne C 88 dX6_sheet_81 (by decide) (fun c_34 => ?_) (fun c_34 => ?_)
            · replace hf := ifp_f c_34 hf
              refine z_iload_n C 3 dX6_sheet_88 rfl rfl ?_
              subst hf
              exact hjj_30
            · replace hf := ifp_t c_34 hf
              refine z_iconst C 0 dX6_sheet_84 (by decide) ?_
              refine z_goto C 89 dX6_sheet_85 (by decide) ?_
              subst hf
              exact hjj_30
          · replace hf := if_f c_28 hf
            refine z_iload_n C 3 dX6_sheet_55 rfl rfl ?_
            refine z_bipush C 40 dX6_sheet_56 (by decide) ?_
            refine z_icmp_le C 68 dX6_sheet_58 (by decide) (fun c_35 => ?_) (fun c_35 => ?_)
            · replace hf := if_t c_35 hf
              refine z_aload_n C 0 dX6_sheet_68 rfl rfl ?_
              refine z_getR C ly_m0 (Cn := RX6) (T := TX6) (N := 24) rfl in_X6 20 (by decide) q1424 (Or.inl rfl) rfl dX6_sheet_69 ?_
              refine z_iload_n C 1 dX6_sheet_72 rfl rfl ?_
              refine z_iload_n C 2 dX6_sheet_73 rfl rfl ?_
              obtain ⟨g_36, hf⟩ := gd_ hf
              refine z_iastore C ly_m21 g_36 dX6_sheet_74 ?_
              refine z_aload_n C 0 dX6_sheet_75 rfl rfl ?_
              refine z_getR C ly_m0 (Cn := RX6) (T := TX6) (N := 24) rfl in_X6 21 (by decide) q1425 (Or.inl rfl) rfl dX6_sheet_76 ?_
              refine z_iload_n C 1 dX6_sheet_79 rfl rfl ?_
              refine z_iload_n C 2 dX6_sheet_80 rfl rfl ?_
              obtain ⟨j_37, ej_37, hf⟩ := nmo_ hf
              have hjj_37 : Z p l e (zRm 2 26 σ) s m args below meth c (zQ below w zLm σ (.returned (some (.int r))) σ' args s) w zLm (zA w zLm σ) 5 (sI σ 21 (p1.toNatClampNeg) p2) 89 [(0, .ref (w.2.2 0)), (1, .int p1), (2, .int p2), (3, .int p3)] [.int j_37, .int p1, .ref (w.2.2 22)] := by
                refine z_iastore C ly_m22 g_36 dX6_sheet_89 ?_
                refine z_iconst C 0 dX6_sheet_90 (by decide) ?_
                refine z_istore C dX6_sheet_91 (by decide) rfl (lv' := [(4, .int 0), (0, .ref (w.2.2 0)), (1, .int p1), (2, .int p2), (3, .int p3)]) ?_
                obtain ⟨x4_38, σ_39, e_40, hf⟩ := bd_ hf
                refine z_lv (lv' := [(0, .ref (w.2.2 0)), (1, .int p1), (2, .int p2), (3, .int p3), (4, .int 0)]) [1, 2, 3, 4, 0] rfl ?_
                refine lfX6_sheet_L93 C (Nat.le_of_ble_eq_true rfl) (Nat.le_of_ble_eq_true rfl) p1 p2 p3 ?_ _ _ _ e_40
                refine z_iconst C 1 dX6_sheet_119 (by decide) ?_
                obtain ⟨rfl, rfl⟩ := fin_ hf
                exact z_iret C rfl dX6_sheet_120
              replace hf := ej_37
              refine z_if_ne C 88 dX6_sheet_81 (by decide) (fun c_41 => ?_) (fun c_41 => ?_)
              · replace hf := ifp_f c_41 hf
                refine z_iload_n C 3 dX6_sheet_88 rfl rfl ?_
                subst hf
                exact hjj_37
              · replace hf := ifp_t c_41 hf
                refine z_iconst C 0 dX6_sheet_84 (by decide) ?_
                refine z_goto C 89 dX6_sheet_85 (by decide) ?_
                subst hf
                exact hjj_37
            · replace hf := if_f c_35 hf
              refine z_aload_n C 0 dX6_sheet_61 rfl rfl ?_
              refine z_ldc C dX6_sheet_62 q1484 ?_
              obtain ⟨r_42, σ_44, e_43, hf⟩ := bd_ hf
              refine z_calli C (rest := []) (av := (.ref (w.2.2 0) :: [.int (-1000000001)])) (zPay.of q1488 q83) (fun H ls hH h2 => zInv_V C (As := [.int (-1000000001)]) (rest := []) (ci := 6) (T := TX6) (N := 24) rfl (zSee.fix ly_m0) hH q1485 q1487 qs32 (Or.inl rfl) q1488 mh_X6 np_X6_finding dX6_sheet_64) (tX6_finding l w e_43) (Nat.le_of_ble_eq_true rfl) (Nat.le_of_ble_eq_true rfl) ?_
              obtain ⟨rfl, rfl⟩ := fin_ hf
              exact z_iret C rfl dX6_sheet_67
        · replace hf := if_f c_27 hf
          refine z_aload_n C 0 dX6_sheet_44 rfl rfl ?_
          refine z_ldc C dX6_sheet_45 q1585 ?_
          obtain ⟨r_45, σ_47, e_46, hf⟩ := bd_ hf
          refine z_calli C (rest := []) (av := (.ref (w.2.2 0) :: [.int (-1000000003)])) (zPay.of q1488 q83) (fun H ls hH h2 => zInv_V C (As := [.int (-1000000003)]) (rest := []) (ci := 6) (T := TX6) (N := 24) rfl (zSee.fix ly_m0) hH q1485 q1487 qs32 (Or.inl rfl) q1488 mh_X6 np_X6_finding dX6_sheet_47) (tX6_finding l w e_46) (Nat.le_of_ble_eq_true rfl) (Nat.le_of_ble_eq_true rfl) ?_
          obtain ⟨rfl, rfl⟩ := fin_ hf
          exact z_iret C rfl dX6_sheet_50
    · replace hf := if_f c_5 hf
      refine z_iload_n C 2 dX6_sheet_11 rfl rfl ?_
      refine z_bipush C 8 dX6_sheet_12 (by decide) ?_
      refine z_icmp_eq C 36 dX6_sheet_14 (by decide) (fun c_48 => ?_) (fun c_48 => ?_)
      · replace hf := if_t c_48 hf
        refine z_iload_n C 2 dX6_sheet_36 rfl rfl ?_
        refine z_if_eq C 51 dX6_sheet_37 (by decide) (fun c_49 => ?_) (fun c_49 => ?_)
        · replace hf := if_t c_49 hf
          refine z_iload_n C 2 dX6_sheet_51 rfl rfl ?_
          refine z_if_eq C 68 dX6_sheet_52 (by decide) (fun c_50 => ?_) (fun c_50 => ?_)
          · replace hf := if_t c_50 hf
            refine z_aload_n C 0 dX6_sheet_68 rfl rfl ?_
            refine z_getR C ly_m0 (Cn := RX6) (T := TX6) (N := 24) rfl in_X6 20 (by decide) q1424 (Or.inl rfl) rfl dX6_sheet_69 ?_
            refine z_iload_n C 1 dX6_sheet_72 rfl rfl ?_
            refine z_iload_n C 2 dX6_sheet_73 rfl rfl ?_
            obtain ⟨g_51, hf⟩ := gd_ hf
            refine z_iastore C ly_m21 g_51 dX6_sheet_74 ?_
            refine z_aload_n C 0 dX6_sheet_75 rfl rfl ?_
            refine z_getR C ly_m0 (Cn := RX6) (T := TX6) (N := 24) rfl in_X6 21 (by decide) q1425 (Or.inl rfl) rfl dX6_sheet_76 ?_
            refine z_iload_n C 1 dX6_sheet_79 rfl rfl ?_
            refine z_iload_n C 2 dX6_sheet_80 rfl rfl ?_
            obtain ⟨j_52, ej_52, hf⟩ := nmo_ hf
            have hjj_52 : Z p l e (zRm 2 26 σ) s m args below meth c (zQ below w zLm σ (.returned (some (.int r))) σ' args s) w zLm (zA w zLm σ) 5 (sI σ 21 (p1.toNatClampNeg) p2) 89 [(0, .ref (w.2.2 0)), (1, .int p1), (2, .int p2), (3, .int p3)] [.int j_52, .int p1, .ref (w.2.2 22)] := by
              refine z_iastore C ly_m22 g_51 dX6_sheet_89 ?_
              refine z_iconst C 0 dX6_sheet_90 (by decide) ?_
              refine z_istore C dX6_sheet_91 (by decide) rfl (lv' := [(4, .int 0), (0, .ref (w.2.2 0)), (1, .int p1), (2, .int p2), (3, .int p3)]) ?_
              obtain ⟨x4_53, σ_54, e_55, hf⟩ := bd_ hf
              refine z_lv (lv' := [(0, .ref (w.2.2 0)), (1, .int p1), (2, .int p2), (3, .int p3), (4, .int 0)]) [1, 2, 3, 4, 0] rfl ?_
              refine lfX6_sheet_L93 C (Nat.le_of_ble_eq_true rfl) (Nat.le_of_ble_eq_true rfl) p1 p2 p3 ?_ _ _ _ e_55
              refine z_iconst C 1 dX6_sheet_119 (by decide) ?_
              obtain ⟨rfl, rfl⟩ := fin_ hf
              exact z_iret C rfl dX6_sheet_120
            replace hf := ej_52
            refine z_if_ne C 88 dX6_sheet_81 (by decide) (fun c_56 => ?_) (fun c_56 => ?_)
            · replace hf := ifp_f c_56 hf
              refine z_iload_n C 3 dX6_sheet_88 rfl rfl ?_
              subst hf
              exact hjj_52
            · replace hf := ifp_t c_56 hf
              refine z_iconst C 0 dX6_sheet_84 (by decide) ?_
              refine z_goto C 89 dX6_sheet_85 (by decide) ?_
              subst hf
              exact hjj_52
          · replace hf := if_f c_50 hf
            refine z_iload_n C 3 dX6_sheet_55 rfl rfl ?_
            refine z_bipush C 40 dX6_sheet_56 (by decide) ?_
            refine z_icmp_le C 68 dX6_sheet_58 (by decide) (fun c_57 => ?_) (fun c_57 => ?_)
            · replace hf := if_t c_57 hf
              refine z_aload_n C 0 dX6_sheet_68 rfl rfl ?_
              refine z_getR C ly_m0 (Cn := RX6) (T := TX6) (N := 24) rfl in_X6 20 (by decide) q1424 (Or.inl rfl) rfl dX6_sheet_69 ?_
              refine z_iload_n C 1 dX6_sheet_72 rfl rfl ?_
              refine z_iload_n C 2 dX6_sheet_73 rfl rfl ?_
              obtain ⟨g_58, hf⟩ := gd_ hf
              refine z_iastore C ly_m21 g_58 dX6_sheet_74 ?_
              refine z_aload_n C 0 dX6_sheet_75 rfl rfl ?_
              refine z_getR C ly_m0 (Cn := RX6) (T := TX6) (N := 24) rfl in_X6 21 (by decide) q1425 (Or.inl rfl) rfl dX6_sheet_76 ?_
              refine z_iload_n C 1 dX6_sheet_79 rfl rfl ?_
              refine z_iload_n C 2 dX6_sheet_80 rfl rfl ?_
              obtain ⟨j_59, ej_59, hf⟩ := nmo_ hf
              have hjj_59 : Z p l e (zRm 2 26 σ) s m args below meth c (zQ below w zLm σ (.returned (some (.int r))) σ' args s) w zLm (zA w zLm σ) 5 (sI σ 21 (p1.toNatClampNeg) p2) 89 [(0, .ref (w.2.2 0)), (1, .int p1), (2, .int p2), (3, .int p3)] [.int j_59, .int p1, .ref (w.2.2 22)] := by
                refine z_iastore C ly_m22 g_58 dX6_sheet_89 ?_
                refine z_iconst C 0 dX6_sheet_90 (by decide) ?_
                refine z_istore C dX6_sheet_91 (by decide) rfl (lv' := [(4, .int 0), (0, .ref (w.2.2 0)), (1, .int p1), (2, .int p2), (3, .int p3)]) ?_
                obtain ⟨x4_60, σ_61, e_62, hf⟩ := bd_ hf
                refine z_lv (lv' := [(0, .ref (w.2.2 0)), (1, .int p1), (2, .int p2), (3, .int p3), (4, .int 0)]) [1, 2, 3, 4, 0] rfl ?_
                refine lfX6_sheet_L93 C (Nat.le_of_ble_eq_true rfl) (Nat.le_of_ble_eq_true rfl) p1 p2 p3 ?_ _ _ _ e_62
                refine z_iconst C 1 dX6_sheet_119 (by decide) ?_
                obtain ⟨rfl, rfl⟩ := fin_ hf
                exact z_iret C rfl dX6_sheet_120
              replace hf := ej_59
              refine z_if_ne C 88 dX6_sheet_81 (by decide) (fun c_63 => ?_) (fun c_63 => ?_)
              · replace hf := ifp_f c_63 hf
                refine z_iload_n C 3 dX6_sheet_88 rfl rfl ?_
                subst hf
                exact hjj_59
              · replace hf := ifp_t c_63 hf
                refine z_iconst C 0 dX6_sheet_84 (by decide) ?_
                refine z_goto C 89 dX6_sheet_85 (by decide) ?_
                subst hf
                exact hjj_59
            · replace hf := if_f c_57 hf
              refine z_aload_n C 0 dX6_sheet_61 rfl rfl ?_
              refine z_ldc C dX6_sheet_62 q1484 ?_
              obtain ⟨r_64, σ_66, e_65, hf⟩ := bd_ hf
              refine z_calli C (rest := []) (av := (.ref (w.2.2 0) :: [.int (-1000000001)])) (zPay.of q1488 q83) (fun H ls hH h2 => zInv_V C (As := [.int (-1000000001)]) (rest := []) (ci := 6) (T := TX6) (N := 24) rfl (zSee.fix ly_m0) hH q1485 q1487 qs32 (Or.inl rfl) q1488 mh_X6 np_X6_finding dX6_sheet_64) (tX6_finding l w e_65) (Nat.le_of_ble_eq_true rfl) (Nat.le_of_ble_eq_true rfl) ?_
              obtain ⟨rfl, rfl⟩ := fin_ hf
              exact z_iret C rfl dX6_sheet_67
        · replace hf := if_f c_49 hf
          refine z_iload_n C 3 dX6_sheet_40 rfl rfl ?_
          refine z_if_ge C 51 dX6_sheet_41 (by decide) (fun c_67 => ?_) (fun c_67 => ?_)
          · replace hf := if_t c_67 hf
            refine z_iload_n C 2 dX6_sheet_51 rfl rfl ?_
            refine z_if_eq C 68 dX6_sheet_52 (by decide) (fun c_68 => ?_) (fun c_68 => ?_)
            · replace hf := if_t c_68 hf
              refine z_aload_n C 0 dX6_sheet_68 rfl rfl ?_
              refine z_getR C ly_m0 (Cn := RX6) (T := TX6) (N := 24) rfl in_X6 20 (by decide) q1424 (Or.inl rfl) rfl dX6_sheet_69 ?_
              refine z_iload_n C 1 dX6_sheet_72 rfl rfl ?_
              refine z_iload_n C 2 dX6_sheet_73 rfl rfl ?_
              obtain ⟨g_69, hf⟩ := gd_ hf
              refine z_iastore C ly_m21 g_69 dX6_sheet_74 ?_
              refine z_aload_n C 0 dX6_sheet_75 rfl rfl ?_
              refine z_getR C ly_m0 (Cn := RX6) (T := TX6) (N := 24) rfl in_X6 21 (by decide) q1425 (Or.inl rfl) rfl dX6_sheet_76 ?_
              refine z_iload_n C 1 dX6_sheet_79 rfl rfl ?_
              refine z_iload_n C 2 dX6_sheet_80 rfl rfl ?_
              obtain ⟨j_70, ej_70, hf⟩ := nmo_ hf
              have hjj_70 : Z p l e (zRm 2 26 σ) s m args below meth c (zQ below w zLm σ (.returned (some (.int r))) σ' args s) w zLm (zA w zLm σ) 5 (sI σ 21 (p1.toNatClampNeg) p2) 89 [(0, .ref (w.2.2 0)), (1, .int p1), (2, .int p2), (3, .int p3)] [.int j_70, .int p1, .ref (w.2.2 22)] := by
                refine z_iastore C ly_m22 g_69 dX6_sheet_89 ?_
                refine z_iconst C 0 dX6_sheet_90 (by decide) ?_
                refine z_istore C dX6_sheet_91 (by decide) rfl (lv' := [(4, .int 0), (0, .ref (w.2.2 0)), (1, .int p1), (2, .int p2), (3, .int p3)]) ?_
                obtain ⟨x4_71, σ_72, e_73, hf⟩ := bd_ hf
                refine z_lv (lv' := [(0, .ref (w.2.2 0)), (1, .int p1), (2, .int p2), (3, .int p3), (4, .int 0)]) [1, 2, 3, 4, 0] rfl ?_
                refine lfX6_sheet_L93 C (Nat.le_of_ble_eq_true rfl) (Nat.le_of_ble_eq_true rfl) p1 p2 p3 ?_ _ _ _ e_73
                refine z_iconst C 1 dX6_sheet_119 (by decide) ?_
                obtain ⟨rfl, rfl⟩ := fin_ hf
                exact z_iret C rfl dX6_sheet_120
              replace hf := ej_70
              refine z_if_ne C 88 dX6_sheet_81 (by decide) (fun c_74 => ?_) (fun c_74 => ?_)
              · replace hf := ifp_f c_74 hf
                refine z_iload_n C 3 dX6_sheet_88 rfl rfl ?_
                subst hf
                exact hjj_70
              · replace hf := ifp_t c_74 hf
                refine z_iconst C 0 dX6_sheet_84 (by decide) ?_
                refine z_goto C 89 dX6_sheet_85 (by decide) ?_
                subst hf
                exact hjj_70
            · replace hf := if_f c_68 hf
              refine z_iload_n C 3 dX6_sheet_55 rfl rfl ?_
              refine z_bipush C 40 dX6_sheet_56 (by decide) ?_
              refine z_icmp_le C 68 dX6_sheet_58 (by decide) (fun c_75 => ?_) (fun c_75 => ?_)
              · replace hf := if_t c_75 hf
                refine z_aload_n C 0 dX6_sheet_68 rfl rfl ?_
                refine z_getR C ly_m0 (Cn := RX6) (T := TX6) (N := 24) rfl in_X6 20 (by decide) q1424 (Or.inl rfl) rfl dX6_sheet_69 ?_
                refine z_iload_n C 1 dX6_sheet_72 rfl rfl ?_
                refine z_iload_n C 2 dX6_sheet_73 rfl rfl ?_
                obtain ⟨g_76, hf⟩ := gd_ hf
                refine z_iastore C ly_m21 g_76 dX6_sheet_74 ?_
                refine z_aload_n C 0 dX6_sheet_75 rfl rfl ?_
                refine z_getR C ly_m0 (Cn := RX6) (T := TX6) (N := 24) rfl in_X6 21 (by decide) q1425 (Or.inl rfl) rfl dX6_sheet_76 ?_
                refine z_iload_n C 1 dX6_sheet_79 rfl rfl ?_
                refine z_iload_n C 2 dX6_sheet_80 rfl rfl ?_
                obtain ⟨j_77, ej_77, hf⟩ := nmo_ hf
                have hjj_77 : Z p l e (zRm 2 26 σ) s m args below meth c (zQ below w zLm σ (.returned (some (.int r))) σ' args s) w zLm (zA w zLm σ) 5 (sI σ 21 (p1.toNatClampNeg) p2) 89 [(0, .ref (w.2.2 0)), (1, .int p1), (2, .int p2), (3, .int p3)] [.int j_77, .int p1, .ref (w.2.2 22)] := by
                  refine z_iastore C ly_m22 g_76 dX6_sheet_89 ?_
                  refine z_iconst C 0 dX6_sheet_90 (by decide) ?_
                  refine z_istore C dX6_sheet_91 (by decide) rfl (lv' := [(4, .int 0), (0, .ref (w.2.2 0)), (1, .int p1), (2, .int p2), (3, .int p3)]) ?_
                  obtain ⟨x4_78, σ_79, e_80, hf⟩ := bd_ hf
                  refine z_lv (lv' := [(0, .ref (w.2.2 0)), (1, .int p1), (2, .int p2), (3, .int p3), (4, .int 0)]) [1, 2, 3, 4, 0] rfl ?_
                  refine lfX6_sheet_L93 C (Nat.le_of_ble_eq_true rfl) (Nat.le_of_ble_eq_true rfl) p1 p2 p3 ?_ _ _ _ e_80
                  refine z_iconst C 1 dX6_sheet_119 (by decide) ?_
                  obtain ⟨rfl, rfl⟩ := fin_ hf
                  exact z_iret C rfl dX6_sheet_120
                replace hf := ej_77
                refine z_if_ne C 88 dX6_sheet_81 (by decide) (fun c_81 => ?_) (fun c_81 => ?_)
                · replace hf := ifp_f c_81 hf
                  refine z_iload_n C 3 dX6_sheet_88 rfl rfl ?_
                  subst hf
                  exact hjj_77
                · replace hf := ifp_t c_81 hf
                  refine z_iconst C 0 dX6_sheet_84 (by decide) ?_
                  refine z_goto C 89 dX6_sheet_85 (by decide) ?_
                  subst hf
                  exact hjj_77
              · replace hf := if_f c_75 hf
                refine z_aload_n C 0 dX6_sheet_61 rfl rfl ?_
                refine z_ldc C dX6_sheet_62 q1484 ?_
                obtain ⟨r_82, σ_84, e_83, hf⟩ := bd_ hf
                refine z_calli C (rest := []) (av := (.ref (w.2.2 0) :: [.int (-1000000001)])) (zPay.of q1488 q83) (fun H ls hH h2 => zInv_V C (As := [.int (-1000000001)]) (rest := []) (ci := 6) (T := TX6) (N := 24) rfl (zSee.fix ly_m0) hH q1485 q1487 qs32 (Or.inl rfl) q1488 mh_X6 np_X6_finding dX6_sheet_64) (tX6_finding l w e_83) (Nat.le_of_ble_eq_true rfl) (Nat.le_of_ble_eq_true rfl) ?_
                obtain ⟨rfl, rfl⟩ := fin_ hf
                exact z_iret C rfl dX6_sheet_67
          · replace hf := if_f c_67 hf
            refine z_aload_n C 0 dX6_sheet_44 rfl rfl ?_
            refine z_ldc C dX6_sheet_45 q1585 ?_
            obtain ⟨r_85, σ_87, e_86, hf⟩ := bd_ hf
            refine z_calli C (rest := []) (av := (.ref (w.2.2 0) :: [.int (-1000000003)])) (zPay.of q1488 q83) (fun H ls hH h2 => zInv_V C (As := [.int (-1000000003)]) (rest := []) (ci := 6) (T := TX6) (N := 24) rfl (zSee.fix ly_m0) hH q1485 q1487 qs32 (Or.inl rfl) q1488 mh_X6 np_X6_finding dX6_sheet_47) (tX6_finding l w e_86) (Nat.le_of_ble_eq_true rfl) (Nat.le_of_ble_eq_true rfl) ?_
            obtain ⟨rfl, rfl⟩ := fin_ hf
            exact z_iret C rfl dX6_sheet_50
      · replace hf := if_f c_48 hf
        refine z_iload_n C 2 dX6_sheet_17 rfl rfl ?_
        refine z_bipush C 16 dX6_sheet_18 (by decide) ?_
        refine z_icmp_eq C 36 dX6_sheet_20 (by decide) (fun c_88 => ?_) (fun c_88 => ?_)
        · replace hf := if_t c_88 hf
          refine z_iload_n C 2 dX6_sheet_36 rfl rfl ?_
          refine z_if_eq C 51 dX6_sheet_37 (by decide) (fun c_89 => ?_) (fun c_89 => ?_)
          · replace hf := if_t c_89 hf
            refine z_iload_n C 2 dX6_sheet_51 rfl rfl ?_
            refine z_if_eq C 68 dX6_sheet_52 (by decide) (fun c_90 => ?_) (fun c_90 => ?_)
            · replace hf := if_t c_90 hf
              refine z_aload_n C 0 dX6_sheet_68 rfl rfl ?_
              refine z_getR C ly_m0 (Cn := RX6) (T := TX6) (N := 24) rfl in_X6 20 (by decide) q1424 (Or.inl rfl) rfl dX6_sheet_69 ?_
              refine z_iload_n C 1 dX6_sheet_72 rfl rfl ?_
              refine z_iload_n C 2 dX6_sheet_73 rfl rfl ?_
              obtain ⟨g_91, hf⟩ := gd_ hf
              refine z_iastore C ly_m21 g_91 dX6_sheet_74 ?_
              refine z_aload_n C 0 dX6_sheet_75 rfl rfl ?_
              refine z_getR C ly_m0 (Cn := RX6) (T := TX6) (N := 24) rfl in_X6 21 (by decide) q1425 (Or.inl rfl) rfl dX6_sheet_76 ?_
              refine z_iload_n C 1 dX6_sheet_79 rfl rfl ?_
              refine z_iload_n C 2 dX6_sheet_80 rfl rfl ?_
              obtain ⟨j_92, ej_92, hf⟩ := nmo_ hf
              have hjj_92 : Z p l e (zRm 2 26 σ) s m args below meth c (zQ below w zLm σ (.returned (some (.int r))) σ' args s) w zLm (zA w zLm σ) 5 (sI σ 21 (p1.toNatClampNeg) p2) 89 [(0, .ref (w.2.2 0)), (1, .int p1), (2, .int p2), (3, .int p3)] [.int j_92, .int p1, .ref (w.2.2 22)] := by
                refine z_iastore C ly_m22 g_91 dX6_sheet_89 ?_
                refine z_iconst C 0 dX6_sheet_90 (by decide) ?_
                refine z_istore C dX6_sheet_91 (by decide) rfl (lv' := [(4, .int 0), (0, .ref (w.2.2 0)), (1, .int p1), (2, .int p2), (3, .int p3)]) ?_
                obtain ⟨x4_93, σ_94, e_95, hf⟩ := bd_ hf
                refine z_lv (lv' := [(0, .ref (w.2.2 0)), (1, .int p1), (2, .int p2), (3, .int p3), (4, .int 0)]) [1, 2, 3, 4, 0] rfl ?_
                refine lfX6_sheet_L93 C (Nat.le_of_ble_eq_true rfl) (Nat.le_of_ble_eq_true rfl) p1 p2 p3 ?_ _ _ _ e_95
                refine z_iconst C 1 dX6_sheet_119 (by decide) ?_
                obtain ⟨rfl, rfl⟩ := fin_ hf
                exact z_iret C rfl dX6_sheet_120
              replace hf := ej_92
              refine z_if_ne C 88 dX6_sheet_81 (by decide) (fun c_96 => ?_) (fun c_96 => ?_)
              · replace hf := ifp_f c_96 hf
                refine z_iload_n C 3 dX6_sheet_88 rfl rfl ?_
                subst hf
                exact hjj_92
              · replace hf := ifp_t c_96 hf
                refine z_iconst C 0 dX6_sheet_84 (by decide) ?_
                refine z_goto C 89 dX6_sheet_85 (by decide) ?_
                subst hf
                exact hjj_92
            · replace hf := if_f c_90 hf
              refine z_iload_n C 3 dX6_sheet_55 rfl rfl ?_
              refine z_bipush C 40 dX6_sheet_56 (by decide) ?_
              refine z_icmp_le C 68 dX6_sheet_58 (by decide) (fun c_97 => ?_) (fun c_97 => ?_)
              · replace hf := if_t c_97 hf
                refine z_aload_n C 0 dX6_sheet_68 rfl rfl ?_
                refine z_getR C ly_m0 (Cn := RX6) (T := TX6) (N := 24) rfl in_X6 20 (by decide) q1424 (Or.inl rfl) rfl dX6_sheet_69 ?_
                refine z_iload_n C 1 dX6_sheet_72 rfl rfl ?_
                refine z_iload_n C 2 dX6_sheet_73 rfl rfl ?_
                obtain ⟨g_98, hf⟩ := gd_ hf
                refine z_iastore C ly_m21 g_98 dX6_sheet_74 ?_
                refine z_aload_n C 0 dX6_sheet_75 rfl rfl ?_
                refine z_getR C ly_m0 (Cn := RX6) (T := TX6) (N := 24) rfl in_X6 21 (by decide) q1425 (Or.inl rfl) rfl dX6_sheet_76 ?_
                refine z_iload_n C 1 dX6_sheet_79 rfl rfl ?_
                refine z_iload_n C 2 dX6_sheet_80 rfl rfl ?_
                obtain ⟨j_99, ej_99, hf⟩ := nmo_ hf
                have hjj_99 : Z p l e (zRm 2 26 σ) s m args below meth c (zQ below w zLm σ (.returned (some (.int r))) σ' args s) w zLm (zA w zLm σ) 5 (sI σ 21 (p1.toNatClampNeg) p2) 89 [(0, .ref (w.2.2 0)), (1, .int p1), (2, .int p2), (3, .int p3)] [.int j_99, .int p1, .ref (w.2.2 22)] := by
                  refine z_iastore C ly_m22 g_98 dX6_sheet_89 ?_
                  refine z_iconst C 0 dX6_sheet_90 (by decide) ?_
                  refine z_istore C dX6_sheet_91 (by decide) rfl (lv' := [(4, .int 0), (0, .ref (w.2.2 0)), (1, .int p1), (2, .int p2), (3, .int p3)]) ?_
                  obtain ⟨x4_100, σ_101, e_102, hf⟩ := bd_ hf
                  refine z_lv (lv' := [(0, .ref (w.2.2 0)), (1, .int p1), (2, .int p2), (3, .int p3), (4, .int 0)]) [1, 2, 3, 4, 0] rfl ?_
                  refine lfX6_sheet_L93 C (Nat.le_of_ble_eq_true rfl) (Nat.le_of_ble_eq_true rfl) p1 p2 p3 ?_ _ _ _ e_102
                  refine z_iconst C 1 dX6_sheet_119 (by decide) ?_
                  obtain ⟨rfl, rfl⟩ := fin_ hf
                  exact z_iret C rfl dX6_sheet_120
                replace hf := ej_99
                refine z_if_ne C 88 dX6_sheet_81 (by decide) (fun c_103 => ?_) (fun c_103 => ?_)
                · replace hf := ifp_f c_103 hf
                  refine z_iload_n C 3 dX6_sheet_88 rfl rfl ?_
                  subst hf
                  exact hjj_99
                · replace hf := ifp_t c_103 hf
                  refine z_iconst C 0 dX6_sheet_84 (by decide) ?_
                  refine z_goto C 89 dX6_sheet_85 (by decide) ?_
                  subst hf
                  exact hjj_99
              · replace hf := if_f c_97 hf
                refine z_aload_n C 0 dX6_sheet_61 rfl rfl ?_
                refine z_ldc C dX6_sheet_62 q1484 ?_
                obtain ⟨r_104, σ_106, e_105, hf⟩ := bd_ hf
                refine z_calli C (rest := []) (av := (.ref (w.2.2 0) :: [.int (-1000000001)])) (zPay.of q1488 q83) (fun H ls hH h2 => zInv_V C (As := [.int (-1000000001)]) (rest := []) (ci := 6) (T := TX6) (N := 24) rfl (zSee.fix ly_m0) hH q1485 q1487 qs32 (Or.inl rfl) q1488 mh_X6 np_X6_finding dX6_sheet_64) (tX6_finding l w e_105) (Nat.le_of_ble_eq_true rfl) (Nat.le_of_ble_eq_true rfl) ?_
                obtain ⟨rfl, rfl⟩ := fin_ hf
                exact z_iret C rfl dX6_sheet_67
          · replace hf := if_f c_89 hf
            refine z_iload_n C 3 dX6_sheet_40 rfl rfl ?_
            refine z_if_ge C 51 dX6_sheet_41 (by decide) (fun c_107 => ?_) (fun c_107 => ?_)
            · replace hf := if_t c_107 hf
              refine z_iload_n C 2 dX6_sheet_51 rfl rfl ?_
              refine z_if_eq C 68 dX6_sheet_52 (by decide) (fun c_108 => ?_) (fun c_108 => ?_)
              · replace hf := if_t c_108 hf
                refine z_aload_n C 0 dX6_sheet_68 rfl rfl ?_
                refine z_getR C ly_m0 (Cn := RX6) (T := TX6) (N := 24) rfl in_X6 20 (by decide) q1424 (Or.inl rfl) rfl dX6_sheet_69 ?_
                refine z_iload_n C 1 dX6_sheet_72 rfl rfl ?_
                refine z_iload_n C 2 dX6_sheet_73 rfl rfl ?_
                obtain ⟨g_109, hf⟩ := gd_ hf
                refine z_iastore C ly_m21 g_109 dX6_sheet_74 ?_
                refine z_aload_n C 0 dX6_sheet_75 rfl rfl ?_
                refine z_getR C ly_m0 (Cn := RX6) (T := TX6) (N := 24) rfl in_X6 21 (by decide) q1425 (Or.inl rfl) rfl dX6_sheet_76 ?_
                refine z_iload_n C 1 dX6_sheet_79 rfl rfl ?_
                refine z_iload_n C 2 dX6_sheet_80 rfl rfl ?_
                obtain ⟨j_110, ej_110, hf⟩ := nmo_ hf
                have hjj_110 : Z p l e (zRm 2 26 σ) s m args below meth c (zQ below w zLm σ (.returned (some (.int r))) σ' args s) w zLm (zA w zLm σ) 5 (sI σ 21 (p1.toNatClampNeg) p2) 89 [(0, .ref (w.2.2 0)), (1, .int p1), (2, .int p2), (3, .int p3)] [.int j_110, .int p1, .ref (w.2.2 22)] := by
                  refine z_iastore C ly_m22 g_109 dX6_sheet_89 ?_
                  refine z_iconst C 0 dX6_sheet_90 (by decide) ?_
                  refine z_istore C dX6_sheet_91 (by decide) rfl (lv' := [(4, .int 0), (0, .ref (w.2.2 0)), (1, .int p1), (2, .int p2), (3, .int p3)]) ?_
                  obtain ⟨x4_111, σ_112, e_113, hf⟩ := bd_ hf
                  refine z_lv (lv' := [(0, .ref (w.2.2 0)), (1, .int p1), (2, .int p2), (3, .int p3), (4, .int 0)]) [1, 2, 3, 4, 0] rfl ?_
                  refine lfX6_sheet_L93 C (Nat.le_of_ble_eq_true rfl) (Nat.le_of_ble_eq_true rfl) p1 p2 p3 ?_ _ _ _ e_113
                  refine z_iconst C 1 dX6_sheet_119 (by decide) ?_
                  obtain ⟨rfl, rfl⟩ := fin_ hf
                  exact z_iret C rfl dX6_sheet_120
                replace hf := ej_110
                refine z_if_ne C 88 dX6_sheet_81 (by decide) (fun c_114 => ?_) (fun c_114 => ?_)
                · replace hf := ifp_f c_114 hf
                  refine z_iload_n C 3 dX6_sheet_88 rfl rfl ?_
                  subst hf
                  exact hjj_110
                · replace hf := ifp_t c_114 hf
                  refine z_iconst C 0 dX6_sheet_84 (by decide) ?_
                  refine z_goto C 89 dX6_sheet_85 (by decide) ?_
                  subst hf
                  exact hjj_110
              · replace hf := if_f c_108 hf
                refine z_iload_n C 3 dX6_sheet_55 rfl rfl ?_
                refine z_bipush C 40 dX6_sheet_56 (by decide) ?_
                refine z_icmp_le C 68 dX6_sheet_58 (by decide) (fun c_115 => ?_) (fun c_115 => ?_)
                · replace hf := if_t c_115 hf
                  refine z_aload_n C 0 dX6_sheet_68 rfl rfl ?_
                  refine z_getR C ly_m0 (Cn := RX6) (T := TX6) (N := 24) rfl in_X6 20 (by decide) q1424 (Or.inl rfl) rfl dX6_sheet_69 ?_
                  refine z_iload_n C 1 dX6_sheet_72 rfl rfl ?_
                  refine z_iload_n C 2 dX6_sheet_73 rfl rfl ?_
                  obtain ⟨g_116, hf⟩ := gd_ hf
                  refine z_iastore C ly_m21 g_116 dX6_sheet_74 ?_
                  refine z_aload_n C 0 dX6_sheet_75 rfl rfl ?_
                  refine z_getR C ly_m0 (Cn := RX6) (T := TX6) (N := 24) rfl in_X6 21 (by decide) q1425 (Or.inl rfl) rfl dX6_sheet_76 ?_
                  refine z_iload_n C 1 dX6_sheet_79 rfl rfl ?_
                  refine z_iload_n C 2 dX6_sheet_80 rfl rfl ?_
                  obtain ⟨j_117, ej_117, hf⟩ := nmo_ hf
                  have hjj_117 : Z p l e (zRm 2 26 σ) s m args below meth c (zQ below w zLm σ (.returned (some (.int r))) σ' args s) w zLm (zA w zLm σ) 5 (sI σ 21 (p1.toNatClampNeg) p2) 89 [(0, .ref (w.2.2 0)), (1, .int p1), (2, .int p2), (3, .int p3)] [.int j_117, .int p1, .ref (w.2.2 22)] := by
                    refine z_iastore C ly_m22 g_116 dX6_sheet_89 ?_
                    refine z_iconst C 0 dX6_sheet_90 (by decide) ?_
                    refine z_istore C dX6_sheet_91 (by decide) rfl (lv' := [(4, .int 0), (0, .ref (w.2.2 0)), (1, .int p1), (2, .int p2), (3, .int p3)]) ?_
                    obtain ⟨x4_118, σ_119, e_120, hf⟩ := bd_ hf
                    refine z_lv (lv' := [(0, .ref (w.2.2 0)), (1, .int p1), (2, .int p2), (3, .int p3), (4, .int 0)]) [1, 2, 3, 4, 0] rfl ?_
                    refine lfX6_sheet_L93 C (Nat.le_of_ble_eq_true rfl) (Nat.le_of_ble_eq_true rfl) p1 p2 p3 ?_ _ _ _ e_120
                    refine z_iconst C 1 dX6_sheet_119 (by decide) ?_
                    obtain ⟨rfl, rfl⟩ := fin_ hf
                    exact z_iret C rfl dX6_sheet_120
                  replace hf := ej_117
                  refine z_if_ne C 88 dX6_sheet_81 (by decide) (fun c_121 => ?_) (fun c_121 => ?_)
                  · replace hf := ifp_f c_121 hf
                    refine z_iload_n C 3 dX6_sheet_88 rfl rfl ?_
                    subst hf
                    exact hjj_117
                  · replace hf := ifp_t c_121 hf
                    refine z_iconst C 0 dX6_sheet_84 (by decide) ?_
                    refine z_goto C 89 dX6_sheet_85 (by decide) ?_
                    subst hf
                    exact hjj_117
                · replace hf := if_f c_115 hf
                  refine z_aload_n C 0 dX6_sheet_61 rfl rfl ?_
                  refine z_ldc C dX6_sheet_62 q1484 ?_
                  obtain ⟨r_122, σ_124, e_123, hf⟩ := bd_ hf
                  refine z_calli C (rest := []) (av := (.ref (w.2.2 0) :: [.int (-1000000001)])) (zPay.of q1488 q83) (fun H ls hH h2 => zInv_V C (As := [.int (-1000000001)]) (rest := []) (ci := 6) (T := TX6) (N := 24) rfl (zSee.fix ly_m0) hH q1485 q1487 qs32 (Or.inl rfl) q1488 mh_X6 np_X6_finding dX6_sheet_64) (tX6_finding l w e_123) (Nat.le_of_ble_eq_true rfl) (Nat.le_of_ble_eq_true rfl) ?_
                  obtain ⟨rfl, rfl⟩ := fin_ hf
                  exact z_iret C rfl dX6_sheet_67
            · replace hf := if_f c_107 hf
              refine z_aload_n C 0 dX6_sheet_44 rfl rfl ?_
              refine z_ldc C dX6_sheet_45 q1585 ?_
              obtain ⟨r_125, σ_127, e_126, hf⟩ := bd_ hf
              refine z_calli C (rest := []) (av := (.ref (w.2.2 0) :: [.int (-1000000003)])) (zPay.of q1488 q83) (fun H ls hH h2 => zInv_V C (As := [.int (-1000000003)]) (rest := []) (ci := 6) (T := TX6) (N := 24) rfl (zSee.fix ly_m0) hH q1485 q1487 qs32 (Or.inl rfl) q1488 mh_X6 np_X6_finding dX6_sheet_47) (tX6_finding l w e_126) (Nat.le_of_ble_eq_true rfl) (Nat.le_of_ble_eq_true rfl) ?_
              obtain ⟨rfl, rfl⟩ := fin_ hf
              exact z_iret C rfl dX6_sheet_50
        · replace hf := if_f c_88 hf
          refine z_iload_n C 2 dX6_sheet_23 rfl rfl ?_
          refine z_bipush C 32 dX6_sheet_24 (by decide) ?_
          refine z_icmp_eq C 36 dX6_sheet_26 (by decide) (fun c_128 => ?_) (fun c_128 => ?_)
          · replace hf := if_t c_128 hf
            refine z_iload_n C 2 dX6_sheet_36 rfl rfl ?_
            refine z_if_eq C 51 dX6_sheet_37 (by decide) (fun c_129 => ?_) (fun c_129 => ?_)
            · replace hf := if_t c_129 hf
              refine z_iload_n C 2 dX6_sheet_51 rfl rfl ?_
              refine z_if_eq C 68 dX6_sheet_52 (by decide) (fun c_130 => ?_) (fun c_130 => ?_)
              · replace hf := if_t c_130 hf
                refine z_aload_n C 0 dX6_sheet_68 rfl rfl ?_
                refine z_getR C ly_m0 (Cn := RX6) (T := TX6) (N := 24) rfl in_X6 20 (by decide) q1424 (Or.inl rfl) rfl dX6_sheet_69 ?_
                refine z_iload_n C 1 dX6_sheet_72 rfl rfl ?_
                refine z_iload_n C 2 dX6_sheet_73 rfl rfl ?_
                obtain ⟨g_131, hf⟩ := gd_ hf
                refine z_iastore C ly_m21 g_131 dX6_sheet_74 ?_
                refine z_aload_n C 0 dX6_sheet_75 rfl rfl ?_
                refine z_getR C ly_m0 (Cn := RX6) (T := TX6) (N := 24) rfl in_X6 21 (by decide) q1425 (Or.inl rfl) rfl dX6_sheet_76 ?_
                refine z_iload_n C 1 dX6_sheet_79 rfl rfl ?_
                refine z_iload_n C 2 dX6_sheet_80 rfl rfl ?_
                obtain ⟨j_132, ej_132, hf⟩ := nmo_ hf
                have hjj_132 : Z p l e (zRm 2 26 σ) s m args below meth c (zQ below w zLm σ (.returned (some (.int r))) σ' args s) w zLm (zA w zLm σ) 5 (sI σ 21 (p1.toNatClampNeg) p2) 89 [(0, .ref (w.2.2 0)), (1, .int p1), (2, .int p2), (3, .int p3)] [.int j_132, .int p1, .ref (w.2.2 22)] := by
                  refine z_iastore C ly_m22 g_131 dX6_sheet_89 ?_
                  refine z_iconst C 0 dX6_sheet_90 (by decide) ?_
                  refine z_istore C dX6_sheet_91 (by decide) rfl (lv' := [(4, .int 0), (0, .ref (w.2.2 0)), (1, .int p1), (2, .int p2), (3, .int p3)]) ?_
                  obtain ⟨x4_133, σ_134, e_135, hf⟩ := bd_ hf
                  refine z_lv (lv' := [(0, .ref (w.2.2 0)), (1, .int p1), (2, .int p2), (3, .int p3), (4, .int 0)]) [1, 2, 3, 4, 0] rfl ?_
                  refine lfX6_sheet_L93 C (Nat.le_of_ble_eq_true rfl) (Nat.le_of_ble_eq_true rfl) p1 p2 p3 ?_ _ _ _ e_135
                  refine z_iconst C 1 dX6_sheet_119 (by decide) ?_
                  obtain ⟨rfl, rfl⟩ := fin_ hf
                  exact z_iret C rfl dX6_sheet_120
                replace hf := ej_132
                refine z_if_ne C 88 dX6_sheet_81 (by decide) (fun c_136 => ?_) (fun c_136 => ?_)
                · replace hf := ifp_f c_136 hf
                  refine z_iload_n C 3 dX6_sheet_88 rfl rfl ?_
                  subst hf
                  exact hjj_132
                · replace hf := ifp_t c_136 hf
                  refine z_iconst C 0 dX6_sheet_84 (by decide) ?_
                  refine z_goto C 89 dX6_sheet_85 (by decide) ?_
                  subst hf
                  exact hjj_132
              · replace hf := if_f c_130 hf
                refine z_iload_n C 3 dX6_sheet_55 rfl rfl ?_
                refine z_bipush C 40 dX6_sheet_56 (by decide) ?_
                refine z_icmp_le C 68 dX6_sheet_58 (by decide) (fun c_137 => ?_) (fun c_137 => ?_)
                · replace hf := if_t c_137 hf
                  refine z_aload_n C 0 dX6_sheet_68 rfl rfl ?_
                  refine z_getR C ly_m0 (Cn := RX6) (T := TX6) (N := 24) rfl in_X6 20 (by decide) q1424 (Or.inl rfl) rfl dX6_sheet_69 ?_
                  refine z_iload_n C 1 dX6_sheet_72 rfl rfl ?_
                  refine z_iload_n C 2 dX6_sheet_73 rfl rfl ?_
                  obtain ⟨g_138, hf⟩ := gd_ hf
                  refine z_iastore C ly_m21 g_138 dX6_sheet_74 ?_
                  refine z_aload_n C 0 dX6_sheet_75 rfl rfl ?_
                  refine z_getR C ly_m0 (Cn := RX6) (T := TX6) (N := 24) rfl in_X6 21 (by decide) q1425 (Or.inl rfl) rfl dX6_sheet_76 ?_
                  refine z_iload_n C 1 dX6_sheet_79 rfl rfl ?_
                  refine z_iload_n C 2 dX6_sheet_80 rfl rfl ?_
                  obtain ⟨j_139, ej_139, hf⟩ := nmo_ hf
                  have hjj_139 : Z p l e (zRm 2 26 σ) s m args below meth c (zQ below w zLm σ (.returned (some (.int r))) σ' args s) w zLm (zA w zLm σ) 5 (sI σ 21 (p1.toNatClampNeg) p2) 89 [(0, .ref (w.2.2 0)), (1, .int p1), (2, .int p2), (3, .int p3)] [.int j_139, .int p1, .ref (w.2.2 22)] := by
                    refine z_iastore C ly_m22 g_138 dX6_sheet_89 ?_
                    refine z_iconst C 0 dX6_sheet_90 (by decide) ?_
                    refine z_istore C dX6_sheet_91 (by decide) rfl (lv' := [(4, .int 0), (0, .ref (w.2.2 0)), (1, .int p1), (2, .int p2), (3, .int p3)]) ?_
                    obtain ⟨x4_140, σ_141, e_142, hf⟩ := bd_ hf
                    refine z_lv (lv' := [(0, .ref (w.2.2 0)), (1, .int p1), (2, .int p2), (3, .int p3), (4, .int 0)]) [1, 2, 3, 4, 0] rfl ?_
                    refine lfX6_sheet_L93 C (Nat.le_of_ble_eq_true rfl) (Nat.le_of_ble_eq_true rfl) p1 p2 p3 ?_ _ _ _ e_142
                    refine z_iconst C 1 dX6_sheet_119 (by decide) ?_
                    obtain ⟨rfl, rfl⟩ := fin_ hf
                    exact z_iret C rfl dX6_sheet_120
                  replace hf := ej_139
                  refine z_if_ne C 88 dX6_sheet_81 (by decide) (fun c_143 => ?_) (fun c_143 => ?_)
                  · replace hf := ifp_f c_143 hf
                    refine z_iload_n C 3 dX6_sheet_88 rfl rfl ?_
                    subst hf
                    exact hjj_139
                  · replace hf := ifp_t c_143 hf
                    refine z_iconst C 0 dX6_sheet_84 (by decide) ?_
                    refine z_goto C 89 dX6_sheet_85 (by decide) ?_
                    subst hf
                    exact hjj_139
                · replace hf := if_f c_137 hf
                  refine z_aload_n C 0 dX6_sheet_61 rfl rfl ?_
                  refine z_ldc C dX6_sheet_62 q1484 ?_
                  obtain ⟨r_144, σ_146, e_145, hf⟩ := bd_ hf
                  refine z_calli C (rest := []) (av := (.ref (w.2.2 0) :: [.int (-1000000001)])) (zPay.of q1488 q83) (fun H ls hH h2 => zInv_V C (As := [.int (-1000000001)]) (rest := []) (ci := 6) (T := TX6) (N := 24) rfl (zSee.fix ly_m0) hH q1485 q1487 qs32 (Or.inl rfl) q1488 mh_X6 np_X6_finding dX6_sheet_64) (tX6_finding l w e_145) (Nat.le_of_ble_eq_true rfl) (Nat.le_of_ble_eq_true rfl) ?_
                  obtain ⟨rfl, rfl⟩ := fin_ hf
                  exact z_iret C rfl dX6_sheet_67
            · replace hf := if_f c_129 hf
              refine z_iload_n C 3 dX6_sheet_40 rfl rfl ?_
              refine z_if_ge C 51 dX6_sheet_41 (by decide) (fun c_147 => ?_) (fun c_147 => ?_)
              · replace hf := if_t c_147 hf
                refine z_iload_n C 2 dX6_sheet_51 rfl rfl ?_
                refine z_if_eq C 68 dX6_sheet_52 (by decide) (fun c_148 => ?_) (fun c_148 => ?_)
                · replace hf := if_t c_148 hf
                  refine z_aload_n C 0 dX6_sheet_68 rfl rfl ?_
                  refine z_getR C ly_m0 (Cn := RX6) (T := TX6) (N := 24) rfl in_X6 20 (by decide) q1424 (Or.inl rfl) rfl dX6_sheet_69 ?_
                  refine z_iload_n C 1 dX6_sheet_72 rfl rfl ?_
                  refine z_iload_n C 2 dX6_sheet_73 rfl rfl ?_
                  obtain ⟨g_149, hf⟩ := gd_ hf
                  refine z_iastore C ly_m21 g_149 dX6_sheet_74 ?_
                  refine z_aload_n C 0 dX6_sheet_75 rfl rfl ?_
                  refine z_getR C ly_m0 (Cn := RX6) (T := TX6) (N := 24) rfl in_X6 21 (by decide) q1425 (Or.inl rfl) rfl dX6_sheet_76 ?_
                  refine z_iload_n C 1 dX6_sheet_79 rfl rfl ?_
                  refine z_iload_n C 2 dX6_sheet_80 rfl rfl ?_
                  obtain ⟨j_150, ej_150, hf⟩ := nmo_ hf
                  have hjj_150 : Z p l e (zRm 2 26 σ) s m args below meth c (zQ below w zLm σ (.returned (some (.int r))) σ' args s) w zLm (zA w zLm σ) 5 (sI σ 21 (p1.toNatClampNeg) p2) 89 [(0, .ref (w.2.2 0)), (1, .int p1), (2, .int p2), (3, .int p3)] [.int j_150, .int p1, .ref (w.2.2 22)] := by
                    refine z_iastore C ly_m22 g_149 dX6_sheet_89 ?_
                    refine z_iconst C 0 dX6_sheet_90 (by decide) ?_
                    refine z_istore C dX6_sheet_91 (by decide) rfl (lv' := [(4, .int 0), (0, .ref (w.2.2 0)), (1, .int p1), (2, .int p2), (3, .int p3)]) ?_
                    obtain ⟨x4_151, σ_152, e_153, hf⟩ := bd_ hf
                    refine z_lv (lv' := [(0, .ref (w.2.2 0)), (1, .int p1), (2, .int p2), (3, .int p3), (4, .int 0)]) [1, 2, 3, 4, 0] rfl ?_
                    refine lfX6_sheet_L93 C (Nat.le_of_ble_eq_true rfl) (Nat.le_of_ble_eq_true rfl) p1 p2 p3 ?_ _ _ _ e_153
                    refine z_iconst C 1 dX6_sheet_119 (by decide) ?_
                    obtain ⟨rfl, rfl⟩ := fin_ hf
                    exact z_iret C rfl dX6_sheet_120
                  replace hf := ej_150
                  refine z_if_ne C 88 dX6_sheet_81 (by decide) (fun c_154 => ?_) (fun c_154 => ?_)
                  · replace hf := ifp_f c_154 hf
                    refine z_iload_n C 3 dX6_sheet_88 rfl rfl ?_
                    subst hf
                    exact hjj_150
                  · replace hf := ifp_t c_154 hf
                    refine z_iconst C 0 dX6_sheet_84 (by decide) ?_
                    refine z_goto C 89 dX6_sheet_85 (by decide) ?_
                    subst hf
                    exact hjj_150
                · replace hf := if_f c_148 hf
                  refine z_iload_n C 3 dX6_sheet_55 rfl rfl ?_
                  refine z_bipush C 40 dX6_sheet_56 (by decide) ?_
                  refine z_icmp_le C 68 dX6_sheet_58 (by decide) (fun c_155 => ?_) (fun c_155 => ?_)
                  · replace hf := if_t c_155 hf
                    refine z_aload_n C 0 dX6_sheet_68 rfl rfl ?_
                    refine z_getR C ly_m0 (Cn := RX6) (T := TX6) (N := 24) rfl in_X6 20 (by decide) q1424 (Or.inl rfl) rfl dX6_sheet_69 ?_
                    refine z_iload_n C 1 dX6_sheet_72 rfl rfl ?_
                    refine z_iload_n C 2 dX6_sheet_73 rfl rfl ?_
                    obtain ⟨g_156, hf⟩ := gd_ hf
                    refine z_iastore C ly_m21 g_156 dX6_sheet_74 ?_
                    refine z_aload_n C 0 dX6_sheet_75 rfl rfl ?_
                    refine z_getR C ly_m0 (Cn := RX6) (T := TX6) (N := 24) rfl in_X6 21 (by decide) q1425 (Or.inl rfl) rfl dX6_sheet_76 ?_
                    refine z_iload_n C 1 dX6_sheet_79 rfl rfl ?_
                    refine z_iload_n C 2 dX6_sheet_80 rfl rfl ?_
                    obtain ⟨j_157, ej_157, hf⟩ := nmo_ hf
                    have hjj_157 : Z p l e (zRm 2 26 σ) s m args below meth c (zQ below w zLm σ (.returned (some (.int r))) σ' args s) w zLm (zA w zLm σ) 5 (sI σ 21 (p1.toNatClampNeg) p2) 89 [(0, .ref (w.2.2 0)), (1, .int p1), (2, .int p2), (3, .int p3)] [.int j_157, .int p1, .ref (w.2.2 22)] := by
                      refine z_iastore C ly_m22 g_156 dX6_sheet_89 ?_
                      refine z_iconst C 0 dX6_sheet_90 (by decide) ?_
                      refine z_istore C dX6_sheet_91 (by decide) rfl (lv' := [(4, .int 0), (0, .ref (w.2.2 0)), (1, .int p1), (2, .int p2), (3, .int p3)]) ?_
                      obtain ⟨x4_158, σ_159, e_160, hf⟩ := bd_ hf
                      refine z_lv (lv' := [(0, .ref (w.2.2 0)), (1, .int p1), (2, .int p2), (3, .int p3), (4, .int 0)]) [1, 2, 3, 4, 0] rfl ?_
                      refine lfX6_sheet_L93 C (Nat.le_of_ble_eq_true rfl) (Nat.le_of_ble_eq_true rfl) p1 p2 p3 ?_ _ _ _ e_160
                      refine z_iconst C 1 dX6_sheet_119 (by decide) ?_
                      obtain ⟨rfl, rfl⟩ := fin_ hf
                      exact z_iret C rfl dX6_sheet_120
                    replace hf := ej_157
                    refine z_if_ne C 88 dX6_sheet_81 (by decide) (fun c_161 => ?_) (fun c_161 => ?_)
                    · replace hf := ifp_f c_161 hf
                      refine z_iload_n C 3 dX6_sheet_88 rfl rfl ?_
                      subst hf
                      exact hjj_157
                    · replace hf := ifp_t c_161 hf
                      refine z_iconst C 0 dX6_sheet_84 (by decide) ?_
                      refine z_goto C 89 dX6_sheet_85 (by decide) ?_
                      subst hf
                      exact hjj_157
                  · replace hf := if_f c_155 hf
                    refine z_aload_n C 0 dX6_sheet_61 rfl rfl ?_
                    refine z_ldc C dX6_sheet_62 q1484 ?_
                    obtain ⟨r_162, σ_164, e_163, hf⟩ := bd_ hf
                    refine z_calli C (rest := []) (av := (.ref (w.2.2 0) :: [.int (-1000000001)])) (zPay.of q1488 q83) (fun H ls hH h2 => zInv_V C (As := [.int (-1000000001)]) (rest := []) (ci := 6) (T := TX6) (N := 24) rfl (zSee.fix ly_m0) hH q1485 q1487 qs32 (Or.inl rfl) q1488 mh_X6 np_X6_finding dX6_sheet_64) (tX6_finding l w e_163) (Nat.le_of_ble_eq_true rfl) (Nat.le_of_ble_eq_true rfl) ?_
                    obtain ⟨rfl, rfl⟩ := fin_ hf
                    exact z_iret C rfl dX6_sheet_67
              · replace hf := if_f c_147 hf
                refine z_aload_n C 0 dX6_sheet_44 rfl rfl ?_
                refine z_ldc C dX6_sheet_45 q1585 ?_
                obtain ⟨r_165, σ_167, e_166, hf⟩ := bd_ hf
                refine z_calli C (rest := []) (av := (.ref (w.2.2 0) :: [.int (-1000000003)])) (zPay.of q1488 q83) (fun H ls hH h2 => zInv_V C (As := [.int (-1000000003)]) (rest := []) (ci := 6) (T := TX6) (N := 24) rfl (zSee.fix ly_m0) hH q1485 q1487 qs32 (Or.inl rfl) q1488 mh_X6 np_X6_finding dX6_sheet_47) (tX6_finding l w e_166) (Nat.le_of_ble_eq_true rfl) (Nat.le_of_ble_eq_true rfl) ?_
                obtain ⟨rfl, rfl⟩ := fin_ hf
                exact z_iret C rfl dX6_sheet_50
          · replace hf := if_f c_128 hf
            refine z_aload_n C 0 dX6_sheet_29 rfl rfl ?_
            refine z_ldc C dX6_sheet_30 q1484 ?_
            obtain ⟨r_168, σ_170, e_169, hf⟩ := bd_ hf
            refine z_calli C (rest := []) (av := (.ref (w.2.2 0) :: [.int (-1000000001)])) (zPay.of q1488 q83) (fun H ls hH h2 => zInv_V C (As := [.int (-1000000001)]) (rest := []) (ci := 6) (T := TX6) (N := 24) rfl (zSee.fix ly_m0) hH q1485 q1487 qs32 (Or.inl rfl) q1488 mh_X6 np_X6_finding dX6_sheet_32) (tX6_finding l w e_169) (Nat.le_of_ble_eq_true rfl) (Nat.le_of_ble_eq_true rfl) ?_
            obtain ⟨rfl, rfl⟩ := fin_ hf
            exact z_iret C rfl dX6_sheet_35
