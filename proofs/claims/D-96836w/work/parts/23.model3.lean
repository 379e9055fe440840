/-! the reference, walked (written by gen/main_m.py) -/
def fX6_set (σ : ZS) (p1 : Int32) (p2 : Int32) : Option (Int32 × ZS) := nm (if p1 = 0 then (fX6_isYear p2) else (if p1 = 1 then (fX6_within p2 0 99) else (if p1 = 2 then (if (fX6_within p2 0 ((1 <<< ((σ.1 1 (1 : Int32).toNatClampNeg) &&& 31)) - 1)) = 0 then 0 else 1) else 0))) (fun (j_1 : Int32) => bd (if j_1 = 0 then (bd (fX6_finding σ (-1000000001)) (fun r_6 σ_8 => some (r_6, σ_8))) else (bd (fX6_turn σ (3 + p1) p2) (fun r_9 σ_11 => some (r_9, σ_11)))) (fun (j_2 : Int32) σ_3 => some (j_2, σ_3)))
set_option maxHeartbeats 4000000 in
set_option maxRecDepth 100000 in
theorem tX6_set (l : Launch) (w : ZW) {σ σ' : ZS} {p1 : Int32} {p2 : Int32} {r : Int32} (hf : fX6_set σ p1 p2 = some (r, σ')) : zC l w zLm yX6_set (ws_ yX6_set cX6_set 4 (some .int)) 2 26 [.ref (w.2.2 0), .int p1, .int p2] σ (.returned (some (.int r))) σ' := by
  refine zC.of (plainFor_of_name (by decide)) (Nat.le_of_ble_eq_true rfl) ?_
  intro p e s m args below meth c C hnm
  show Z p l e _ s m args below meth c _ w _ _ 4 σ 0 [(0, .ref (w.2.2 0)), (1, .int p1), (2, .int p2)] []
  unfold fX6_set at hf
  refine z_iload_n C 1 dX6_set_0 rfl rfl ?_
  obtain ⟨j_1, ej_1, hf⟩ := nmo_ hf
  have hjj_1 : Z p l e (zRm 2 26 σ) s m args below meth c (zQ below w zLm σ (.returned (some (.int r))) σ' args s) w zLm (zA w zLm σ) 4 σ 54 [(0, .ref (w.2.2 0)), (1, .int p1), (2, .int p2)] [.int j_1] := by
    refine z_istore_n C dX6_set_54 rfl (by decide) rfl (lv' := [(3, .int j_1), (0, .ref (w.2.2 0)), (1, .int p1), (2, .int p2)]) ?_
    refine z_iload_n C 0 dX6_set_55 rfl rfl ?_
    obtain ⟨j_2, σ_3, e_4, hf⟩ := bd_ hf
    have hje_4 : Z p l e (zRm 2 26 σ) s m args below meth c (zQ below w zLm σ (.returned (some (.int r))) σ' args s) w zLm (zA w zLm σ) 4 σ_3 76 [(0, .ref (w.2.2 0)), (1, .int p1), (2, .int p2), (3, .int j_1)] [.int j_2] := by
      obtain ⟨rfl, rfl⟩ := fin_ hf
      exact z_iret C rfl dX6_set_76
    replace hf := e_4
    refine z_if_eq C 70 dX6_set_56 (by decide) (fun c_5 => ?_) (fun c_5 => ?_)
    · replace hf := if_t c_5 hf
      refine z_aload_n C 1 dX6_set_70 rfl rfl ?_
      refine z_ldc C dX6_set_71 q1484 ?_
      obtain ⟨r_6, σ_8, e_7, hf⟩ := bd_ hf
      refine z_calli C (rest := []) (av := (.ref (w.2.2 0) :: [.int (-1000000001)])) (zPay.of q1488 q83) (fun H ls hH h2 => zInv_V C (As := [.int (-1000000001)]) (rest := []) (ci := 6) (T := TX6) (N := 24) rfl (zSee.fix ly_m0) hH q1485 q1487 qs32 (Or.inl rfl) q1488 mh_X6 np_X6_finding dX6_set_73) (tX6_finding l w e_7) (Nat.le_of_ble_eq_true rfl) (Nat.le_of_ble_eq_true rfl) ?_
      obtain ⟨rfl, rfl⟩ := fin_ hf
      exact z_lv [1, 2, 3, 0] rfl hje_4
    · replace hf := if_f c_5 hf
      refine z_aload_n C 1 dX6_set_59 rfl rfl ?_
      refine z_iconst C 3 dX6_set_60 (by decide) ?_
      refine z_iload_n C 2 dX6_set_61 rfl rfl ?_
      refine z_iadd C dX6_set_62 ?_
      refine z_iload_n C 3 dX6_set_63 rfl rfl ?_
      obtain ⟨r_9, σ_11, e_10, hf⟩ := bd_ hf
      refine z_calli C (rest := []) (av := (.ref (w.2.2 0) :: [.int (3 + p1), .int p2])) (zPay.of q1403 q83) (fun H ls hH h2 => zInv_V C (As := [.int (3 + p1), .int p2]) (rest := []) (ci := 6) (T := TX6) (N := 24) rfl (zSee.fix ly_m0) hH q1400 q1402 qs31 (Or.inl rfl) q1403 mh_X6 np_X6_turn dX6_set_64) (tX6_turn l w e_10) (Nat.le_of_ble_eq_true rfl) (Nat.le_of_ble_eq_true rfl) ?_
      refine z_goto C 76 dX6_set_67 (by decide) ?_
      obtain ⟨rfl, rfl⟩ := fin_ hf
      exact z_lv [1, 2, 3, 0] rfl hje_4
  replace hf := ej_1
  refine z_if_ne C 11 dX6_set_1 (by decide) (fun c_12 => ?_) (fun c_12 => ?_)
  · replace hf := ifp_f c_12 hf
    refine z_iload_n C 1 dX6_set_11 rfl rfl ?_
    refine z_iconst C 1 dX6_set_12 (by decide) ?_
    refine z_icmp_ne C 26 dX6_set_13 (by decide) (fun c_13 => ?_) (fun c_13 => ?_)
    · replace hf := ifp_f c_13 hf
      refine z_iload_n C 1 dX6_set_26 rfl rfl ?_
      refine z_iconst C 2 dX6_set_27 (by decide) ?_
      refine z_icmp_ne C 53 dX6_set_28 (by decide) (fun c_14 => ?_) (fun c_14 => ?_)
      · replace hf := ifp_f c_14 hf
        refine z_iconst C 0 dX6_set_53 (by decide) ?_
        subst hf
        exact hjj_1
      · replace hf := ifp_t c_14 hf
        refine z_iload_n C 2 dX6_set_31 rfl rfl ?_
        refine z_iconst C 0 dX6_set_32 (by decide) ?_
        refine z_iconst C 1 dX6_set_33 (by decide) ?_
        refine z_aload_n C 0 dX6_set_34 rfl rfl ?_
        refine z_getR C ly_m0 (Cn := RX6) (T := TX6) (N := 24) rfl in_X6 0 (by decide) q1404 (Or.inl rfl) rfl dX6_set_35 ?_
        refine z_iconst C 1 dX6_set_38 (by decide) ?_
        refine z_ialoadF C ly_m1 (by decide) dX6_set_39 ?_
        refine z_ishl C dX6_set_40 ?_
        refine z_iconst C 1 dX6_set_41 (by decide) ?_
        refine z_isub C dX6_set_42 ?_
        refine z_calli C (rest := []) (av := [.int p2, .int 0, .int ((1 <<< ((σ.1 1 (1 : Int32).toNatClampNeg) &&& 31)) - 1)]) (zPay.of q1483 q83) (fun H ls hH h2 => zInv_S C (As := [.int p2, .int 0, .int ((1 <<< ((σ.1 1 (1 : Int32).toNatClampNeg) &&& 31)) - 1)]) (rest := []) q1481 q1482 q83 (Or.inl rfl) q1483 mh_X6 np_X6_within dX6_set_43) (tX6_within l w zLm σ p2 0 ((1 <<< ((σ.1 1 (1 : Int32).toNatClampNeg) &&& 31)) - 1)) (Nat.le_of_ble_eq_true rfl) (Nat.le_of_ble_eq_true rfl) ?_
        refine z_if_eq C 53 dX6_set_46 (by decide) (fun c_15 => ?_) (fun c_15 => ?_)
        · replace hf := ifp_t c_15 hf
          refine z_iconst C 0 dX6_set_53 (by decide) ?_
          subst hf
          exact hjj_1
        · replace hf := ifp_f c_15 hf
          refine z_iconst C 1 dX6_set_49 (by decide) ?_
          refine z_goto C 54 dX6_set_50 (by decide) ?_
          subst hf
          exact hjj_1
    · replace hf := ifp_t c_13 hf
      refine z_iload_n C 2 dX6_set_16 rfl rfl ?_
      refine z_iconst C 0 dX6_set_17 (by decide) ?_
      refine z_bipush C 99 dX6_set_18 (by decide) ?_
      refine z_calli C (rest := []) (av := [.int p2, .int 0, .int 99]) (zPay.of q1483 q83) (fun H ls hH h2 => zInv_S C (As := [.int p2, .int 0, .int 99]) (rest := []) q1481 q1482 q83 (Or.inl rfl) q1483 mh_X6 np_X6_within dX6_set_20) (tX6_within l w zLm σ p2 0 99) (Nat.le_of_ble_eq_true rfl) (Nat.le_of_ble_eq_true rfl) ?_
      refine z_goto C 54 dX6_set_23 (by decide) ?_
      subst hf
      exact hjj_1
  · replace hf := ifp_t c_12 hf
    refine z_iload_n C 2 dX6_set_4 rfl rfl ?_
    refine z_calli C (rest := []) (av := [.int p2]) (zPay.of q1638 q83) (fun H ls hH h2 => zInv_S C (As := [.int p2]) (rest := []) q1636 q1637 q83 (Or.inl rfl) q1638 mh_X6 np_X6_isYear dX6_set_5) (tX6_isYear l w zLm σ p2) (Nat.le_of_ble_eq_true rfl) (Nat.le_of_ble_eq_true rfl) ?_
    refine z_goto C 54 dX6_set_8 (by decide) ?_
    subst hf
    exact hjj_1
def fX6_ship (σ : ZS) (p1 : Int32) (p2 : Int32) (p3 : Int32) : Option (Int32 × ZS) := if (fX6_isKindM p1) = 0 then (bd (fX6_finding σ (-1000000001)) (fun r_2 σ_4 => some (r_2, σ_4))) else (if (fX6_isDigit p2) = 0 then (bd (fX6_finding σ (-1000000001)) (fun r_6 σ_8 => some (r_6, σ_8))) else (if (fX6_isCell σ p3) = 0 then (bd (fX6_finding σ (-1000000001)) (fun r_20 σ_22 => some (r_20, σ_22))) else (bd (if (σ.1 1 (2 : Int32).toNatClampNeg) = 7 then (bd (fX6_finding σ (-1000000004)) (fun r_17 σ_19 => some (r_17, σ_19))) else (bd (fX6_shipComes σ p1 p2 p3) (fun r_14 σ_16 => some (r_14, σ_16)))) (fun (j_10 : Int32) σ_11 => some (j_10, σ_11)))))
set_option maxHeartbeats 4000000 in
set_option maxRecDepth 100000 in
theorem tX6_ship (l : Launch) (w : ZW) {σ σ' : ZS} {p1 : Int32} {p2 : Int32} {p3 : Int32} {r : Int32} (hf : fX6_ship σ p1 p2 p3 = some (r, σ')) : zC l w zLm yX6_ship (ws_ yX6_ship cX6_ship 4 (some .int)) 2 30 [.ref (w.2.2 0), .int p1, .int p2, .int p3] σ (.returned (some (.int r))) σ' := by
  refine zC.of (plainFor_of_name (by decide)) (Nat.le_of_ble_eq_true rfl) ?_
  intro p e s m args below meth c C hnm
  show Z p l e _ s m args below meth c _ w _ _ 4 σ 0 [(0, .ref (w.2.2 0)), (1, .int p1), (2, .int p2), (3, .int p3)] []
  unfold fX6_ship at hf
  refine z_iload_n C 1 dX6_ship_0 rfl rfl ?_
  refine z_calli C (rest := []) (av := [.int p1]) (zPay.of q1649 q83) (fun H ls hH h2 => zInv_S C (As := [.int p1]) (rest := []) q1647 q1648 q83 (Or.inl rfl) q1649 mh_X6 np_X6_isKindM dX6_ship_1) (tX6_isKindM l w zLm σ p1) (Nat.le_of_ble_eq_true rfl) (Nat.le_of_ble_eq_true rfl) ?_
  refine z_if_eq C 22 dX6_ship_4 (by decide) (fun c_1 => ?_) (fun c_1 => ?_)
  · replace hf := if_t c_1 hf
    refine z_aload_n C 0 dX6_ship_22 rfl rfl ?_
    refine z_ldc C dX6_ship_23 q1484 ?_
    obtain ⟨r_2, σ_4, e_3, hf⟩ := bd_ hf
    refine z_calli C (rest := []) (av := (.ref (w.2.2 0) :: [.int (-1000000001)])) (zPay.of q1488 q83) (fun H ls hH h2 => zInv_V C (As := [.int (-1000000001)]) (rest := []) (ci := 6) (T := TX6) (N := 24) rfl (zSee.fix ly_m0) hH q1485 q1487 qs32 (Or.inl rfl) q1488 mh_X6 np_X6_finding dX6_ship_25) (tX6_finding l w e_3) (Nat.le_of_ble_eq_true rfl) (Nat.le_of_ble_eq_true rfl) ?_
    obtain ⟨rfl, rfl⟩ := fin_ hf
    exact z_iret C rfl dX6_ship_28
  · replace hf := if_f c_1 hf
    refine z_iload_n C 2 dX6_ship_7 rfl rfl ?_
    refine z_calli C (rest := []) (av := [.int p2]) (zPay.of q1652 q83) (fun H ls hH h2 => zInv_S C (As := [.int p2]) (rest := []) q1650 q1651 q83 (Or.inl rfl) q1652 mh_X6 np_X6_isDigit dX6_ship_8) (tX6_isDigit l w zLm σ p2) (Nat.le_of_ble_eq_true rfl) (Nat.le_of_ble_eq_true rfl) ?_
    refine z_if_eq C 22 dX6_ship_11 (by decide) (fun c_5 => ?_) (fun c_5 => ?_)
    · replace hf := if_t c_5 hf
      refine z_aload_n C 0 dX6_ship_22 rfl rfl ?_
      refine z_ldc C dX6_ship_23 q1484 ?_
      obtain ⟨r_6, σ_8, e_7, hf⟩ := bd_ hf
      refine z_calli C (rest := []) (av := (.ref (w.2.2 0) :: [.int (-1000000001)])) (zPay.of q1488 q83) (fun H ls hH h2 => zInv_V C (As := [.int (-1000000001)]) (rest := []) (ci := 6) (T := TX6) (N := 24) rfl (zSee.fix ly_m0) hH q1485 q1487 qs32 (Or.inl rfl) q1488 mh_X6 np_X6_finding dX6_ship_25) (tX6_finding l w e_7) (Nat.le_of_ble_eq_true rfl) (Nat.le_of_ble_eq_true rfl) ?_
      obtain ⟨rfl, rfl⟩ := fin_ hf
      exact z_iret C rfl dX6_ship_28
    · replace hf := if_f c_5 hf
      refine z_aload_n C 0 dX6_ship_14 rfl rfl ?_
      refine z_iload_n C 3 dX6_ship_15 rfl rfl ?_
      refine z_calli C (rest := []) (av := (.ref (w.2.2 0) :: [.int p3])) (zPay.of q1593 q83) (fun H ls hH h2 => zInv_V C (As := [.int p3]) (rest := []) (ci := 6) (T := TX6) (N := 24) rfl (zSee.fix ly_m0) hH q1590 q1592 qs46 (Or.inl rfl) q1593 mh_X6 np_X6_isCell dX6_ship_16) (tX6_isCell l w σ p3) (Nat.le_of_ble_eq_true rfl) (Nat.le_of_ble_eq_true rfl) ?_
      refine z_if_ne C 29 dX6_ship_19 (by decide) (fun c_9 => ?_) (fun c_9 => ?_)
      · replace hf := if_f c_9 hf
        refine z_aload_n C 0 dX6_ship_29 rfl rfl ?_
        refine z_getR C ly_m0 (Cn := RX6) (T := TX6) (N := 24) rfl in_X6 0 (by decide) q1404 (Or.inl rfl) rfl dX6_ship_30 ?_
        refine z_iconst C 2 dX6_ship_33 (by decide) ?_
        refine z_ialoadF C ly_m1 (by decide) dX6_ship_34 ?_
        refine z_bipush C 7 dX6_ship_35 (by decide) ?_
        obtain ⟨j_10, σ_11, e_12, hf⟩ := bd_ hf
        have hje_12 : Z p l e (zRm 2 30 σ) s m args below meth c (zQ below w zLm σ (.returned (some (.int r))) σ' args s) w zLm (zA w zLm σ) 4 σ_11 56 [(0, .ref (w.2.2 0)), (1, .int p1), (2, .int p2), (3, .int p3)] [.int j_10] := by
          obtain ⟨rfl, rfl⟩ := fin_ hf
          exact z_iret C rfl dX6_ship_56
        replace hf := e_12
        refine z_icmp_ne C 49 dX6_ship_37 (by decide) (fun c_13 => ?_) (fun c_13 => ?_)
        · replace hf := if_f c_13 hf
          refine z_aload_n C 0 dX6_ship_49 rfl rfl ?_
          refine z_iload_n C 1 dX6_ship_50 rfl rfl ?_
          refine z_iload_n C 2 dX6_ship_51 rfl rfl ?_
          refine z_iload_n C 3 dX6_ship_52 rfl rfl ?_
          obtain ⟨r_14, σ_16, e_15, hf⟩ := bd_ hf
          refine z_calli C (rest := []) (av := (.ref (w.2.2 0) :: [.int p1, .int p2, .int p3])) (zPay.of q1656 q83) (fun H ls hH h2 => zInv_V C (As := [.int p1, .int p2, .int p3]) (rest := []) (ci := 6) (T := TX6) (N := 24) rfl (zSee.fix ly_m0) hH q1653 q1655 qs54 (Or.inl rfl) q1656 mh_X6 np_X6_shipComes dX6_ship_53) (tX6_shipComes l w e_15) (Nat.le_of_ble_eq_true rfl) (Nat.le_of_ble_eq_true rfl) ?_
          obtain ⟨rfl, rfl⟩ := fin_ hf
          exact hje_12
        · replace hf := if_t c_13 hf
          refine z_aload_n C 0 dX6_ship_40 rfl rfl ?_
          refine z_ldc C dX6_ship_41 q1490 ?_
          obtain ⟨r_17, σ_19, e_18, hf⟩ := bd_ hf
          refine z_calli C (rest := []) (av := (.ref (w.2.2 0) :: [.int (-1000000004)])) (zPay.of q1488 q83) (fun H ls hH h2 => zInv_V C (As := [.int (-1000000004)]) (rest := []) (ci := 6) (T := TX6) (N := 24) rfl (zSee.fix ly_m0) hH q1485 q1487 qs32 (Or.inl rfl) q1488 mh_X6 np_X6_finding dX6_ship_43) (tX6_finding l w e_18) (Nat.le_of_ble_eq_true rfl) (Nat.le_of_ble_eq_true rfl) ?_
          refine z_goto C 56 dX6_ship_46 (by decide) ?_
          obtain ⟨rfl, rfl⟩ := fin_ hf
          exact hje_12
      · replace hf := if_t c_9 hf
        refine z_aload_n C 0 dX6_ship_22 rfl rfl ?_
        refine z_ldc C dX6_ship_23 q1484 ?_
        obtain ⟨r_20, σ_22, e_21, hf⟩ := bd_ hf
        refine z_calli C (rest := []) (av := (.ref (w.2.2 0) :: [.int (-1000000001)])) (zPay.of q1488 q83) (fun H ls hH h2 => zInv_V C (As := [.int (-1000000001)]) (rest := []) (ci := 6) (T := TX6) (N := 24) rfl (zSee.fix ly_m0) hH q1485 q1487 qs32 (Or.inl rfl) q1488 mh_X6 np_X6_finding dX6_ship_25) (tX6_finding l w e_21) (Nat.le_of_ble_eq_true rfl) (Nat.le_of_ble_eq_true rfl) ?_
        obtain ⟨rfl, rfl⟩ := fin_ hf
        exact z_iret C rfl dX6_ship_28
def fX6_isUnder_L2 (y0 : Int32) (y1 : Int32) : Nat → Int32 → Option (Int32)
  | 0, _ => none
  | n + 1, y2 => if y2 < 0 then (some y2) else (if y2 = y1 then (some y2) else (nm (fX6_above y2) (fun (x2_6 : Int32) => fX6_isUnder_L2 y0 y1 n x2_6)))
def fX6_isUnder (σ : ZS) (p1 : Int32) (p2 : Int32) : Option Int32 := bo (fX6_isUnder_L2 p1 p2 10000 p1) (fun x2_7 => nm (if x2_7 < 0 then 0 else 1) (fun (j_10 : Int32) => some j_10))
set_option maxHeartbeats 4000000 in
set_option maxRecDepth 100000 in
theorem lfX6_isUnder_L2 {p : Program} {l : Launch} {e : Env} {R : Room} {s : State} {m : MethodId} {args : Array Value} {below : List Frame} {meth : Method} {c : Code} {Q : State → Prop} {w : ZW} {A : Nat → Prop} {ret : Option FieldType} {hh : List (Nat × Nat × Nat × Nat)} (C : zCx p s m args meth c w zLm A 3 cX6_isUnder RX6 ret hh) (hfr : 1 ≤ R.frames) (hlo : 12 ≤ R.locals) (σ : ZS) (y0 : Int32) (y1 : Int32) {z2 : Int32} (hk : Z p l e R s m args below meth c Q w zLm A 3 σ 19 [(0, .int y0), (1, .int y1), (2, .int z2)] []) : ∀ (n : Nat) (y2 : Int32), fX6_isUnder_L2 y0 y1 n y2 = some z2 → Z p l e R s m args below meth c Q w zLm A 3 σ 2 [(0, .int y0), (1, .int y1), (2, .int y2)] [] := by
  intro n
  induction n with
  | zero => intro y2 hf; exact none_ hf
  | succ n ih =>
    intro y2 hf
    rw [fX6_isUnder_L2] at hf
    refine z_iload_n C 2 dX6_isUnder_2 rfl rfl ?_
    refine z_if_lt C 19 dX6_isUnder_3 (by decide) (fun c_4 => ?_) (fun c_4 => ?_)
    · replace hf := if_t c_4 hf
      obtain rfl := fino_ hf
      exact hk
    · replace hf := if_f c_4 hf
      refine z_iload_n C 2 dX6_isUnder_6 rfl rfl ?_
      refine z_iload_n C 1 dX6_isUnder_7 rfl rfl ?_
      refine z_icmp_eq C 19 dX6_isUnder_8 (by decide) (fun c_5 => ?_) (fun c_5 => ?_)
      · replace hf := if_t c_5 hf
        obtain rfl := fino_ hf
        exact hk
      · replace hf := if_f c_5 hf
        refine z_iload_n C 2 dX6_isUnder_11 rfl rfl ?_
        refine z_calli C (rest := []) (av := [.int y2]) (zPay.of q1686 q83) (fun H ls hH h2 => zInv_S C (As := [.int y2]) (rest := []) q1684 q1685 q83 (Or.inl rfl) q1686 mh_X6 np_X6_above dX6_isUnder_12) (tX6_above l w zLm σ y2) (Nat.le_trans (Nat.le_of_ble_eq_true rfl) hfr) (Nat.le_trans (Nat.le_of_ble_eq_true rfl) hlo) ?_
        obtain ⟨x2_6, ex2_6, hf⟩ := nmo_ hf
        refine z_top ex2_6 ?_
        refine z_istore_n C dX6_isUnder_15 rfl (by decide) rfl (lv' := [(2, .int x2_6), (0, .int y0), (1, .int y1)]) ?_
        refine z_goto C 2 dX6_isUnder_16 (by decide) ?_
        exact z_lv [1, 2, 0] rfl (ih _ hf)
set_option maxHeartbeats 4000000 in
set_option maxRecDepth 100000 in
theorem tX6_isUnder (l : Launch) (w : ZW) {σ : ZS} {p1 : Int32} {p2 : Int32} {r : Int32} (hf : fX6_isUnder σ p1 p2 = some r) : zC l w zLm yX6_isUnder (ws_ yX6_isUnder cX6_isUnder 3 (some .boolean)) 1 12 [.int p1, .int p2] σ (.returned (some (.int r))) σ := by
  refine zC.of (plainFor_of_name (by decide)) (Nat.le_of_ble_eq_true rfl) ?_
  intro p e s m args below meth c C hnm
  show Z p l e _ s m args below meth c _ w _ _ 3 σ 0 [(0, .int p1), (1, .int p2)] []
  unfold fX6_isUnder at hf
  refine z_iload_n C 0 dX6_isUnder_0 rfl rfl ?_
  refine z_istore_n C dX6_isUnder_1 rfl (by decide) rfl (lv' := [(2, .int p1), (0, .int p1), (1, .int p2)]) ?_
  obtain ⟨x2_7, e_9, hf⟩ := bo_ hf
  refine z_lv (lv' := [(0, .int p1), (1, .int p2), (2, .int p1)]) [1, 2, 0] rfl ?_
  refine lfX6_isUnder_L2 C (Nat.le_of_ble_eq_true rfl) (Nat.le_of_ble_eq_true rfl) σ p1 p2 ?_ _ _ e_9
  refine z_iload_n C 2 dX6_isUnder_19 rfl rfl ?_
  obtain ⟨j_10, ej_10, hf⟩ := nmo_ hf
  have hj_10 : j_10 = 0 ∨ j_10 = 1 := by rw [ej_10]; (repeat' split) <;> first | exact Or.inl rfl | exact Or.inr rfl
  have hjj_10 : Z p l e (zRm 1 12 σ) s m args below meth c (zQ below w zLm σ (.returned (some (.int r))) σ args s) w zLm (zA w zLm σ) 3 σ 28 [(0, .int p1), (1, .int p2), (2, .int x2_7)] [.int j_10] := by
    obtain rfl := fino_ hf
    exact z_iret C (b01 hj_10) dX6_isUnder_28
  replace hf := ej_10
  refine z_if_lt C 27 dX6_isUnder_20 (by decide) (fun c_11 => ?_) (fun c_11 => ?_)
  · replace hf := ifp_t c_11 hf
    refine z_iconst C 0 dX6_isUnder_27 (by decide) ?_
    subst hf
    exact hjj_10
  · replace hf := ifp_f c_11 hf
    refine z_iconst C 1 dX6_isUnder_23 (by decide) ?_
    refine z_goto C 28 dX6_isUnder_24 (by decide) ?_
    subst hf
    exact hjj_10
def fX6_lostNow_L4 (σ : ZS) : Nat → Int32 → Int32 → Option (Int32 × Int32)
  | 0, _, _ => none
  | n + 1, y1, y2 => if (σ.1 1 (2 : Int32).toNatClampNeg) ≤ y2 then (some (y1, y2)) else (bo (fX6_shipIs σ y2 4) (fun r_7 => nm (y1 ||| (r_7 <<< (y2 &&& 31))) (fun (x1_9 : Int32) => nm (y2 + 1) (fun (x2_10 : Int32) => fX6_lostNow_L4 σ n x1_9 x2_10))))
def fX6_lostNow (σ : ZS) : Option Int32 := bo (fX6_lostNow_L4 σ 10000 0 0) (fun uu13 => some (uu13.1))
set_option maxHeartbeats 4000000 in
set_option maxRecDepth 100000 in
theorem lfX6_lostNow_L4 {p : Program} {l : Launch} {e : Env} {R : Room} {s : State} {m : MethodId} {args : Array Value} {below : List Frame} {meth : Method} {c : Code} {Q : State → Prop} {w : ZW} {A : Nat → Prop} {ret : Option FieldType} {hh : List (Nat × Nat × Nat × Nat)} (C : zCx p s m args meth c w zLm A 3 cX6_lostNow RX6 ret hh) (hfr : 2 ≤ R.frames) (hlo : 29 ≤ R.locals) (σ : ZS) {z1 : Int32} {z2 : Int32} (hk : Z p l e R s m args below meth c Q w zLm A 3 σ 31 [(0, .ref (w.2.2 0)), (1, .int z1), (2, .int z2)] []) : ∀ (n : Nat) (y1 : Int32) (y2 : Int32), fX6_lostNow_L4 σ n y1 y2 = some (z1, z2) → Z p l e R s m args below meth c Q w zLm A 3 σ 4 [(0, .ref (w.2.2 0)), (1, .int y1), (2, .int y2)] [] := by
  intro n
  induction n with
  | zero => intro y1 y2 hf; exact none_ hf
  | succ n ih =>
    intro y1 y2 hf
    rw [fX6_lostNow_L4] at hf
    refine z_iload_n C 2 dX6_lostNow_4 rfl rfl ?_
    refine z_aload_n C 0 dX6_lostNow_5 rfl rfl ?_
    refine z_getR C ly_m0 (Cn := RX6) (T := TX6) (N := 24) rfl in_X6 0 (by decide) q1404 (Or.inl rfl) rfl dX6_lostNow_6 ?_
    refine z_iconst C 2 dX6_lostNow_9 (by decide) ?_
    refine z_ialoadF C ly_m1 (by decide) dX6_lostNow_10 ?_
    refine z_icmp_ge C 31 dX6_lostNow_11 (by decide) (fun c_6 => ?_) (fun c_6 => ?_)
    · replace hf := if_t c_6 hf
      have hf1 := fino_ hf
      simp only [Prod.mk.injEq] at hf1
      obtain ⟨rfl, rfl⟩ := hf1
      exact hk
    · replace hf := if_f c_6 hf
      refine z_iload_n C 1 dX6_lostNow_14 rfl rfl ?_
      refine z_aload_n C 0 dX6_lostNow_15 rfl rfl ?_
      refine z_iload_n C 2 dX6_lostNow_16 rfl rfl ?_
      refine z_iconst C 4 dX6_lostNow_17 (by decide) ?_
      obtain ⟨r_7, e_8, hf⟩ := bo_ hf
      refine z_calli C (rest := [.int y1]) (av := (.ref (w.2.2 0) :: [.int y2, .int 4])) (zPay.of q1628 q83) (fun H ls hH h2 => zInv_V C (As := [.int y2, .int 4]) (rest := [.int y1]) (ci := 6) (T := TX6) (N := 24) rfl (zSee.fix ly_m0) hH q1625 q1627 qs53 (Or.inl rfl) q1628 mh_X6 np_X6_shipIs dX6_lostNow_18) (tX6_shipIs l w e_8) (Nat.le_trans (Nat.le_of_ble_eq_true rfl) hfr) (Nat.le_trans (Nat.le_of_ble_eq_true rfl) hlo) ?_
      refine z_iload_n C 2 dX6_lostNow_21 rfl rfl ?_
      refine z_ishl C dX6_lostNow_22 ?_
      refine z_ior C dX6_lostNow_23 ?_
      obtain ⟨x1_9, ex1_9, hf⟩ := nmo_ hf
      refine z_top ex1_9 ?_
      refine z_istore_n C dX6_lostNow_24 rfl (by decide) rfl (lv' := [(1, .int x1_9), (0, .ref (w.2.2 0)), (2, .int y2)]) ?_
      obtain ⟨x2_10, ex2_10, hf⟩ := nmo_ hf
      refine z_iinc C x2_10 2 dX6_lostNow_25 rfl (by rw [ex2_10]; rfl) (by decide) rfl (lv' := [(2, .int x2_10), (1, .int x1_9), (0, .ref (w.2.2 0))]) ?_
      refine z_goto C 4 dX6_lostNow_28 (by decide) ?_
      exact z_lv [2, 1, 0] rfl (ih _ _ hf)
set_option maxHeartbeats 4000000 in
set_option maxRecDepth 100000 in
theorem tX6_lostNow (l : Launch) (w : ZW) {σ : ZS} {r : Int32} (hf : fX6_lostNow σ = some r) : zC l w zLm yX6_lostNow (ws_ yX6_lostNow cX6_lostNow 3 (some .int)) 2 29 [.ref (w.2.2 0)] σ (.returned (some (.int r))) σ := by
  refine zC.of (plainFor_of_name (by decide)) (Nat.le_of_ble_eq_true rfl) ?_
  intro p e s m args below meth c C hnm
  show Z p l e _ s m args below meth c _ w _ _ 3 σ 0 [(0, .ref (w.2.2 0))] []
  unfold fX6_lostNow at hf
  refine z_iconst C 0 dX6_lostNow_0 (by decide) ?_
  refine z_istore_n C dX6_lostNow_1 rfl (by decide) rfl (lv' := [(1, .int 0), (0, .ref (w.2.2 0))]) ?_
  refine z_iconst C 0 dX6_lostNow_2 (by decide) ?_
  refine z_istore_n C dX6_lostNow_3 rfl (by decide) rfl (lv' := [(2, .int 0), (1, .int 0), (0, .ref (w.2.2 0))]) ?_
  obtain ⟨⟨x1_11, x2_12⟩, e_14, hf⟩ := bo_ hf
  try dsimp only at hf
  refine z_lv (lv' := [(0, .ref (w.2.2 0)), (1, .int 0), (2, .int 0)]) [2, 1, 0] rfl ?_
  refine lfX6_lostNow_L4 C (Nat.le_of_ble_eq_true rfl) (Nat.le_of_ble_eq_true rfl) σ  ?_ _ _ _ e_14
  refine z_iload_n C 1 dX6_lostNow_31 rfl rfl ?_
  obtain rfl := fino_ hf
  exact z_iret C rfl dX6_lostNow_32
def fX6_sailsOf (σ : ZS) (p1 : Int32) : Option (Int32 × ZS) := bo (fX6_isUnder σ (σ.1 0 17) 1) (fun r_1 => bd (if r_1 = 0 then (some ((), σ)) else (bd (fX6_ran σ 20) (fun _ σ_13 => some ((), σ_13)))) (fun (_ : Unit) σ_3 => bd (fX6_ran σ_3 10) (fun _ σ_7 => nm (if r_1 = 0 then (p1 + (σ_7.1 0 18)) else ((p1 + (σ_7.1 0 18)) * 3)) (fun (j_8 : Int32) => some (j_8, σ_7)))))
set_option maxHeartbeats 4000000 in
set_option maxRecDepth 100000 in
theorem tX6_sailsOf (l : Launch) (w : ZW) {σ σ' : ZS} {p1 : Int32} {r : Int32} (hf : fX6_sailsOf σ p1 = some (r, σ')) : zC l w zLm yX6_sailsOf (ws_ yX6_sailsOf cX6_sailsOf 3 (some .int)) 2 26 [.ref (w.2.2 0), .int p1] σ (.returned (some (.int r))) σ' := by
  refine zC.of (plainFor_of_name (by decide)) (Nat.le_of_ble_eq_true rfl) ?_
  intro p e s m args below meth c C hnm
  show Z p l e _ s m args below meth c _ w _ _ 3 σ 0 [(0, .ref (w.2.2 0)), (1, .int p1)] []
  unfold fX6_sailsOf at hf
  refine z_aload_n C 0 dX6_sailsOf_0 rfl rfl ?_
  refine z_getI C ly_m0 (Cn := RX6) (T := TX6) (N := 24) rfl in_X6 17 (by decide) q1421 (Or.inl rfl) rfl dX6_sailsOf_1 ?_
  refine z_iconst C 1 dX6_sailsOf_4 (by decide) ?_
  obtain ⟨r_1, e_2, hf⟩ := bo_ hf
  refine z_calli C (rest := []) (av := [.int (σ.1 0 17), .int 1]) (zPay.of q1683 q83) (fun H ls hH h2 => zInv_S C (As := [.int (σ.1 0 17), .int 1]) (rest := []) q1681 q1682 q83 (Or.inl rfl) q1683 mh_X6 np_X6_isUnder dX6_sailsOf_5) (tX6_isUnder l w e_2) (Nat.le_of_ble_eq_true rfl) (Nat.le_of_ble_eq_true rfl) ?_
  refine z_istore_n C dX6_sailsOf_8 rfl (by decide) rfl (lv' := [(2, .int r_1), (0, .ref (w.2.2 0)), (1, .int p1)]) ?_
  refine z_iload_n C 0 dX6_sailsOf_9 rfl rfl ?_
  obtain ⟨⟨⟩, σ_3, e_4, hf⟩ := bd_ hf
  have hje_4 : Z p l e (zRm 2 26 σ) s m args below meth c (zQ below w zLm σ (.returned (some (.int r))) σ' args s) w zLm (zA w zLm σ) 3 σ_3 19 [(0, .ref (w.2.2 0)), (1, .int p1), (2, .int r_1)] [] := by
    refine z_aload_n C 0 dX6_sailsOf_19 rfl rfl ?_
    refine z_bipush C 10 dX6_sailsOf_20 (by decide) ?_
    obtain ⟨⟨⟩, σ_7, e_6, hf⟩ := bd_ hf
    refine z_callv C (rest := []) (av := (.ref (w.2.2 0) :: [.int 10])) (zPay.of q1809 q83) (fun H ls hH h2 => zInv_V C (As := [.int 10]) (rest := []) (ci := 6) (T := TX6) (N := 24) rfl (zSee.fix ly_m0) hH q1806 q1808 qs68 (Or.inl rfl) q1809 mh_X6 np_X6_ran dX6_sailsOf_22) (tX6_ran l w e_6) (Nat.le_of_ble_eq_true rfl) (Nat.le_of_ble_eq_true rfl) ?_
    refine z_iload_n C 2 dX6_sailsOf_25 rfl rfl ?_
    obtain ⟨j_8, ej_8, hf⟩ := nmo_ hf
    have hjj_8 : Z p l e (zRm 2 26 σ) s m args below meth c (zQ below w zLm σ (.returned (some (.int r))) σ' args s) w zLm (zA w zLm σ) 3 σ_7 46 [(0, .ref (w.2.2 0)), (1, .int p1), (2, .int r_1)] [.int j_8] := by
      obtain ⟨rfl, rfl⟩ := fin_ hf
      exact z_iret C rfl dX6_sailsOf_46
    replace hf := ej_8
    refine z_if_eq C 40 dX6_sailsOf_26 (by decide) (fun c_9 => ?_) (fun c_9 => ?_)
    · replace hf := ifp_t c_9 hf
      refine z_iload_n C 1 dX6_sailsOf_40 rfl rfl ?_
      refine z_aload_n C 0 dX6_sailsOf_41 rfl rfl ?_
      refine z_getI C ly_m0 (Cn := RX6) (T := TX6) (N := 24) rfl in_X6 18 (by decide) q1422 (Or.inl rfl) rfl dX6_sailsOf_42 ?_
      refine z_iadd C dX6_sailsOf_45 ?_
      subst hf
      exact hjj_8
    · replace hf := ifp_f c_9 hf
      refine z_iload_n C 1 dX6_sailsOf_29 rfl rfl ?_
      refine z_aload_n C 0 dX6_sailsOf_30 rfl rfl ?_
      refine z_getI C ly_m0 (Cn := RX6) (T := TX6) (N := 24) rfl in_X6 18 (by decide) q1422 (Or.inl rfl) rfl dX6_sailsOf_31 ?_
      refine z_iadd C dX6_sailsOf_34 ?_
      refine z_iconst C 3 dX6_sailsOf_35 (by decide) ?_
      refine z_imul C dX6_sailsOf_36 ?_
      refine z_goto C 46 dX6_sailsOf_37 (by decide) ?_
      subst hf
      exact hjj_8
  replace hf := e_4
  refine z_if_eq C 19 dX6_sailsOf_10 (by decide) (fun c_10 => ?_) (fun c_10 => ?_)
  · replace hf := if_t c_10 hf
    obtain ⟨-, rfl⟩ := fin_ hf
    exact z_lv [1, 2, 0] rfl hje_4
  · replace hf := if_f c_10 hf
    refine z_aload_n C 1 dX6_sailsOf_13 rfl rfl ?_
    refine z_bipush C 20 dX6_sailsOf_14 (by decide) ?_
    obtain ⟨⟨⟩, σ_13, e_12, hf⟩ := bd_ hf
    refine z_callv C (rest := []) (av := (.ref (w.2.2 0) :: [.int 20])) (zPay.of q1809 q83) (fun H ls hH h2 => zInv_V C (As := [.int 20]) (rest := []) (ci := 6) (T := TX6) (N := 24) rfl (zSee.fix ly_m0) hH q1806 q1808 qs68 (Or.inl rfl) q1809 mh_X6 np_X6_ran dX6_sailsOf_16) (tX6_ran l w e_12) (Nat.le_of_ble_eq_true rfl) (Nat.le_of_ble_eq_true rfl) ?_
    obtain ⟨-, rfl⟩ := fin_ hf
    exact z_lv [1, 2, 0] rfl hje_4
def fX6_soundsOf (σ : ZS) (p1 : Int32) : Option (Int32 × ZS) := bd (if (σ.1 0 17) = 6 then (bd (fX6_ran σ 70) (fun _ σ_21 => some ((), σ_21))) else (some ((), σ))) (fun (_ : Unit) σ_1 => bo (fX6_isUnder σ_1 (σ_1.1 0 17) 3) (fun r_3 => bd (if r_3 = 0 then (some ((), σ_1)) else (bd (fX6_ran σ_1 40) (fun _ σ_17 => some ((), σ_17)))) (fun (_ : Unit) σ_5 => bd (fX6_ran σ_5 12) (fun _ σ_9 => nm (if r_3 = 0 then (p1 - (σ_9.1 0 19)) else (-(p1 - (σ_9.1 0 19)))) (fun (j_10 : Int32) => nm (if (σ_9.1 0 17) = 6 then (j_10 ^^^ (σ_9.1 0 18)) else j_10) (fun (j_11 : Int32) => some (j_11, σ_9)))))))
set_option maxHeartbeats 4000000 in
set_option maxRecDepth 100000 in
theorem tX6_soundsOf (l : Launch) (w : ZW) {σ σ' : ZS} {p1 : Int32} {r : Int32} (hf : fX6_soundsOf σ p1 = some (r, σ')) : zC l w zLm yX6_soundsOf (ws_ yX6_soundsOf cX6_soundsOf 4 (some .int)) 2 26 [.ref (w.2.2 0), .int p1] σ (.returned (some (.int r))) σ' := by
  refine zC.of (plainFor_of_name (by decide)) (Nat.le_of_ble_eq_true rfl) ?_
  intro p e s m args below meth c C hnm
  show Z p l e _ s m args below meth c _ w _ _ 4 σ 0 [(0, .ref (w.2.2 0)), (1, .int p1)] []
  unfold fX6_soundsOf at hf
  refine z_aload_n C 0 dX6_soundsOf_0 rfl rfl ?_
  refine z_getI C ly_m0 (Cn := RX6) (T := TX6) (N := 24) rfl in_X6 17 (by decide) q1421 (Or.inl rfl) rfl dX6_soundsOf_1 ?_
  refine z_bipush C 6 dX6_soundsOf_4 (by decide) ?_
  obtain ⟨⟨⟩, σ_1, e_2, hf⟩ := bd_ hf
  have hje_2 : Z p l e (zRm 2 26 σ) s m args below meth c (zQ below w zLm σ (.returned (some (.int r))) σ' args s) w zLm (zA w zLm σ) 4 σ_1 15 [(0, .ref (w.2.2 0)), (1, .int p1)] [] := by
    refine z_aload_n C 0 dX6_soundsOf_15 rfl rfl ?_
    refine z_getI C ly_m0 (Cn := RX6) (T := TX6) (N := 24) rfl in_X6 17 (by decide) q1421 (Or.inl rfl) rfl dX6_soundsOf_16 ?_
    refine z_iconst C 3 dX6_soundsOf_19 (by decide) ?_
    obtain ⟨r_3, e_4, hf⟩ := bo_ hf
    refine z_calli C (rest := []) (av := [.int (σ_1.1 0 17), .int 3]) (zPay.of q1683 q83) (fun H ls hH h2 => zInv_S C (As := [.int (σ_1.1 0 17), .int 3]) (rest := []) q1681 q1682 q83 (Or.inl rfl) q1683 mh_X6 np_X6_isUnder dX6_soundsOf_20) (tX6_isUnder l w e_4) (Nat.le_of_ble_eq_true rfl) (Nat.le_of_ble_eq_true rfl) ?_
    refine z_istore_n C dX6_soundsOf_23 rfl (by decide) rfl (lv' := [(2, .int r_3), (0, .ref (w.2.2 0)), (1, .int p1)]) ?_
    refine z_iload_n C 0 dX6_soundsOf_24 rfl rfl ?_
    obtain ⟨⟨⟩, σ_5, e_6, hf⟩ := bd_ hf
    have hje_6 : Z p l e (zRm 2 26 σ) s m args below meth c (zQ below w zLm σ (.returned (some (.int r))) σ' args s) w zLm (zA w zLm σ) 4 σ_5 34 [(0, .ref (w.2.2 0)), (1, .int p1), (2, .int r_3)] [] := by
      refine z_aload_n C 0 dX6_soundsOf_34 rfl rfl ?_
      refine z_bipush C 12 dX6_soundsOf_35 (by decide) ?_
      obtain ⟨⟨⟩, σ_9, e_8, hf⟩ := bd_ hf
      refine z_callv C (rest := []) (av := (.ref (w.2.2 0) :: [.int 12])) (zPay.of q1809 q83) (fun H ls hH h2 => zInv_V C (As := [.int 12]) (rest := []) (ci := 6) (T := TX6) (N := 24) rfl (zSee.fix ly_m0) hH q1806 q1808 qs68 (Or.inl rfl) q1809 mh_X6 np_X6_ran dX6_soundsOf_37) (tX6_ran l w e_8) (Nat.le_of_ble_eq_true rfl) (Nat.le_of_ble_eq_true rfl) ?_
      refine z_iload_n C 2 dX6_soundsOf_40 rfl rfl ?_
      obtain ⟨j_10, ej_10, hf⟩ := nmo_ hf
      have hjj_10 : Z p l e (zRm 2 26 σ) s m args below meth c (zQ below w zLm σ (.returned (some (.int r))) σ' args s) w zLm (zA w zLm σ) 4 σ_9 60 [(0, .ref (w.2.2 0)), (1, .int p1), (2, .int r_3)] [.int j_10] := by
        refine z_istore_n C dX6_soundsOf_60 rfl (by decide) rfl (lv' := [(3, .int j_10), (0, .ref (w.2.2 0)), (1, .int p1), (2, .int r_3)]) ?_
        refine z_aload_n C 1 dX6_soundsOf_61 rfl rfl ?_
        refine z_getI C ly_m0 (Cn := RX6) (T := TX6) (N := 24) rfl in_X6 17 (by decide) q1421 (Or.inl rfl) rfl dX6_soundsOf_62 ?_
        refine z_bipush C 6 dX6_soundsOf_65 (by decide) ?_
        obtain ⟨j_11, ej_11, hf⟩ := nmo_ hf
        have hjj_11 : Z p l e (zRm 2 26 σ) s m args below meth c (zQ below w zLm σ (.returned (some (.int r))) σ' args s) w zLm (zA w zLm σ) 4 σ_9 80 [(0, .ref (w.2.2 0)), (1, .int p1), (2, .int r_3), (3, .int j_10)] [.int j_11] := by
          obtain ⟨rfl, rfl⟩ := fin_ hf
          exact z_iret C rfl dX6_soundsOf_80
        replace hf := ej_11
        refine z_icmp_ne C 79 dX6_soundsOf_67 (by decide) (fun c_12 => ?_) (fun c_12 => ?_)
        · replace hf := ifp_f c_12 hf
          refine z_iload_n C 0 dX6_soundsOf_79 rfl rfl ?_
          subst hf
          exact z_lv [1, 2, 3, 0] rfl hjj_11
        · replace hf := ifp_t c_12 hf
          refine z_iload_n C 0 dX6_soundsOf_70 rfl rfl ?_
          refine z_aload_n C 1 dX6_soundsOf_71 rfl rfl ?_
          refine z_getI C ly_m0 (Cn := RX6) (T := TX6) (N := 24) rfl in_X6 18 (by decide) q1422 (Or.inl rfl) rfl dX6_soundsOf_72 ?_
          refine z_ixor C dX6_soundsOf_75 ?_
          refine z_goto C 80 dX6_soundsOf_76 (by decide) ?_
          subst hf
          exact z_lv [1, 2, 3, 0] rfl hjj_11
      replace hf := ej_10
      refine z_if_eq C 54 dX6_soundsOf_41 (by decide) (fun c_13 => ?_) (fun c_13 => ?_)
      · replace hf := ifp_t c_13 hf
        refine z_iload_n C 1 dX6_soundsOf_54 rfl rfl ?_
        refine z_aload_n C 0 dX6_soundsOf_55 rfl rfl ?_
        refine z_getI C ly_m0 (Cn := RX6) (T := TX6) (N := 24) rfl in_X6 19 (by decide) q1423 (Or.inl rfl) rfl dX6_soundsOf_56 ?_
        refine z_isub C dX6_soundsOf_59 ?_
        subst hf
        exact hjj_10
      · replace hf := ifp_f c_13 hf
        refine z_iload_n C 1 dX6_soundsOf_44 rfl rfl ?_
        refine z_aload_n C 0 dX6_soundsOf_45 rfl rfl ?_
        refine z_getI C ly_m0 (Cn := RX6) (T := TX6) (N := 24) rfl in_X6 19 (by decide) q1423 (Or.inl rfl) rfl dX6_soundsOf_46 ?_
        refine z_isub C dX6_soundsOf_49 ?_
        refine z_ineg C dX6_soundsOf_50 ?_
        refine z_goto C 60 dX6_soundsOf_51 (by decide) ?_
        subst hf
        exact hjj_10
    replace hf := e_6
    refine z_if_eq C 34 dX6_soundsOf_25 (by decide) (fun c_14 => ?_) (fun c_14 => ?_)
    · replace hf := if_t c_14 hf
      obtain ⟨-, rfl⟩ := fin_ hf
      exact z_lv [1, 2, 0] rfl hje_6
    · replace hf := if_f c_14 hf
      refine z_aload_n C 1 dX6_soundsOf_28 rfl rfl ?_
      refine z_bipush C 40 dX6_soundsOf_29 (by decide) ?_
      obtain ⟨⟨⟩, σ_17, e_16, hf⟩ := bd_ hf
      refine z_callv C (rest := []) (av := (.ref (w.2.2 0) :: [.int 40])) (zPay.of q1809 q83) (fun H ls hH h2 => zInv_V C (As := [.int 40]) (rest := []) (ci := 6) (T := TX6) (N := 24) rfl (zSee.fix ly_m0) hH q1806 q1808 qs68 (Or.inl rfl) q1809 mh_X6 np_X6_ran dX6_soundsOf_31) (tX6_ran l w e_16) (Nat.le_of_ble_eq_true rfl) (Nat.le_of_ble_eq_true rfl) ?_
      obtain ⟨-, rfl⟩ := fin_ hf
      exact z_lv [1, 2, 0] rfl hje_6
  replace hf := e_2
  refine z_icmp_ne C 15 dX6_soundsOf_6 (by decide) (fun c_18 => ?_) (fun c_18 => ?_)
  · replace hf := if_f c_18 hf
    obtain ⟨-, rfl⟩ := fin_ hf
    exact hje_2
  · replace hf := if_t c_18 hf
    refine z_aload_n C 0 dX6_soundsOf_9 rfl rfl ?_
    refine z_bipush C 70 dX6_soundsOf_10 (by decide) ?_
    obtain ⟨⟨⟩, σ_21, e_20, hf⟩ := bd_ hf
    refine z_callv C (rest := []) (av := (.ref (w.2.2 0) :: [.int 70])) (zPay.of q1809 q83) (fun H ls hH h2 => zInv_V C (As := [.int 70]) (rest := []) (ci := 6) (T := TX6) (N := 24) rfl (zSee.fix ly_m0) hH q1806 q1808 qs68 (Or.inl rfl) q1809 mh_X6 np_X6_ran dX6_soundsOf_12) (tX6_ran l w e_20) (Nat.le_of_ble_eq_true rfl) (Nat.le_of_ble_eq_true rfl) ?_
    obtain ⟨-, rfl⟩ := fin_ hf
    exact hje_2
def fX6_judge_L33 (σ : ZS) (y1 : Int32) : Nat → Int32 → Option (Int32)
  | 0, _ => none
  | n + 1, y2 => gd (¬ (y1 < 0 ∨ 4 ≤ y1.toNatClampNeg)) (if (σ.1 22 y1.toNatClampNeg) ≤ y2 then (some y2) else (if (fX6_isShip σ y2) = 0 then (some y2) else (gd (¬ (((40 * y1) + y2) < 0 ∨ 160 ≤ ((40 * y1) + y2).toNatClampNeg)) (bo (fX6_shipIs σ y2 3) (fun r_16 => if (σ.1 23 ((40 * y1) + y2).toNatClampNeg) = r_16 then (nm (y2 + 1) (fun (x2_19 : Int32) => fX6_judge_L33 σ y1 n x2_19)) else (some y2))))))
def fX6_judge (σ : ZS) (p1 : Int32) : Option (Int32 × ZS) := if (fX6_isSheet p1) = 0 then (bd (fX6_finding σ (-1000000001)) (fun r_29 σ_31 => some (r_29, σ_31))) else (gd (¬ (p1 < 0 ∨ 4 ≤ p1.toNatClampNeg)) (if (σ.1 21 p1.toNatClampNeg) = 0 then (bd (fX6_finding σ (-1000000002)) (fun r_26 σ_28 => some (r_26, σ_28))) else (bo (fX6_judge_L33 σ p1 10000 0) (fun x2_20 => nm (if x2_20 = (σ.1 22 p1.toNatClampNeg) then (if x2_20 = (σ.1 1 (2 : Int32).toNatClampNeg) then (-1) else x2_20) else x2_20) (fun (j_23 : Int32) => some (j_23, σ))))))
set_option maxHeartbeats 4000000 in
set_option maxRecDepth 100000 in
theorem lfX6_judge_L33 {p : Program} {l : Launch} {e : Env} {R : Room} {s : State} {m : MethodId} {args : Array Value} {below : List Frame} {meth : Method} {c : Code} {Q : State → Prop} {w : ZW} {A : Nat → Prop} {ret : Option FieldType} {hh : List (Nat × Nat × Nat × Nat)} (C : zCx p s m args meth c w zLm A 3 cX6_judge RX6 ret hh) (hfr : 2 ≤ R.frames) (hlo : 29 ≤ R.locals) (σ : ZS) (y1 : Int32) {z2 : Int32} (hk : Z p l e R s m args below meth c Q w zLm A 3 σ 77 [(0, .ref (w.2.2 0)), (1, .int y1), (2, .int z2)] []) : ∀ (n : Nat) (y2 : Int32), fX6_judge_L33 σ y1 n y2 = some z2 → Z p l e R s m args below meth c Q w zLm A 3 σ 33 [(0, .ref (w.2.2 0)), (1, .int y1), (2, .int y2)] [] := by
  intro n
  induction n with
  | zero => intro y2 hf; exact none_ hf
  | succ n ih =>
    intro y2 hf
    rw [fX6_judge_L33] at hf
    refine z_iload_n C 2 dX6_judge_33 rfl rfl ?_
    refine z_aload_n C 0 dX6_judge_34 rfl rfl ?_
    refine z_getR C ly_m0 (Cn := RX6) (T := TX6) (N := 24) rfl in_X6 21 (by decide) q1425 (Or.inl rfl) rfl dX6_judge_35 ?_
    refine z_iload_n C 1 dX6_judge_38 rfl rfl ?_
    obtain ⟨g_12, hf⟩ := gd_ hf
    refine z_ialoadF C ly_m22 g_12 dX6_judge_39 ?_
    refine z_icmp_ge C 77 dX6_judge_40 (by decide) (fun c_13 => ?_) (fun c_13 => ?_)
    · replace hf := if_t c_13 hf
      obtain rfl := fino_ hf
      exact hk
    · replace hf := if_f c_13 hf
      refine z_aload_n C 0 dX6_judge_43 rfl rfl ?_
      refine z_iload_n C 2 dX6_judge_44 rfl rfl ?_
      refine z_calli C (rest := []) (av := (.ref (w.2.2 0) :: [.int y2])) (zPay.of q1664 q83) (fun H ls hH h2 => zInv_V C (As := [.int y2]) (rest := []) (ci := 6) (T := TX6) (N := 24) rfl (zSee.fix ly_m0) hH q1661 q1663 qs55 (Or.inl rfl) q1664 mh_X6 np_X6_isShip dX6_judge_45) (tX6_isShip l w σ y2) (Nat.le_trans (Nat.le_of_ble_eq_true rfl) hfr) (Nat.le_trans (Nat.le_of_ble_eq_true rfl) hlo) ?_
      refine z_if_eq C 77 dX6_judge_48 (by decide) (fun c_14 => ?_) (fun c_14 => ?_)
      · replace hf := if_t c_14 hf
        obtain rfl := fino_ hf
        exact hk
      · replace hf := if_f c_14 hf
        refine z_aload_n C 0 dX6_judge_51 rfl rfl ?_
        refine z_getR C ly_m0 (Cn := RX6) (T := TX6) (N := 24) rfl in_X6 22 (by decide) q1426 (Or.inl rfl) rfl dX6_judge_52 ?_
        refine z_bipush C 40 dX6_judge_55 (by decide) ?_
        refine z_iload_n C 1 dX6_judge_57 rfl rfl ?_
        refine z_imul C dX6_judge_58 ?_
        refine z_iload_n C 2 dX6_judge_59 rfl rfl ?_
        refine z_iadd C dX6_judge_60 ?_
        obtain ⟨g_15, hf⟩ := gd_ hf
        refine z_ialoadF C ly_m23 g_15 dX6_judge_61 ?_
        refine z_aload_n C 0 dX6_judge_62 rfl rfl ?_
        refine z_iload_n C 2 dX6_judge_63 rfl rfl ?_
        refine z_iconst C 3 dX6_judge_64 (by decide) ?_
        obtain ⟨r_16, e_17, hf⟩ := bo_ hf
        refine z_calli C (rest := [.int (σ.1 23 ((40 * y1) + y2).toNatClampNeg)]) (av := (.ref (w.2.2 0) :: [.int y2, .int 3])) (zPay.of q1628 q83) (fun H ls hH h2 => zInv_V C (As := [.int y2, .int 3]) (rest := [.int (σ.1 23 ((40 * y1) + y2).toNatClampNeg)]) (ci := 6) (T := TX6) (N := 24) rfl (zSee.fix ly_m0) hH q1625 q1627 qs53 (Or.inl rfl) q1628 mh_X6 np_X6_shipIs dX6_judge_65) (tX6_shipIs l w e_17) (Nat.le_trans (Nat.le_of_ble_eq_true rfl) hfr) (Nat.le_trans (Nat.le_of_ble_eq_true rfl) hlo) ?_
        refine z_icmp_ne C 77 dX6_judge_68 (by decide) (fun c_18 => ?_) (fun c_18 => ?_)
        · replace hf := if_f c_18 hf
          obtain rfl := fino_ hf
          exact hk
        · replace hf := if_t c_18 hf
          obtain ⟨x2_19, ex2_19, hf⟩ := nmo_ hf
          refine z_iinc C x2_19 2 dX6_judge_71 rfl (by rw [ex2_19]; rfl) (by decide) rfl (lv' := [(2, .int x2_19), (0, .ref (w.2.2 0)), (1, .int y1)]) ?_
          refine z_goto C 33 dX6_judge_74 (by decide) ?_
          exact z_lv [1, 2, 0] rfl (ih _ hf)
set_option maxHeartbeats 4000000 in
set_option maxRecDepth 100000 in
theorem tX6_judge (l : Launch) (w : ZW) {σ σ' : ZS} {p1 : Int32} {r : Int32} (hf : fX6_judge σ p1 = some (r, σ')) : zC l w zLm yX6_judge (ws_ yX6_judge cX6_judge 3 (some .int)) 2 29 [.ref (w.2.2 0), .int p1] σ (.returned (some (.int r))) σ' := by
  refine zC.of (plainFor_of_name (by decide)) (Nat.le_of_ble_eq_true rfl) ?_
  intro p e s m args below meth c C hnm
  show Z p l e _ s m args below meth c _ w _ _ 3 σ 0 [(0, .ref (w.2.2 0)), (1, .int p1)] []
  unfold fX6_judge at hf
  refine z_iload_n C 1 dX6_judge_0 rfl rfl ?_
  refine z_calli C (rest := []) (av := [.int p1]) (zPay.of q1765 q83) (fun H ls hH h2 => zInv_S C (As := [.int p1]) (rest := []) q1763 q1764 q83 (Or.inl rfl) q1765 mh_X6 np_X6_isSheet dX6_judge_1) (tX6_isSheet l w zLm σ p1) (Nat.le_of_ble_eq_true rfl) (Nat.le_of_ble_eq_true rfl) ?_
  refine z_if_ne C 14 dX6_judge_4 (by decide) (fun c_1 => ?_) (fun c_1 => ?_)
  · replace hf := if_f c_1 hf
    refine z_aload_n C 0 dX6_judge_14 rfl rfl ?_
    refine z_getR C ly_m0 (Cn := RX6) (T := TX6) (N := 24) rfl in_X6 20 (by decide) q1424 (Or.inl rfl) rfl dX6_judge_15 ?_
    refine z_iload_n C 1 dX6_judge_18 rfl rfl ?_
    obtain ⟨g_2, hf⟩ := gd_ hf
    refine z_ialoadF C ly_m21 g_2 dX6_judge_19 ?_
    refine z_if_ne C 31 dX6_judge_20 (by decide) (fun c_3 => ?_) (fun c_3 => ?_)
    · replace hf := if_f c_3 hf
      refine z_iconst C 0 dX6_judge_31 (by decide) ?_
      refine z_istore_n C dX6_judge_32 rfl (by decide) rfl (lv' := [(2, .int 0), (0, .ref (w.2.2 0)), (1, .int p1)]) ?_
      obtain ⟨x2_20, e_22, hf⟩ := bo_ hf
      refine z_lv (lv' := [(0, .ref (w.2.2 0)), (1, .int p1), (2, .int 0)]) [1, 2, 0] rfl ?_
      refine lfX6_judge_L33 C (Nat.le_of_ble_eq_true rfl) (Nat.le_of_ble_eq_true rfl) σ p1 ?_ _ _ e_22
      refine z_iload_n C 2 dX6_judge_77 rfl rfl ?_
      refine z_aload_n C 0 dX6_judge_78 rfl rfl ?_
      refine z_getR C ly_m0 (Cn := RX6) (T := TX6) (N := 24) rfl in_X6 21 (by decide) q1425 (Or.inl rfl) rfl dX6_judge_79 ?_
      refine z_iload_n C 1 dX6_judge_82 rfl rfl ?_
      refine z_ialoadF C ly_m22 g_2 dX6_judge_83 ?_
      obtain ⟨j_23, ej_23, hf⟩ := nmo_ hf
      have hjj_23 : Z p l e (zRm 2 29 σ) s m args below meth c (zQ below w zLm σ (.returned (some (.int r))) σ' args s) w zLm (zA w zLm σ) 3 σ 102 [(0, .ref (w.2.2 0)), (1, .int p1), (2, .int x2_20)] [.int j_23] := by
        obtain ⟨rfl, rfl⟩ := fin_ hf
        exact z_iret C rfl dX6_judge_102
      replace hf := ej_23
      refine z_icmp_ne C 101 dX6_judge_84 (by decide) (fun c_24 => ?_) (fun c_24 => ?_)
      · replace hf := ifp_f c_24 hf
        refine z_iload_n C 2 dX6_judge_101 rfl rfl ?_
        subst hf
        exact hjj_23
      · replace hf := ifp_t c_24 hf
        refine z_iload_n C 2 dX6_judge_87 rfl rfl ?_
        refine z_aload_n C 0 dX6_judge_88 rfl rfl ?_
        refine z_getR C ly_m0 (Cn := RX6) (T := TX6) (N := 24) rfl in_X6 0 (by decide) q1404 (Or.inl rfl) rfl dX6_judge_89 ?_
        refine z_iconst C 2 dX6_judge_92 (by decide) ?_
        refine z_ialoadF C ly_m1 (by decide) dX6_judge_93 ?_
        refine z_icmp_ne C 101 dX6_judge_94 (by decide) (fun c_25 => ?_) (fun c_25 => ?_)
        · replace hf := ifp_f c_25 hf
          refine z_iload_n C 2 dX6_judge_101 rfl rfl ?_
          subst hf
          exact hjj_23
        · replace hf := ifp_t c_25 hf
          refine z_iconst C (-1) dX6_judge_97 (by decide) ?_
          refine z_goto C 102 dX6_judge_98 (by decide) ?_
          subst hf
          exact hjj_23
    · replace hf := if_t c_3 hf
      refine z_aload_n C 0 dX6_judge_23 rfl rfl ?_
      refine z_ldc_w C dX6_judge_24 q1742 ?_
      obtain ⟨r_26, σ_28, e_27, hf⟩ := bd_ hf
      refine z_calli C (rest := []) (av := (.ref (w.2.2 0) :: [.int (-1000000002)])) (zPay.of q1488 q83) (fun H ls hH h2 => zInv_V C (As := [.int (-1000000002)]) (rest := []) (ci := 6) (T := TX6) (N := 24) rfl (zSee.fix ly_m0) hH q1485 q1487 qs32 (Or.inl rfl) q1488 mh_X6 np_X6_finding dX6_judge_27) (tX6_finding l w e_27) (Nat.le_of_ble_eq_true rfl) (Nat.le_of_ble_eq_true rfl) ?_
      obtain ⟨rfl, rfl⟩ := fin_ hf
      exact z_iret C rfl dX6_judge_30
  · replace hf := if_t c_1 hf
    refine z_aload_n C 0 dX6_judge_7 rfl rfl ?_
    refine z_ldc C dX6_judge_8 q1484 ?_
    obtain ⟨r_29, σ_31, e_30, hf⟩ := bd_ hf
    refine z_calli C (rest := []) (av := (.ref (w.2.2 0) :: [.int (-1000000001)])) (zPay.of q1488 q83) (fun H ls hH h2 => zInv_V C (As := [.int (-1000000001)]) (rest := []) (ci := 6) (T := TX6) (N := 24) rfl (zSee.fix ly_m0) hH q1485 q1487 qs32 (Or.inl rfl) q1488 mh_X6 np_X6_finding dX6_judge_10) (tX6_finding l w e_30) (Nat.le_of_ble_eq_true rfl) (Nat.le_of_ble_eq_true rfl) ?_
    obtain ⟨rfl, rfl⟩ := fin_ hf
    exact z_iret C rfl dX6_judge_13
def fX6_given (σ : ZS) (p1 : Int32) (p2 : Int32) (p3 : Int32) (p4 : Int32) : Option (Int32 × ZS) := nm (if p1 = 0 then p4 else 0) (fun (j_1 : Int32) => bo (fX6_hasText (sI (sI (sI σ 14 ((0 : Int32).toNatClampNeg) p2) 14 ((1 : Int32).toNatClampNeg) p3) 14 ((2 : Int32).toNatClampNeg) p4) p1) (fun r_2 => bd (if r_2 = 0 then (some (j_1, sI (sI (sI σ 14 ((0 : Int32).toNatClampNeg) p2) 14 ((1 : Int32).toNatClampNeg) p3) 14 ((2 : Int32).toNatClampNeg) p4)) else (bd (fX6_worked (sI (sI (sI σ 14 ((0 : Int32).toNatClampNeg) p2) 14 ((1 : Int32).toNatClampNeg) p3) 14 ((2 : Int32).toNatClampNeg) p4) ((138 + (52 * p1)) + 1)) (fun r_10 σ_12 => some (r_10, σ_12)))) (fun (j_4 : Int32) σ_5 => nm (if p1 = 0 then 19 else 1) (fun (j_7 : Int32) => some (fX6_held j_4 0 j_7, σ_5)))))
set_option maxHeartbeats 4000000 in
set_option maxRecDepth 100000 in
theorem tX6_given (l : Launch) (w : ZW) {σ σ' : ZS} {p1 : Int32} {p2 : Int32} {p3 : Int32} {p4 : Int32} {r : Int32} (hf : fX6_given σ p1 p2 p3 p4 = some (r, σ')) : zC l w zLm yX6_given (ws_ yX6_given cX6_given 6 (some .int)) 2 32 [.ref (w.2.2 0), .int p1, .int p2, .int p3, .int p4] σ (.returned (some (.int r))) σ' := by
  refine zC.of (plainFor_of_name (by decide)) (Nat.le_of_ble_eq_true rfl) ?_
  intro p e s m args below meth c C hnm
  show Z p l e _ s m args below meth c _ w _ _ 6 σ 0 [(0, .ref (w.2.2 0)), (1, .int p1), (2, .int p2), (3, .int p3), (4, .int p4)] []
  unfold fX6_given at hf
  refine z_aload_n C 0 dX6_given_0 rfl rfl ?_
  refine z_getR C ly_m0 (Cn := RX6) (T := TX6) (N := 24) rfl in_X6 13 (by decide) q1417 (Or.inl rfl) rfl dX6_given_1 ?_
  refine z_iconst C 0 dX6_given_4 (by decide) ?_
  refine z_iload_n C 2 dX6_given_5 rfl rfl ?_
  refine z_iastore C ly_m14 (by decide) dX6_given_6 ?_
  refine z_aload_n C 0 dX6_given_7 rfl rfl ?_
  refine z_getR C ly_m0 (Cn := RX6) (T := TX6) (N := 24) rfl in_X6 13 (by decide) q1417 (Or.inl rfl) rfl dX6_given_8 ?_
  refine z_iconst C 1 dX6_given_11 (by decide) ?_
  refine z_iload_n C 3 dX6_given_12 rfl rfl ?_
  refine z_iastore C ly_m14 (by decide) dX6_given_13 ?_
  refine z_aload_n C 0 dX6_given_14 rfl rfl ?_
  refine z_getR C ly_m0 (Cn := RX6) (T := TX6) (N := 24) rfl in_X6 13 (by decide) q1417 (Or.inl rfl) rfl dX6_given_15 ?_
  refine z_iconst C 2 dX6_given_18 (by decide) ?_
  refine z_iload C 4 dX6_given_19 rfl ?_
  refine z_iastore C ly_m14 (by decide) dX6_given_21 ?_
  refine z_iload_n C 1 dX6_given_22 rfl rfl ?_
  obtain ⟨j_1, ej_1, hf⟩ := nmo_ hf
  have hjj_1 : Z p l e (zRm 2 32 σ) s m args below meth c (zQ below w zLm σ (.returned (some (.int r))) σ' args s) w zLm (zA w zLm σ) 6 (sI (sI (sI σ 14 ((0 : Int32).toNatClampNeg) p2) 14 ((1 : Int32).toNatClampNeg) p3) 14 ((2 : Int32).toNatClampNeg) p4) 32 [(0, .ref (w.2.2 0)), (1, .int p1), (2, .int p2), (3, .int p3), (4, .int p4)] [.int j_1] := by
    refine z_istore C dX6_given_32 (by decide) rfl (lv' := [(5, .int j_1), (0, .ref (w.2.2 0)), (1, .int p1), (2, .int p2), (3, .int p3), (4, .int p4)]) ?_
    refine z_aload_n C 1 dX6_given_34 rfl rfl ?_
    refine z_iload_n C 2 dX6_given_35 rfl rfl ?_
    obtain ⟨r_2, e_3, hf⟩ := bo_ hf
    refine z_calli C (rest := []) (av := (.ref (w.2.2 0) :: [.int p1])) (zPay.of q1568 q83) (fun H ls hH h2 => zInv_V C (As := [.int p1]) (rest := []) (ci := 6) (T := TX6) (N := 24) rfl (zSee.fix ly_m0) hH q1565 q1567 qs44 (Or.inl rfl) q1568 mh_X6 np_X6_hasText dX6_given_36) (tX6_hasText l w e_3) (Nat.le_of_ble_eq_true rfl) (Nat.le_of_ble_eq_true rfl) ?_
    obtain ⟨j_4, σ_5, e_6, hf⟩ := bd_ hf
    have hje_6 : Z p l e (zRm 2 32 σ) s m args below meth c (zQ below w zLm σ (.returned (some (.int r))) σ' args s) w zLm (zA w zLm σ) 6 σ_5 61 [(0, .ref (w.2.2 0)), (1, .int p1), (2, .int p2), (3, .int p3), (4, .int p4), (5, .int j_1)] [.int j_4] := by
      refine z_iconst C 0 dX6_given_61 (by decide) ?_
      refine z_iload_n C 1 dX6_given_62 rfl rfl ?_
      obtain ⟨j_7, ej_7, hf⟩ := nmo_ hf
      have hjj_7 : Z p l e (zRm 2 32 σ) s m args below meth c (zQ below w zLm σ (.returned (some (.int r))) σ' args s) w zLm (zA w zLm σ) 6 σ_5 72 [(0, .ref (w.2.2 0)), (1, .int p1), (2, .int p2), (3, .int p3), (4, .int p4), (5, .int j_1)] [.int j_7, .int 0, .int j_4] := by
        refine z_calli C (rest := []) (av := [.int j_4, .int 0, .int j_7]) (zPay.of q1578 q83) (fun H ls hH h2 => zInv_S C (As := [.int j_4, .int 0, .int j_7]) (rest := []) q1576 q1577 q83 (Or.inl rfl) q1578 mh_X6 np_X6_held dX6_given_72) (tX6_held l w zLm σ_5 j_4 0 j_7) (Nat.le_of_ble_eq_true rfl) (Nat.le_of_ble_eq_true rfl) ?_
        obtain ⟨rfl, rfl⟩ := fin_ hf
        exact z_iret C rfl dX6_given_75
      replace hf := ej_7
      refine z_if_ne C 71 dX6_given_63 (by decide) (fun c_8 => ?_) (fun c_8 => ?_)
      · replace hf := ifp_f c_8 hf
        refine z_iconst C 1 dX6_given_71 (by decide) ?_
        subst hf
        exact hjj_7
      · replace hf := ifp_t c_8 hf
        refine z_bipush C 19 dX6_given_66 (by decide) ?_
        refine z_goto C 72 dX6_given_68 (by decide) ?_
        subst hf
        exact hjj_7
    replace hf := e_6
    refine z_if_eq C 59 dX6_given_39 (by decide) (fun c_9 => ?_) (fun c_9 => ?_)
    · replace hf := if_t c_9 hf
      refine z_iload C 0 dX6_given_59 rfl ?_
      obtain ⟨rfl, rfl⟩ := fin_ hf
      exact z_lv [1, 2, 3, 4, 5, 0] rfl hje_6
    · replace hf := if_f c_9 hf
      refine z_aload_n C 1 dX6_given_42 rfl rfl ?_
      refine z_sipush C 138 dX6_given_43 (by decide) ?_
      refine z_bipush C 52 dX6_given_46 (by decide) ?_
      refine z_iload_n C 2 dX6_given_48 rfl rfl ?_
      refine z_imul C dX6_given_49 ?_
      refine z_iadd C dX6_given_50 ?_
      refine z_iconst C 1 dX6_given_51 (by decide) ?_
      refine z_iadd C dX6_given_52 ?_
      obtain ⟨r_10, σ_12, e_11, hf⟩ := bd_ hf
      refine z_calli C (rest := []) (av := (.ref (w.2.2 0) :: [.int ((138 + (52 * p1)) + 1)])) (zPay.of q1572 q83) (fun H ls hH h2 => zInv_V C (As := [.int ((138 + (52 * p1)) + 1)]) (rest := []) (ci := 6) (T := TX6) (N := 24) rfl (zSee.fix ly_m0) hH q1569 q1571 qs45 (Or.inl rfl) q1572 mh_X6 np_X6_worked dX6_given_53) (tX6_worked l w e_11) (Nat.le_of_ble_eq_true rfl) (Nat.le_of_ble_eq_true rfl) ?_
      refine z_goto C 61 dX6_given_56 (by decide) ?_
      obtain ⟨rfl, rfl⟩ := fin_ hf
      exact z_lv [1, 2, 3, 4, 5, 0] rfl hje_6
  replace hf := ej_1
  refine z_if_ne C 31 dX6_given_23 (by decide) (fun c_13 => ?_) (fun c_13 => ?_)
  · replace hf := ifp_f c_13 hf
    refine z_iconst C 0 dX6_given_31 (by decide) ?_
    subst hf
    exact hjj_1
  · replace hf := ifp_t c_13 hf
    refine z_iload C 4 dX6_given_26 rfl ?_
    refine z_goto C 32 dX6_given_28 (by decide) ?_
    subst hf
    exact hjj_1
def fX6_depthFor (σ : ZS) (p1 : Int32) (p2 : Int32) : Option (Int32 × ZS) := bo (fX6_cellIs σ p1 1) (fun r_1 => bo (if p2 < r_1 then (some 0) else (bo (fX6_cellIs σ p1 2) (fun r_16 => if r_16 < p2 then (some 0) else (some 1)))) (fun (j_3 : Int32) => bd (if j_3 = 0 then (bo (fX6_cellIs σ p1 0) (fun r_10 => bd (fX6_given σ 0 p1 p2 r_10) (fun r_12 σ_14 => some (r_12, σ_14)))) else (some (0, σ))) (fun (j_6 : Int32) σ_7 => some (j_6, σ_7))))
set_option maxHeartbeats 4000000 in
set_option maxRecDepth 100000 in
theorem tX6_depthFor (l : Launch) (w : ZW) {σ σ' : ZS} {p1 : Int32} {p2 : Int32} {r : Int32} (hf : fX6_depthFor σ p1 p2 = some (r, σ')) : zC l w zLm yX6_depthFor (ws_ yX6_depthFor cX6_depthFor 4 (some .int)) 3 49 [.ref (w.2.2 0), .int p1, .int p2] σ (.returned (some (.int r))) σ' := by
  refine zC.of (plainFor_of_name (by decide)) (Nat.le_of_ble_eq_true rfl) ?_
  intro p e s m args below meth c C hnm
  show Z p l e _ s m args below meth c _ w _ _ 4 σ 0 [(0, .ref (w.2.2 0)), (1, .int p1), (2, .int p2)] []
  unfold fX6_depthFor at hf
  refine z_aload_n C 0 dX6_depthFor_0 rfl rfl ?_
  refine z_iload_n C 1 dX6_depthFor_1 rfl rfl ?_
  refine z_iconst C 1 dX6_depthFor_2 (by decide) ?_
  obtain ⟨r_1, e_2, hf⟩ := bo_ hf
  refine z_calli C (rest := []) (av := (.ref (w.2.2 0) :: [.int p1, .int 1])) (zPay.of q1601 q83) (fun H ls hH h2 => zInv_V C (As := [.int p1, .int 1]) (rest := []) (ci := 6) (T := TX6) (N := 24) rfl (zSee.fix ly_m0) hH q1598 q1600 qs47 (Or.inl rfl) q1601 mh_X6 np_X6_cellIs dX6_depthFor_3) (tX6_cellIs l w e_2) (Nat.le_of_ble_eq_true rfl) (Nat.le_of_ble_eq_true rfl) ?_
  refine z_iload_n C 2 dX6_depthFor_6 rfl rfl ?_
  obtain ⟨j_3, e_5, hf⟩ := bo_ hf
  have hje_5 : Z p l e (zRm 3 49 σ) s m args below meth c (zQ below w zLm σ (.returned (some (.int r))) σ' args s) w zLm (zA w zLm σ) 4 σ 25 [(0, .ref (w.2.2 0)), (1, .int p1), (2, .int p2)] [.int j_3] := by
    refine z_istore_n C dX6_depthFor_25 rfl (by decide) rfl (lv' := [(3, .int j_3), (0, .ref (w.2.2 0)), (1, .int p1), (2, .int p2)]) ?_
    refine z_iload_n C 0 dX6_depthFor_26 rfl rfl ?_
    obtain ⟨j_6, σ_7, e_8, hf⟩ := bd_ hf
    have hje_8 : Z p l e (zRm 3 49 σ) s m args below meth c (zQ below w zLm σ (.returned (some (.int r))) σ' args s) w zLm (zA w zLm σ) 4 σ_7 47 [(0, .ref (w.2.2 0)), (1, .int p1), (2, .int p2), (3, .int j_3)] [.int j_6] := by
      obtain ⟨rfl, rfl⟩ := fin_ hf
      exact z_iret C rfl dX6_depthFor_47
    replace hf := e_8
    refine z_if_eq C 34 dX6_depthFor_27 (by decide) (fun c_9 => ?_) (fun c_9 => ?_)
    · replace hf := if_t c_9 hf
      refine z_aload_n C 1 dX6_depthFor_34 rfl rfl ?_
      refine z_iconst C 0 dX6_depthFor_35 (by decide) ?_
      refine z_iload_n C 2 dX6_depthFor_36 rfl rfl ?_
      refine z_iload_n C 3 dX6_depthFor_37 rfl rfl ?_
      refine z_aload_n C 1 dX6_depthFor_38 rfl rfl ?_
      refine z_iload_n C 2 dX6_depthFor_39 rfl rfl ?_
      refine z_iconst C 0 dX6_depthFor_40 (by decide) ?_
      obtain ⟨r_10, e_11, hf⟩ := bo_ hf
      refine z_calli C (rest := [.int p2, .int p1, .int 0, .ref (w.2.2 0)]) (av := (.ref (w.2.2 0) :: [.int p1, .int 0])) (zPay.of q1601 q83) (fun H ls hH h2 => zInv_V C (As := [.int p1, .int 0]) (rest := [.int p2, .int p1, .int 0, .ref (w.2.2 0)]) (ci := 6) (T := TX6) (N := 24) rfl (zSee.fix ly_m0) hH q1598 q1600 qs47 (Or.inl rfl) q1601 mh_X6 np_X6_cellIs dX6_depthFor_41) (tX6_cellIs l w e_11) (Nat.le_of_ble_eq_true rfl) (Nat.le_of_ble_eq_true rfl) ?_
      obtain ⟨r_12, σ_14, e_13, hf⟩ := bd_ hf
      refine z_calli C (rest := []) (av := (.ref (w.2.2 0) :: [.int 0, .int p1, .int p2, .int r_10])) (zPay.of q1564 q83) (fun H ls hH h2 => zInv_V C (As := [.int 0, .int p1, .int p2, .int r_10]) (rest := []) (ci := 6) (T := TX6) (N := 24) rfl (zSee.fix ly_m0) hH q1561 q1563 qs43 (Or.inl rfl) q1564 mh_X6 np_X6_given dX6_depthFor_44) (tX6_given l w e_13) (Nat.le_of_ble_eq_true rfl) (Nat.le_of_ble_eq_true rfl) ?_
      obtain ⟨rfl, rfl⟩ := fin_ hf
      exact z_lv [1, 2, 3, 0] rfl hje_8
    · replace hf := if_f c_9 hf
      refine z_iconst C 0 dX6_depthFor_30 (by decide) ?_
      refine z_goto C 47 dX6_depthFor_31 (by decide) ?_
      obtain ⟨rfl, rfl⟩ := fin_ hf
      exact z_lv [1, 2, 3, 0] rfl hje_8
  replace hf := e_5
  refine z_icmp_gt C 24 dX6_depthFor_7 (by decide) (fun c_15 => ?_) (fun c_15 => ?_)
  · replace hf := if_t c_15 hf
    refine z_iconst C 0 dX6_depthFor_24 (by decide) ?_
    obtain rfl := fino_ hf
    exact hje_5
  · replace hf := if_f c_15 hf
    refine z_iload_n C 2 dX6_depthFor_10 rfl rfl ?_
    refine z_aload_n C 0 dX6_depthFor_11 rfl rfl ?_
    refine z_iload_n C 1 dX6_depthFor_12 rfl rfl ?_
    refine z_iconst C 2 dX6_depthFor_13 (by decide) ?_
    obtain ⟨r_16, e_17, hf⟩ := bo_ hf
    refine z_calli C (rest := [.int p2]) (av := (.ref (w.2.2 0) :: [.int p1, .int 2])) (zPay.of q1601 q83) (fun H ls hH h2 => zInv_V C (As := [.int p1, .int 2]) (rest := [.int p2]) (ci := 6) (T := TX6) (N := 24) rfl (zSee.fix ly_m0) hH q1598 q1600 qs47 (Or.inl rfl) q1601 mh_X6 np_X6_cellIs dX6_depthFor_14) (tX6_cellIs l w e_17) (Nat.le_of_ble_eq_true rfl) (Nat.le_of_ble_eq_true rfl) ?_
    refine z_icmp_gt C 24 dX6_depthFor_17 (by decide) (fun c_18 => ?_) (fun c_18 => ?_)
    · replace hf := if_t c_18 hf
      refine z_iconst C 0 dX6_depthFor_24 (by decide) ?_
      obtain rfl := fino_ hf
      exact hje_5
    · replace hf := if_f c_18 hf
      refine z_iconst C 1 dX6_depthFor_20 (by decide) ?_
      refine z_goto C 25 dX6_depthFor_21 (by decide) ?_
      obtain rfl := fino_ hf
      exact hje_5
def fX6_shipsAt_L4 (σ : ZS) (y1 : Int32) : Nat → Int32 → Int32 → Option (Int32 × Int32)
  | 0, _, _ => none
  | n + 1, y2, y3 => if (σ.1 1 (2 : Int32).toNatClampNeg) ≤ y3 then (some (y2, y3)) else (bo (fX6_shipIs σ y3 3) (fun r_9 => nm (if r_9 = y1 then (1 <<< (y3 &&& 31)) else 0) (fun (j_11 : Int32) => nm (y2 ||| j_11) (fun (x2_12 : Int32) => nm (y3 + 1) (fun (x3_13 : Int32) => fX6_shipsAt_L4 σ y1 n x2_12 x3_13)))))
def fX6_shipsAt (σ : ZS) (p1 : Int32) : Option Int32 := bo (fX6_shipsAt_L4 σ p1 10000 0 0) (fun uu17 => some (uu17.1))
set_option maxHeartbeats 4000000 in
set_option maxRecDepth 100000 in
theorem lfX6_shipsAt_L4 {p : Program} {l : Launch} {e : Env} {R : Room} {s : State} {m : MethodId} {args : Array Value} {below : List Frame} {meth : Method} {c : Code} {Q : State → Prop} {w : ZW} {A : Nat → Prop} {ret : Option FieldType} {hh : List (Nat × Nat × Nat × Nat)} (C : zCx p s m args meth c w zLm A 4 cX6_shipsAt RX6 ret hh) (hfr : 2 ≤ R.frames) (hlo : 29 ≤ R.locals) (σ : ZS) (y1 : Int32) {z2 : Int32} {z3 : Int32} (hk : Z p l e R s m args below meth c Q w zLm A 4 σ 40 [(0, .ref (w.2.2 0)), (1, .int y1), (2, .int z2), (3, .int z3)] []) : ∀ (n : Nat) (y2 : Int32) (y3 : Int32), fX6_shipsAt_L4 σ y1 n y2 y3 = some (z2, z3) → Z p l e R s m args below meth c Q w zLm A 4 σ 4 [(0, .ref (w.2.2 0)), (1, .int y1), (2, .int y2), (3, .int y3)] [] := by
  intro n
  induction n with
  | zero => intro y2 y3 hf; exact none_ hf
  | succ n ih =>
    intro y2 y3 hf
    rw [fX6_shipsAt_L4] at hf
    refine z_iload_n C 3 dX6_shipsAt_4 rfl rfl ?_
    refine z_aload_n C 0 dX6_shipsAt_5 rfl rfl ?_
    refine z_getR C ly_m0 (Cn := RX6) (T := TX6) (N := 24) rfl in_X6 0 (by decide) q1404 (Or.inl rfl) rfl dX6_shipsAt_6 ?_
    refine z_iconst C 2 dX6_shipsAt_9 (by decide) ?_
    refine z_ialoadF C ly_m1 (by decide) dX6_shipsAt_10 ?_
    refine z_icmp_ge C 40 dX6_shipsAt_11 (by decide) (fun c_8 => ?_) (fun c_8 => ?_)
    · replace hf := if_t c_8 hf
      have hf1 := fino_ hf
      simp only [Prod.mk.injEq] at hf1
      obtain ⟨rfl, rfl⟩ := hf1
      exact hk
    · replace hf := if_f c_8 hf
      refine z_iload_n C 2 dX6_shipsAt_14 rfl rfl ?_
      refine z_aload_n C 0 dX6_shipsAt_15 rfl rfl ?_
      refine z_iload_n C 3 dX6_shipsAt_16 rfl rfl ?_
      refine z_iconst C 3 dX6_shipsAt_17 (by decide) ?_
      obtain ⟨r_9, e_10, hf⟩ := bo_ hf
      refine z_calli C (rest := [.int y2]) (av := (.ref (w.2.2 0) :: [.int y3, .int 3])) (zPay.of q1628 q83) (fun H ls hH h2 => zInv_V C (As := [.int y3, .int 3]) (rest := [.int y2]) (ci := 6) (T := TX6) (N := 24) rfl (zSee.fix ly_m0) hH q1625 q1627 qs53 (Or.inl rfl) q1628 mh_X6 np_X6_shipIs dX6_shipsAt_18) (tX6_shipIs l w e_10) (Nat.le_trans (Nat.le_of_ble_eq_true rfl) hfr) (Nat.le_trans (Nat.le_of_ble_eq_true rfl) hlo) ?_
      refine z_iload_n C 1 dX6_shipsAt_21 rfl rfl ?_
      obtain ⟨j_11, ej_11, hf⟩ := nmo_ hf
      have hjj_11 : Z p l e R s m args below meth c Q w zLm A 4 σ 32 [(0, .ref (w.2.2 0)), (1, .int y1), (2, .int y2), (3, .int y3)] [.int j_11, .int y2] := by
        refine z_ior C dX6_shipsAt_32 ?_
        obtain ⟨x2_12, ex2_12, hf⟩ := nmo_ hf
        refine z_top ex2_12 ?_
        refine z_istore_n C dX6_shipsAt_33 rfl (by decide) rfl (lv' := [(2, .int x2_12), (0, .ref (w.2.2 0)), (1, .int y1), (3, .int y3)]) ?_
        obtain ⟨x3_13, ex3_13, hf⟩ := nmo_ hf
        refine z_iinc C x3_13 3 dX6_shipsAt_34 rfl (by rw [ex3_13]; rfl) (by decide) rfl (lv' := [(3, .int x3_13), (2, .int x2_12), (0, .ref (w.2.2 0)), (1, .int y1)]) ?_
        refine z_goto C 4 dX6_shipsAt_37 (by decide) ?_
        exact z_lv [2, 3, 1, 0] rfl (ih _ _ hf)
      replace hf := ej_11
      refine z_icmp_ne C 31 dX6_shipsAt_22 (by decide) (fun c_14 => ?_) (fun c_14 => ?_)
      · replace hf := ifp_f c_14 hf
        refine z_iconst C 0 dX6_shipsAt_31 (by decide) ?_
        subst hf
        exact hjj_11
      · replace hf := ifp_t c_14 hf
        refine z_iconst C 1 dX6_shipsAt_25 (by decide) ?_
        refine z_iload_n C 3 dX6_shipsAt_26 rfl rfl ?_
        refine z_ishl C dX6_shipsAt_27 ?_
        refine z_goto C 32 dX6_shipsAt_28 (by decide) ?_
        subst hf
        exact hjj_11
set_option maxHeartbeats 4000000 in
set_option maxRecDepth 100000 in
theorem tX6_shipsAt (l : Launch) (w : ZW) {σ : ZS} {p1 : Int32} {r : Int32} (hf : fX6_shipsAt σ p1 = some r) : zC l w zLm yX6_shipsAt (ws_ yX6_shipsAt cX6_shipsAt 4 (some .int)) 2 29 [.ref (w.2.2 0), .int p1] σ (.returned (some (.int r))) σ := by
  refine zC.of (plainFor_of_name (by decide)) (Nat.le_of_ble_eq_true rfl) ?_
  intro p e s m args below meth c C hnm
  show Z p l e _ s m args below meth c _ w _ _ 4 σ 0 [(0, .ref (w.2.2 0)), (1, .int p1)] []
  unfold fX6_shipsAt at hf
  refine z_iconst C 0 dX6_shipsAt_0 (by decide) ?_
  refine z_istore_n C dX6_shipsAt_1 rfl (by decide) rfl (lv' := [(2, .int 0), (0, .ref (w.2.2 0)), (1, .int p1)]) ?_
  refine z_iconst C 0 dX6_shipsAt_2 (by decide) ?_
  refine z_istore_n C dX6_shipsAt_3 rfl (by decide) rfl (lv' := [(3, .int 0), (2, .int 0), (0, .ref (w.2.2 0)), (1, .int p1)]) ?_
  obtain ⟨⟨x2_15, x3_16⟩, e_18, hf⟩ := bo_ hf
  try dsimp only at hf
  refine z_lv (lv' := [(0, .ref (w.2.2 0)), (1, .int p1), (2, .int 0), (3, .int 0)]) [2, 3, 1, 0] rfl ?_
  refine lfX6_shipsAt_L4 C (Nat.le_of_ble_eq_true rfl) (Nat.le_of_ble_eq_true rfl) σ p1 ?_ _ _ _ e_18
  refine z_iload_n C 2 dX6_shipsAt_40 rfl rfl ?_
  obtain rfl := fino_ hf
  exact z_iret C rfl dX6_shipsAt_41
def fX6_as (σ : ZS) (p1 : Int32) (p2 : Int32) : Option (Int32 × ZS) := if (fX6_isShip σ p1) = 0 then (bd (fX6_finding σ (-1000000001)) (fun r_2 σ_4 => some (r_2, σ_4))) else (if (fX6_within p2 0 6) = 0 then (bd (fX6_finding σ (-1000000001)) (fun r_19 σ_21 => some (r_19, σ_21))) else (bo (fX6_shipIs σ p1 0) (fun r_6 => bo (fX6_isUnder σ r_6 p2) (fun r_8 => bd (if r_8 = 0 then (bd (fX6_finding σ (-1000000005)) (fun r_14 σ_16 => some (r_14, σ_16))) else (bo (fX6_shipIs σ p1 1) (fun r_17 => some (r_17, σ)))) (fun (j_10 : Int32) σ_11 => some (j_10, σ_11))))))
set_option maxHeartbeats 4000000 in
set_option maxRecDepth 100000 in
theorem tX6_as (l : Launch) (w : ZW) {σ σ' : ZS} {p1 : Int32} {p2 : Int32} {r : Int32} (hf : fX6_as σ p1 p2 = some (r, σ')) : zC l w zLm yX6_as (ws_ yX6_as cX6_as 3 (some .int)) 2 28 [.ref (w.2.2 0), .int p1, .int p2] σ (.returned (some (.int r))) σ' := by
  refine zC.of (plainFor_of_name (by decide)) (Nat.le_of_ble_eq_true rfl) ?_
  intro p e s m args below meth c C hnm
  show Z p l e _ s m args below meth c _ w _ _ 3 σ 0 [(0, .ref (w.2.2 0)), (1, .int p1), (2, .int p2)] []
  unfold fX6_as at hf
  refine z_aload_n C 0 dX6_as_0 rfl rfl ?_
  refine z_iload_n C 1 dX6_as_1 rfl rfl ?_
  refine z_calli C (rest := []) (av := (.ref (w.2.2 0) :: [.int p1])) (zPay.of q1664 q83) (fun H ls hH h2 => zInv_V C (As := [.int p1]) (rest := []) (ci := 6) (T := TX6) (N := 24) rfl (zSee.fix ly_m0) hH q1661 q1663 qs55 (Or.inl rfl) q1664 mh_X6 np_X6_isShip dX6_as_2) (tX6_isShip l w σ p1) (Nat.le_of_ble_eq_true rfl) (Nat.le_of_ble_eq_true rfl) ?_
  refine z_if_eq C 18 dX6_as_5 (by decide) (fun c_1 => ?_) (fun c_1 => ?_)
  · replace hf := if_t c_1 hf
    refine z_aload_n C 0 dX6_as_18 rfl rfl ?_
    refine z_ldc C dX6_as_19 q1484 ?_
    obtain ⟨r_2, σ_4, e_3, hf⟩ := bd_ hf
    refine z_calli C (rest := []) (av := (.ref (w.2.2 0) :: [.int (-1000000001)])) (zPay.of q1488 q83) (fun H ls hH h2 => zInv_V C (As := [.int (-1000000001)]) (rest := []) (ci := 6) (T := TX6) (N := 24) rfl (zSee.fix ly_m0) hH q1485 q1487 qs32 (Or.inl rfl) q1488 mh_X6 np_X6_finding dX6_as_21) (tX6_finding l w e_3) (Nat.le_of_ble_eq_true rfl) (Nat.le_of_ble_eq_true rfl) ?_
    obtain ⟨rfl, rfl⟩ := fin_ hf
    exact z_iret C rfl dX6_as_24
  · replace hf := if_f c_1 hf
    refine z_iload_n C 2 dX6_as_8 rfl rfl ?_
    refine z_iconst C 0 dX6_as_9 (by decide) ?_
    refine z_bipush C 6 dX6_as_10 (by decide) ?_
    refine z_calli C (rest := []) (av := [.int p2, .int 0, .int 6]) (zPay.of q1483 q83) (fun H ls hH h2 => zInv_S C (As := [.int p2, .int 0, .int 6]) (rest := []) q1481 q1482 q83 (Or.inl rfl) q1483 mh_X6 np_X6_within dX6_as_12) (tX6_within l w zLm σ p2 0 6) (Nat.le_of_ble_eq_true rfl) (Nat.le_of_ble_eq_true rfl) ?_
    refine z_if_ne C 25 dX6_as_15 (by decide) (fun c_5 => ?_) (fun c_5 => ?_)
    · replace hf := if_f c_5 hf
      refine z_aload_n C 0 dX6_as_25 rfl rfl ?_
      refine z_iload_n C 1 dX6_as_26 rfl rfl ?_
      refine z_iconst C 0 dX6_as_27 (by decide) ?_
      obtain ⟨r_6, e_7, hf⟩ := bo_ hf
      refine z_calli C (rest := []) (av := (.ref (w.2.2 0) :: [.int p1, .int 0])) (zPay.of q1628 q83) (fun H ls hH h2 => zInv_V C (As := [.int p1, .int 0]) (rest := []) (ci := 6) (T := TX6) (N := 24) rfl (zSee.fix ly_m0) hH q1625 q1627 qs53 (Or.inl rfl) q1628 mh_X6 np_X6_shipIs dX6_as_28) (tX6_shipIs l w e_7) (Nat.le_of_ble_eq_true rfl) (Nat.le_of_ble_eq_true rfl) ?_
      refine z_iload_n C 2 dX6_as_31 rfl rfl ?_
      obtain ⟨r_8, e_9, hf⟩ := bo_ hf
      refine z_calli C (rest := []) (av := [.int r_6, .int p2]) (zPay.of q1683 q83) (fun H ls hH h2 => zInv_S C (As := [.int r_6, .int p2]) (rest := []) q1681 q1682 q83 (Or.inl rfl) q1683 mh_X6 np_X6_isUnder dX6_as_32) (tX6_isUnder l w e_9) (Nat.le_of_ble_eq_true rfl) (Nat.le_of_ble_eq_true rfl) ?_
      obtain ⟨j_10, σ_11, e_12, hf⟩ := bd_ hf
      have hje_12 : Z p l e (zRm 2 28 σ) s m args below meth c (zQ below w zLm σ (.returned (some (.int r))) σ' args s) w zLm (zA w zLm σ) 3 σ_11 53 [(0, .ref (w.2.2 0)), (1, .int p1), (2, .int p2)] [.int j_10] := by
        obtain ⟨rfl, rfl⟩ := fin_ hf
        exact z_iret C rfl dX6_as_53
      replace hf := e_12
      refine z_if_eq C 47 dX6_as_35 (by decide) (fun c_13 => ?_) (fun c_13 => ?_)
      · replace hf := if_t c_13 hf
        refine z_aload_n C 0 dX6_as_47 rfl rfl ?_
        refine z_ldc C dX6_as_48 q1687 ?_
        obtain ⟨r_14, σ_16, e_15, hf⟩ := bd_ hf
        refine z_calli C (rest := []) (av := (.ref (w.2.2 0) :: [.int (-1000000005)])) (zPay.of q1488 q83) (fun H ls hH h2 => zInv_V C (As := [.int (-1000000005)]) (rest := []) (ci := 6) (T := TX6) (N := 24) rfl (zSee.fix ly_m0) hH q1485 q1487 qs32 (Or.inl rfl) q1488 mh_X6 np_X6_finding dX6_as_50) (tX6_finding l w e_15) (Nat.le_of_ble_eq_true rfl) (Nat.le_of_ble_eq_true rfl) ?_
        obtain ⟨rfl, rfl⟩ := fin_ hf
        exact hje_12
      · replace hf := if_f c_13 hf
        refine z_aload_n C 0 dX6_as_38 rfl rfl ?_
        refine z_iload_n C 1 dX6_as_39 rfl rfl ?_
        refine z_iconst C 1 dX6_as_40 (by decide) ?_
        obtain ⟨r_17, e_18, hf⟩ := bo_ hf
        refine z_calli C (rest := []) (av := (.ref (w.2.2 0) :: [.int p1, .int 1])) (zPay.of q1628 q83) (fun H ls hH h2 => zInv_V C (As := [.int p1, .int 1]) (rest := []) (ci := 6) (T := TX6) (N := 24) rfl (zSee.fix ly_m0) hH q1625 q1627 qs53 (Or.inl rfl) q1628 mh_X6 np_X6_shipIs dX6_as_41) (tX6_shipIs l w e_18) (Nat.le_of_ble_eq_true rfl) (Nat.le_of_ble_eq_true rfl) ?_
        refine z_goto C 53 dX6_as_44 (by decide) ?_
        obtain ⟨rfl, rfl⟩ := fin_ hf
        exact hje_12
    · replace hf := if_t c_5 hf
      refine z_aload_n C 0 dX6_as_18 rfl rfl ?_
      refine z_ldc C dX6_as_19 q1484 ?_
      obtain ⟨r_19, σ_21, e_20, hf⟩ := bd_ hf
      refine z_calli C (rest := []) (av := (.ref (w.2.2 0) :: [.int (-1000000001)])) (zPay.of q1488 q83) (fun H ls hH h2 => zInv_V C (As := [.int (-1000000001)]) (rest := []) (ci := 6) (T := TX6) (N := 24) rfl (zSee.fix ly_m0) hH q1485 q1487 qs32 (Or.inl rfl) q1488 mh_X6 np_X6_finding dX6_as_21) (tX6_finding l w e_20) (Nat.le_of_ble_eq_true rfl) (Nat.le_of_ble_eq_true rfl) ?_
      obtain ⟨rfl, rfl⟩ := fin_ hf
      exact z_iret C rfl dX6_as_24
def fX6_manyIn (σ : ZS) : Option Int32 := bo (fX6_shipsAt σ 0) (fun r_1 => bo (fX6_bits σ r_1) (fun r_3 => some r_3))
set_option maxHeartbeats 4000000 in
set_option maxRecDepth 100000 in
theorem tX6_manyIn (l : Launch) (w : ZW) {σ : ZS} {r : Int32} (hf : fX6_manyIn σ = some r) : zC l w zLm yX6_manyIn (ws_ yX6_manyIn cX6_manyIn 1 (some .int)) 3 44 [.ref (w.2.2 0)] σ (.returned (some (.int r))) σ := by
  refine zC.of (plainFor_of_name (by decide)) (Nat.le_of_ble_eq_true rfl) ?_
  intro p e s m args below meth c C hnm
  show Z p l e _ s m args below meth c _ w _ _ 1 σ 0 [(0, .ref (w.2.2 0))] []
  unfold fX6_manyIn at hf
  refine z_aload_n C 0 dX6_manyIn_0 rfl rfl ?_
  refine z_iconst C 0 dX6_manyIn_1 (by decide) ?_
  obtain ⟨r_1, e_2, hf⟩ := bo_ hf
  refine z_calli C (rest := []) (av := (.ref (w.2.2 0) :: [.int 0])) (zPay.of q1624 q83) (fun H ls hH h2 => zInv_V C (As := [.int 0]) (rest := []) (ci := 6) (T := TX6) (N := 24) rfl (zSee.fix ly_m0) hH q1621 q1623 qs52 (Or.inl rfl) q1624 mh_X6 np_X6_shipsAt dX6_manyIn_2) (tX6_shipsAt l w e_2) (Nat.le_of_ble_eq_true rfl) (Nat.le_of_ble_eq_true rfl) ?_
  obtain ⟨r_3, e_4, hf⟩ := bo_ hf
  refine z_calli C (rest := []) (av := [.int r_1]) (zPay.of q1710 q83) (fun H ls hH h2 => zInv_S C (As := [.int r_1]) (rest := []) q1708 q1709 q83 (Or.inl rfl) q1710 mh_X6 np_X6_bits dX6_manyIn_5) (tX6_bits l w e_4) (Nat.le_of_ble_eq_true rfl) (Nat.le_of_ble_eq_true rfl) ?_
  obtain rfl := fino_ hf
  exact z_iret C rfl dX6_manyIn_8
def fX6_steersOf (σ : ZS) (p1 : Int32) : Option (Int32 × ZS) := bd (if (σ.1 0 17) = 5 then (bd (fX6_ran σ 60) (fun _ σ_29 => nm (p1 + 1) (fun (x2_30 : Int32) => some (x2_30, σ_29)))) else (some (p1, σ))) (fun (x2_1 : Int32) σ_2 => bo (fX6_isUnder σ_2 (σ_2.1 0 17) 2) (fun r_4 => bd (if r_4 = 0 then (some ((), σ_2)) else (bd (fX6_ran σ_2 30) (fun _ σ_25 => some ((), σ_25)))) (fun (_ : Unit) σ_6 => bd (fX6_ran σ_6 11) (fun _ σ_10 => bd (fX6_sailsOf σ_10 x2_1) (fun r_11 σ_13 => nm (r_11 * 2) (fun (x4_14 : Int32) => bd (if r_4 = 0 then (some (x4_14, σ_13)) else (bd (fX6_soundsOf σ_13 1) (fun r_19 σ_21 => some (x4_14 - r_19, σ_21)))) (fun (j_15 : Int32) σ_16 => some (j_15, σ_16))))))))
set_option maxHeartbeats 4000000 in
set_option maxRecDepth 100000 in
theorem tX6_steersOf (l : Launch) (w : ZW) {σ σ' : ZS} {p1 : Int32} {r : Int32} (hf : fX6_steersOf σ p1 = some (r, σ')) : zC l w zLm yX6_steersOf (ws_ yX6_steersOf cX6_steersOf 5 (some .int)) 3 42 [.ref (w.2.2 0), .int p1] σ (.returned (some (.int r))) σ' := by
  refine zC.of (plainFor_of_name (by decide)) (Nat.le_of_ble_eq_true rfl) ?_
  intro p e s m args below meth c C hnm
  show Z p l e _ s m args below meth c _ w _ _ 5 σ 0 [(0, .ref (w.2.2 0)), (1, .int p1)] []
  unfold fX6_steersOf at hf
  refine z_iload_n C 1 dX6_steersOf_0 rfl rfl ?_
  refine z_istore_n C dX6_steersOf_1 rfl (by decide) rfl (lv' := [(2, .int p1), (0, .ref (w.2.2 0)), (1, .int p1)]) ?_
  refine z_aload_n C 1 dX6_steersOf_2 rfl rfl ?_
  refine z_getI C ly_m0 (Cn := RX6) (T := TX6) (N := 24) rfl in_X6 17 (by decide) q1421 (Or.inl rfl) rfl dX6_steersOf_3 ?_
  refine z_iconst C 5 dX6_steersOf_6 (by decide) ?_
  obtain ⟨x2_1, σ_2, e_3, hf⟩ := bd_ hf
  have hje_3 : Z p l e (zRm 3 42 σ) s m args below meth c (zQ below w zLm σ (.returned (some (.int r))) σ' args s) w zLm (zA w zLm σ) 5 σ_2 19 [(0, .ref (w.2.2 0)), (1, .int p1), (2, .int x2_1)] [] := by
    refine z_aload_n C 0 dX6_steersOf_19 rfl rfl ?_
    refine z_getI C ly_m0 (Cn := RX6) (T := TX6) (N := 24) rfl in_X6 17 (by decide) q1421 (Or.inl rfl) rfl dX6_steersOf_20 ?_
    refine z_iconst C 2 dX6_steersOf_23 (by decide) ?_
    obtain ⟨r_4, e_5, hf⟩ := bo_ hf
    refine z_calli C (rest := []) (av := [.int (σ_2.1 0 17), .int 2]) (zPay.of q1683 q83) (fun H ls hH h2 => zInv_S C (As := [.int (σ_2.1 0 17), .int 2]) (rest := []) q1681 q1682 q83 (Or.inl rfl) q1683 mh_X6 np_X6_isUnder dX6_steersOf_24) (tX6_isUnder l w e_5) (Nat.le_of_ble_eq_true rfl) (Nat.le_of_ble_eq_true rfl) ?_
    refine z_istore_n C dX6_steersOf_27 rfl (by decide) rfl (lv' := [(3, .int r_4), (0, .ref (w.2.2 0)), (1, .int p1), (2, .int x2_1)]) ?_
    refine z_iload_n C 0 dX6_steersOf_28 rfl rfl ?_
    obtain ⟨⟨⟩, σ_6, e_7, hf⟩ := bd_ hf
    have hje_7 : Z p l e (zRm 3 42 σ) s m args below meth c (zQ below w zLm σ (.returned (some (.int r))) σ' args s) w zLm (zA w zLm σ) 5 σ_6 38 [(0, .ref (w.2.2 0)), (1, .int p1), (2, .int x2_1), (3, .int r_4)] [] := by
      refine z_aload_n C 0 dX6_steersOf_38 rfl rfl ?_
      refine z_bipush C 11 dX6_steersOf_39 (by decide) ?_
      obtain ⟨⟨⟩, σ_10, e_9, hf⟩ := bd_ hf
      refine z_callv C (rest := []) (av := (.ref (w.2.2 0) :: [.int 11])) (zPay.of q1809 q83) (fun H ls hH h2 => zInv_V C (As := [.int 11]) (rest := []) (ci := 6) (T := TX6) (N := 24) rfl (zSee.fix ly_m0) hH q1806 q1808 qs68 (Or.inl rfl) q1809 mh_X6 np_X6_ran dX6_steersOf_41) (tX6_ran l w e_9) (Nat.le_of_ble_eq_true rfl) (Nat.le_of_ble_eq_true rfl) ?_
      refine z_aload_n C 0 dX6_steersOf_44 rfl rfl ?_
      refine z_iload_n C 2 dX6_steersOf_45 rfl rfl ?_
      obtain ⟨r_11, σ_13, e_12, hf⟩ := bd_ hf
      refine z_calli C (rest := []) (av := (.ref (w.2.2 0) :: [.int x2_1])) (zPay.of q1805 q83) (fun H ls hH h2 => zInv_V C (As := [.int x2_1]) (rest := []) (ci := 6) (T := TX6) (N := 24) rfl (zSee.fix ly_m0) hH q1802 q1804 qs67 (Or.inl rfl) q1805 mh_X6 np_X6_sailsOf dX6_steersOf_46) (tX6_sailsOf l w e_12) (Nat.le_of_ble_eq_true rfl) (Nat.le_of_ble_eq_true rfl) ?_
      refine z_iconst C 2 dX6_steersOf_49 (by decide) ?_
      refine z_imul C dX6_steersOf_50 ?_
      obtain ⟨x4_14, ex4_14, hf⟩ := nmo_ hf
      refine z_top ex4_14 ?_
      refine z_istore C dX6_steersOf_51 (by decide) rfl (lv' := [(4, .int x4_14), (0, .ref (w.2.2 0)), (1, .int p1), (2, .int x2_1), (3, .int r_4)]) ?_
      refine z_iload_n C 4 dX6_steersOf_53 rfl rfl ?_
      obtain ⟨j_15, σ_16, e_17, hf⟩ := bd_ hf
      have hje_17 : Z p l e (zRm 3 42 σ) s m args below meth c (zQ below w zLm σ (.returned (some (.int r))) σ' args s) w zLm (zA w zLm σ) 5 σ_16 70 [(0, .ref (w.2.2 0)), (1, .int p1), (2, .int x2_1), (3, .int r_4), (4, .int x4_14)] [.int j_15] := by
        obtain ⟨rfl, rfl⟩ := fin_ hf
        exact z_iret C rfl dX6_steersOf_70
      replace hf := e_17
      refine z_if_eq C 68 dX6_steersOf_54 (by decide) (fun c_18 => ?_) (fun c_18 => ?_)
      · replace hf := if_t c_18 hf
        refine z_iload C 0 dX6_steersOf_68 rfl ?_
        obtain ⟨rfl, rfl⟩ := fin_ hf
        exact z_lv [1, 2, 3, 4, 0] rfl hje_17
      · replace hf := if_f c_18 hf
        refine z_iload C 0 dX6_steersOf_57 rfl ?_
        refine z_aload_n C 1 dX6_steersOf_59 rfl rfl ?_
        refine z_iconst C 1 dX6_steersOf_60 (by decide) ?_
        obtain ⟨r_19, σ_21, e_20, hf⟩ := bd_ hf
        refine z_calli C (rest := [.int x4_14]) (av := (.ref (w.2.2 0) :: [.int 1])) (zPay.of q1817 q83) (fun H ls hH h2 => zInv_V C (As := [.int 1]) (rest := [.int x4_14]) (ci := 6) (T := TX6) (N := 24) rfl (zSee.fix ly_m0) hH q1814 q1816 qs70 (Or.inl rfl) q1817 mh_X6 np_X6_soundsOf dX6_steersOf_61) (tX6_soundsOf l w e_20) (Nat.le_of_ble_eq_true rfl) (Nat.le_of_ble_eq_true rfl) ?_
        refine z_isub C dX6_steersOf_64 ?_
        refine z_goto C 70 dX6_steersOf_65 (by decide) ?_
        obtain ⟨rfl, rfl⟩ := fin_ hf
        exact z_lv [1, 2, 3, 4, 0] rfl hje_17
    replace hf := e_7
    refine z_if_eq C 38 dX6_steersOf_29 (by decide) (fun c_22 => ?_) (fun c_22 => ?_)
    · replace hf := if_t c_22 hf
      obtain ⟨-, rfl⟩ := fin_ hf
      exact z_lv [1, 2, 3, 0] rfl hje_7
    · replace hf := if_f c_22 hf
      refine z_aload_n C 1 dX6_steersOf_32 rfl rfl ?_
      refine z_bipush C 30 dX6_steersOf_33 (by decide) ?_
      obtain ⟨⟨⟩, σ_25, e_24, hf⟩ := bd_ hf
      refine z_callv C (rest := []) (av := (.ref (w.2.2 0) :: [.int 30])) (zPay.of q1809 q83) (fun H ls hH h2 => zInv_V C (As := [.int 30]) (rest := []) (ci := 6) (T := TX6) (N := 24) rfl (zSee.fix ly_m0) hH q1806 q1808 qs68 (Or.inl rfl) q1809 mh_X6 np_X6_ran dX6_steersOf_35) (tX6_ran l w e_24) (Nat.le_of_ble_eq_true rfl) (Nat.le_of_ble_eq_true rfl) ?_
      obtain ⟨-, rfl⟩ := fin_ hf
      exact z_lv [1, 2, 3, 0] rfl hje_7
  replace hf := e_3
  refine z_icmp_ne C 19 dX6_steersOf_7 (by decide) (fun c_26 => ?_) (fun c_26 => ?_)
  · replace hf := if_f c_26 hf
    obtain ⟨rfl, rfl⟩ := fin_ hf
    exact z_lv [1, 2, 0] rfl hje_3
  · replace hf := if_t c_26 hf
    refine z_aload_n C 1 dX6_steersOf_10 rfl rfl ?_
    refine z_bipush C 60 dX6_steersOf_11 (by decide) ?_
    obtain ⟨⟨⟩, σ_29, e_28, hf⟩ := bd_ hf
    refine z_callv C (rest := []) (av := (.ref (w.2.2 0) :: [.int 60])) (zPay.of q1809 q83) (fun H ls hH h2 => zInv_V C (As := [.int 60]) (rest := []) (ci := 6) (T := TX6) (N := 24) rfl (zSee.fix ly_m0) hH q1806 q1808 qs68 (Or.inl rfl) q1809 mh_X6 np_X6_ran dX6_steersOf_13) (tX6_ran l w e_28) (Nat.le_of_ble_eq_true rfl) (Nat.le_of_ble_eq_true rfl) ?_
    obtain ⟨x2_30, ex2_30, hf⟩ := nmo_ hf
    refine z_iinc C x2_30 0 dX6_steersOf_16 rfl (by rw [ex2_30]; rfl) (by decide) rfl (lv' := [(2, .int x2_30), (0, .ref (w.2.2 0)), (1, .int p1)]) ?_
    obtain ⟨rfl, rfl⟩ := fin_ hf
    exact z_lv [1, 2, 0] rfl hje_3
def fX6_plainLogs (σ : ZS) (p1 : Int32) : Option (Int32 × ZS) := bd (fX6_ran σ 13) (fun _ σ_3 => bd (fX6_steersOf σ_3 p1) (fun r_4 σ_6 => bd (fX6_soundsOf σ_6 p1) (fun r_7 σ_9 => some (r_4 ^^^ r_7, σ_9))))
set_option maxHeartbeats 4000000 in
set_option maxRecDepth 100000 in
theorem tX6_plainLogs (l : Launch) (w : ZW) {σ σ' : ZS} {p1 : Int32} {r : Int32} (hf : fX6_plainLogs σ p1 = some (r, σ')) : zC l w zLm yX6_plainLogs (ws_ yX6_plainLogs cX6_plainLogs 3 (some .int)) 4 58 [.ref (w.2.2 0), .int p1] σ (.returned (some (.int r))) σ' := by
  refine zC.of (plainFor_of_name (by decide)) (Nat.le_of_ble_eq_true rfl) ?_
  intro p e s m args below meth c C hnm
  show Z p l e _ s m args below meth c _ w _ _ 3 σ 0 [(0, .ref (w.2.2 0)), (1, .int p1)] []
  unfold fX6_plainLogs at hf
  refine z_aload_n C 0 dX6_plainLogs_0 rfl rfl ?_
  refine z_bipush C 13 dX6_plainLogs_1 (by decide) ?_
  obtain ⟨⟨⟩, σ_3, e_2, hf⟩ := bd_ hf
  refine z_callv C (rest := []) (av := (.ref (w.2.2 0) :: [.int 13])) (zPay.of q1809 q83) (fun H ls hH h2 => zInv_V C (As := [.int 13]) (rest := []) (ci := 6) (T := TX6) (N := 24) rfl (zSee.fix ly_m0) hH q1806 q1808 qs68 (Or.inl rfl) q1809 mh_X6 np_X6_ran dX6_plainLogs_3) (tX6_ran l w e_2) (Nat.le_of_ble_eq_true rfl) (Nat.le_of_ble_eq_true rfl) ?_
  refine z_aload_n C 0 dX6_plainLogs_6 rfl rfl ?_
  refine z_iload_n C 1 dX6_plainLogs_7 rfl rfl ?_
  obtain ⟨r_4, σ_6, e_5, hf⟩ := bd_ hf
  refine z_calli C (rest := []) (av := (.ref (w.2.2 0) :: [.int p1])) (zPay.of q1813 q83) (fun H ls hH h2 => zInv_V C (As := [.int p1]) (rest := []) (ci := 6) (T := TX6) (N := 24) rfl (zSee.fix ly_m0) hH q1810 q1812 qs69 (Or.inl rfl) q1813 mh_X6 np_X6_steersOf dX6_plainLogs_8) (tX6_steersOf l w e_5) (Nat.le_of_ble_eq_true rfl) (Nat.le_of_ble_eq_true rfl) ?_
  refine z_istore_n C dX6_plainLogs_11 rfl (by decide) rfl (lv' := [(2, .int r_4), (0, .ref (w.2.2 0)), (1, .int p1)]) ?_
  refine z_iload_n C 0 dX6_plainLogs_12 rfl rfl ?_
  refine z_aload_n C 1 dX6_plainLogs_13 rfl rfl ?_
  refine z_iload_n C 2 dX6_plainLogs_14 rfl rfl ?_
  obtain ⟨r_7, σ_9, e_8, hf⟩ := bd_ hf
  refine z_calli C (rest := [.int r_4]) (av := (.ref (w.2.2 0) :: [.int p1])) (zPay.of q1817 q83) (fun H ls hH h2 => zInv_V C (As := [.int p1]) (rest := [.int r_4]) (ci := 6) (T := TX6) (N := 24) rfl (zSee.fix ly_m0) hH q1814 q1816 qs70 (Or.inl rfl) q1817 mh_X6 np_X6_soundsOf dX6_plainLogs_15) (tX6_soundsOf l w e_8) (Nat.le_of_ble_eq_true rfl) (Nat.le_of_ble_eq_true rfl) ?_
  refine z_ixor C dX6_plainLogs_18 ?_
  obtain ⟨rfl, rfl⟩ := fin_ hf
  exact z_iret C rfl dX6_plainLogs_19
def fX6_count (σ : ZS) (p1 : Int32) : Option (Int32 × ZS) := if p1 = 0 then (some (σ.1 1 (1 : Int32).toNatClampNeg, σ)) else (if p1 = 1 then (some (σ.1 1 (2 : Int32).toNatClampNeg, σ)) else (if p1 = 2 then (some (σ.1 1 (0 : Int32).toNatClampNeg, σ)) else (if p1 = 3 then (some (σ.1 1 (3 : Int32).toNatClampNeg, σ)) else (if p1 = 4 then (some (σ.1 1 (4 : Int32).toNatClampNeg, σ)) else (if p1 = 5 then (some (σ.1 1 (5 : Int32).toNatClampNeg, σ)) else (if p1 = 6 then (bo (fX6_manyIn σ) (fun r_8 => some (r_8, σ))) else (if p1 = 7 then (bo (fX6_lostNow σ) (fun r_11 => bo (fX6_bits σ r_11) (fun r_13 => some (r_13, σ)))) else (if p1 = 8 then (some (σ.1 1 (7 : Int32).toNatClampNeg, σ)) else (if p1 = 9 then (some (σ.1 1 (8 : Int32).toNatClampNeg, σ)) else (if p1 = 10 then (some (σ.1 0 16, σ)) else (if p1 = 11 then (some (σ.1 1 (6 : Int32).toNatClampNeg, σ)) else (gd (p1.toInt < 0 ∨ 11 < p1.toInt) (bd (fX6_finding σ (-1000000001)) (fun r_20 σ_22 => some (r_20, σ_22)))))))))))))))
set_option maxHeartbeats 4000000 in
set_option maxRecDepth 100000 in
theorem tX6_count (l : Launch) (w : ZW) {σ σ' : ZS} {p1 : Int32} {r : Int32} (hf : fX6_count σ p1 = some (r, σ')) : zC l w zLm yX6_count (ws_ yX6_count cX6_count 2 (some .int)) 4 56 [.ref (w.2.2 0), .int p1] σ (.returned (some (.int r))) σ' := by
  refine zC.of (plainFor_of_name (by decide)) (Nat.le_of_ble_eq_true rfl) ?_
  intro p e s m args below meth c C hnm
  show Z p l e _ s m args below meth c _ w _ _ 2 σ 0 [(0, .ref (w.2.2 0)), (1, .int p1)] []
  unfold fX6_count at hf
  refine z_iload_n C 1 dX6_count_0 rfl rfl ?_
  by_cases c_1 : p1 = 0
  · replace hf := if_t c_1 hf
    refine z_top c_1.symm ?_
    refine z_tableIn (off := 63) C 64 dX6_count_1 (by decide) (by decide) (by decide) (by decide) ?_
    refine z_aload_n C 0 dX6_count_64 rfl rfl ?_
    refine z_getR C ly_m0 (Cn := RX6) (T := TX6) (N := 24) rfl in_X6 0 (by decide) q1404 (Or.inl rfl) rfl dX6_count_65 ?_
    refine z_iconst C 1 dX6_count_68 (by decide) ?_
    refine z_ialoadF C ly_m1 (by decide) dX6_count_69 ?_
    obtain ⟨rfl, rfl⟩ := fin_ hf
    exact z_iret C rfl dX6_count_70
  replace hf := if_f c_1 hf
  by_cases c_2 : p1 = 1
  · replace hf := if_t c_2 hf
    refine z_top c_2.symm ?_
    refine z_tableIn (off := 70) C 71 dX6_count_1 (by decide) (by decide) (by decide) (by decide) ?_
    refine z_aload_n C 0 dX6_count_71 rfl rfl ?_
    refine z_getR C ly_m0 (Cn := RX6) (T := TX6) (N := 24) rfl in_X6 0 (by decide) q1404 (Or.inl rfl) rfl dX6_count_72 ?_
    refine z_iconst C 2 dX6_count_75 (by decide) ?_
    refine z_ialoadF C ly_m1 (by decide) dX6_count_76 ?_
    obtain ⟨rfl, rfl⟩ := fin_ hf
    exact z_iret C rfl dX6_count_77
  replace hf := if_f c_2 hf
  by_cases c_3 : p1 = 2
  · replace hf := if_t c_3 hf
    refine z_top c_3.symm ?_
    refine z_tableIn (off := 77) C 78 dX6_count_1 (by decide) (by decide) (by decide) (by decide) ?_
    refine z_aload_n C 0 dX6_count_78 rfl rfl ?_
    refine z_getR C ly_m0 (Cn := RX6) (T := TX6) (N := 24) rfl in_X6 0 (by decide) q1404 (Or.inl rfl) rfl dX6_count_79 ?_
    refine z_iconst C 0 dX6_count_82 (by decide) ?_
    refine z_ialoadF C ly_m1 (by decide) dX6_count_83 ?_
    obtain ⟨rfl, rfl⟩ := fin_ hf
    exact z_iret C rfl dX6_count_84
  replace hf := if_f c_3 hf
  by_cases c_4 : p1 = 3
  · replace hf := if_t c_4 hf
    refine z_top c_4.symm ?_
    refine z_tableIn (off := 84) C 85 dX6_count_1 (by decide) (by decide) (by decide) (by decide) ?_
    refine z_aload_n C 0 dX6_count_85 rfl rfl ?_
    refine z_getR C ly_m0 (Cn := RX6) (T := TX6) (N := 24) rfl in_X6 0 (by decide) q1404 (Or.inl rfl) rfl dX6_count_86 ?_
    refine z_iconst C 3 dX6_count_89 (by decide) ?_
    refine z_ialoadF C ly_m1 (by decide) dX6_count_90 ?_
    obtain ⟨rfl, rfl⟩ := fin_ hf
    exact z_iret C rfl dX6_count_91
  replace hf := if_f c_4 hf
  by_cases c_5 : p1 = 4
  · replace hf := if_t c_5 hf
    refine z_top c_5.symm ?_
    refine z_tableIn (off := 91) C 92 dX6_count_1 (by decide) (by decide) (by decide) (by decide) ?_
    refine z_aload_n C 0 dX6_count_92 rfl rfl ?_
    refine z_getR C ly_m0 (Cn := RX6) (T := TX6) (N := 24) rfl in_X6 0 (by decide) q1404 (Or.inl rfl) rfl dX6_count_93 ?_
    refine z_iconst C 4 dX6_count_96 (by decide) ?_
    refine z_ialoadF C ly_m1 (by decide) dX6_count_97 ?_
    obtain ⟨rfl, rfl⟩ := fin_ hf
    exact z_iret C rfl dX6_count_98
  replace hf := if_f c_5 hf
  by_cases c_6 : p1 = 5
  · replace hf := if_t c_6 hf
    refine z_top c_6.symm ?_
    refine z_tableIn (off := 98) C 99 dX6_count_1 (by decide) (by decide) (by decide) (by decide) ?_
    refine z_aload_n C 0 dX6_count_99 rfl rfl ?_
    refine z_getR C ly_m0 (Cn := RX6) (T := TX6) (N := 24) rfl in_X6 0 (by decide) q1404 (Or.inl rfl) rfl dX6_count_100 ?_
    refine z_iconst C 5 dX6_count_103 (by decide) ?_
    refine z_ialoadF C ly_m1 (by decide) dX6_count_104 ?_
    obtain ⟨rfl, rfl⟩ := fin_ hf
    exact z_iret C rfl dX6_count_105
  replace hf := if_f c_6 hf
  by_cases c_7 : p1 = 6
  · replace hf := if_t c_7 hf
    refine z_top c_7.symm ?_
    refine z_tableIn (off := 105) C 106 dX6_count_1 (by decide) (by decide) (by decide) (by decide) ?_
    refine z_aload_n C 0 dX6_count_106 rfl rfl ?_
    obtain ⟨r_8, e_9, hf⟩ := bo_ hf
    refine z_calli C (rest := []) (av := (.ref (w.2.2 0) :: [])) (zPay.of q1707 q83) (fun H ls hH h2 => zInv_V C (As := []) (rest := []) (ci := 6) (T := TX6) (N := 24) rfl (zSee.fix ly_m0) hH q1704 q1706 qs60 (Or.inl rfl) q1707 mh_X6 np_X6_manyIn dX6_count_107) (tX6_manyIn l w e_9) (Nat.le_of_ble_eq_true rfl) (Nat.le_of_ble_eq_true rfl) ?_
    obtain ⟨rfl, rfl⟩ := fin_ hf
    exact z_iret C rfl dX6_count_110
  replace hf := if_f c_7 hf
  by_cases c_10 : p1 = 7
  · replace hf := if_t c_10 hf
    refine z_top c_10.symm ?_
    refine z_tableIn (off := 110) C 111 dX6_count_1 (by decide) (by decide) (by decide) (by decide) ?_
    refine z_aload_n C 0 dX6_count_111 rfl rfl ?_
    obtain ⟨r_11, e_12, hf⟩ := bo_ hf
    refine z_calli C (rest := []) (av := (.ref (w.2.2 0) :: [])) (zPay.of q1741 q83) (fun H ls hH h2 => zInv_V C (As := []) (rest := []) (ci := 6) (T := TX6) (N := 24) rfl (zSee.fix ly_m0) hH q1738 q1740 qs63 (Or.inl rfl) q1741 mh_X6 np_X6_lostNow dX6_count_112) (tX6_lostNow l w e_12) (Nat.le_of_ble_eq_true rfl) (Nat.le_of_ble_eq_true rfl) ?_
    obtain ⟨r_13, e_14, hf⟩ := bo_ hf
    refine z_calli C (rest := []) (av := [.int r_11]) (zPay.of q1710 q83) (fun H ls hH h2 => zInv_S C (As := [.int r_11]) (rest := []) q1708 q1709 q83 (Or.inl rfl) q1710 mh_X6 np_X6_bits dX6_count_115) (tX6_bits l w e_14) (Nat.le_of_ble_eq_true rfl) (Nat.le_of_ble_eq_true rfl) ?_
    obtain ⟨rfl, rfl⟩ := fin_ hf
    exact z_iret C rfl dX6_count_118
  replace hf := if_f c_10 hf
  by_cases c_15 : p1 = 8
  · replace hf := if_t c_15 hf
    refine z_top c_15.symm ?_
    refine z_tableIn (off := 118) C 119 dX6_count_1 (by decide) (by decide) (by decide) (by decide) ?_
    refine z_aload_n C 0 dX6_count_119 rfl rfl ?_
    refine z_getR C ly_m0 (Cn := RX6) (T := TX6) (N := 24) rfl in_X6 0 (by decide) q1404 (Or.inl rfl) rfl dX6_count_120 ?_
    refine z_bipush C 7 dX6_count_123 (by decide) ?_
    refine z_ialoadF C ly_m1 (by decide) dX6_count_125 ?_
    obtain ⟨rfl, rfl⟩ := fin_ hf
    exact z_iret C rfl dX6_count_126
  replace hf := if_f c_15 hf
  by_cases c_16 : p1 = 9
  · replace hf := if_t c_16 hf
    refine z_top c_16.symm ?_
    refine z_tableIn (off := 126) C 127 dX6_count_1 (by decide) (by decide) (by decide) (by decide) ?_
    refine z_aload_n C 0 dX6_count_127 rfl rfl ?_
    refine z_getR C ly_m0 (Cn := RX6) (T := TX6) (N := 24) rfl in_X6 0 (by decide) q1404 (Or.inl rfl) rfl dX6_count_128 ?_
    refine z_bipush C 8 dX6_count_131 (by decide) ?_
    refine z_ialoadF C ly_m1 (by decide) dX6_count_133 ?_
    obtain ⟨rfl, rfl⟩ := fin_ hf
    exact z_iret C rfl dX6_count_134
  replace hf := if_f c_16 hf
  by_cases c_17 : p1 = 10
  · replace hf := if_t c_17 hf
    refine z_top c_17.symm ?_
    refine z_tableIn (off := 134) C 135 dX6_count_1 (by decide) (by decide) (by decide) (by decide) ?_
    refine z_aload_n C 0 dX6_count_135 rfl rfl ?_
    refine z_getI C ly_m0 (Cn := RX6) (T := TX6) (N := 24) rfl in_X6 16 (by decide) q1420 (Or.inl rfl) rfl dX6_count_136 ?_
    obtain ⟨rfl, rfl⟩ := fin_ hf
    exact z_iret C rfl dX6_count_139
  replace hf := if_f c_17 hf
  by_cases c_18 : p1 = 11
  · replace hf := if_t c_18 hf
    refine z_top c_18.symm ?_
    refine z_tableIn (off := 139) C 140 dX6_count_1 (by decide) (by decide) (by decide) (by decide) ?_
    refine z_aload_n C 0 dX6_count_140 rfl rfl ?_
    refine z_getR C ly_m0 (Cn := RX6) (T := TX6) (N := 24) rfl in_X6 0 (by decide) q1404 (Or.inl rfl) rfl dX6_count_141 ?_
    refine z_bipush C 6 dX6_count_144 (by decide) ?_
    refine z_ialoadF C ly_m1 (by decide) dX6_count_146 ?_
    obtain ⟨rfl, rfl⟩ := fin_ hf
    exact z_iret C rfl dX6_count_147
  replace hf := if_f c_18 hf
  obtain ⟨g_19, hf⟩ := gd_ hf
  refine z_tableOut C 148 dX6_count_1 g_19 (by decide) ?_
  refine z_aload_n C 0 dX6_count_148 rfl rfl ?_
  refine z_ldc C dX6_count_149 q1484 ?_
  obtain ⟨r_20, σ_22, e_21, hf⟩ := bd_ hf
  refine z_calli C (rest := []) (av := (.ref (w.2.2 0) :: [.int (-1000000001)])) (zPay.of q1488 q83) (fun H ls hH h2 => zInv_V C (As := [.int (-1000000001)]) (rest := []) (ci := 6) (T := TX6) (N := 24) rfl (zSee.fix ly_m0) hH q1485 q1487 qs32 (Or.inl rfl) q1488 mh_X6 np_X6_finding dX6_count_151) (tX6_finding l w e_21) (Nat.le_of_ble_eq_true rfl) (Nat.le_of_ble_eq_true rfl) ?_
  obtain ⟨rfl, rfl⟩ := fin_ hf
  exact z_iret C rfl dX6_count_154
def fX6_law (σ : ZS) (p1 : Int32) (p2 : Int32) (p3 : Int32) (p4 : Int32) : Option (Int32 × ZS) := bd (if (fX6_within p1 0 1) = 0 then (bd (fX6_finding σ (-1000000001)) (fun r_5 σ_7 => some (r_5, σ_7))) else (bd (fX6_given σ p1 p2 p3 p4) (fun r_8 σ_10 => some (r_8, σ_10)))) (fun (j_1 : Int32) σ_2 => some (j_1, σ_2))
set_option maxHeartbeats 4000000 in
set_option maxRecDepth 100000 in
theorem tX6_law (l : Launch) (w : ZW) {σ σ' : ZS} {p1 : Int32} {p2 : Int32} {p3 : Int32} {p4 : Int32} {r : Int32} (hf : fX6_law σ p1 p2 p3 p4 = some (r, σ')) : zC l w zLm yX6_law (ws_ yX6_law cX6_law 5 (some .int)) 3 49 [.ref (w.2.2 0), .int p1, .int p2, .int p3, .int p4] σ (.returned (some (.int r))) σ' := by
  refine zC.of (plainFor_of_name (by decide)) (Nat.le_of_ble_eq_true rfl) ?_
  intro p e s m args below meth c C hnm
  show Z p l e _ s m args below meth c _ w _ _ 5 σ 0 [(0, .ref (w.2.2 0)), (1, .int p1), (2, .int p2), (3, .int p3), (4, .int p4)] []
  unfold fX6_law at hf
  refine z_iload_n C 1 dX6_law_0 rfl rfl ?_
  refine z_iconst C 0 dX6_law_1 (by decide) ?_
  refine z_iconst C 1 dX6_law_2 (by decide) ?_
  refine z_calli C (rest := []) (av := [.int p1, .int 0, .int 1]) (zPay.of q1483 q83) (fun H ls hH h2 => zInv_S C (As := [.int p1, .int 0, .int 1]) (rest := []) q1481 q1482 q83 (Or.inl rfl) q1483 mh_X6 np_X6_within dX6_law_3) (tX6_within l w zLm σ p1 0 1) (Nat.le_of_ble_eq_true rfl) (Nat.le_of_ble_eq_true rfl) ?_
  obtain ⟨j_1, σ_2, e_3, hf⟩ := bd_ hf
  have hje_3 : Z p l e (zRm 3 49 σ) s m args below meth c (zQ below w zLm σ (.returned (some (.int r))) σ' args s) w zLm (zA w zLm σ) 5 σ_2 27 [(0, .ref (w.2.2 0)), (1, .int p1), (2, .int p2), (3, .int p3), (4, .int p4)] [.int j_1] := by
    obtain ⟨rfl, rfl⟩ := fin_ hf
    exact z_iret C rfl dX6_law_27
  replace hf := e_3
  refine z_if_eq C 21 dX6_law_6 (by decide) (fun c_4 => ?_) (fun c_4 => ?_)
  · replace hf := if_t c_4 hf
    refine z_aload_n C 0 dX6_law_21 rfl rfl ?_
    refine z_ldc C dX6_law_22 q1484 ?_
    obtain ⟨r_5, σ_7, e_6, hf⟩ := bd_ hf
    refine z_calli C (rest := []) (av := (.ref (w.2.2 0) :: [.int (-1000000001)])) (zPay.of q1488 q83) (fun H ls hH h2 => zInv_V C (As := [.int (-1000000001)]) (rest := []) (ci := 6) (T := TX6) (N := 24) rfl (zSee.fix ly_m0) hH q1485 q1487 qs32 (Or.inl rfl) q1488 mh_X6 np_X6_finding dX6_law_24) (tX6_finding l w e_6) (Nat.le_of_ble_eq_true rfl) (Nat.le_of_ble_eq_true rfl) ?_
    obtain ⟨rfl, rfl⟩ := fin_ hf
    exact hje_3
  · replace hf := if_f c_4 hf
    refine z_aload_n C 0 dX6_law_9 rfl rfl ?_
    refine z_iload_n C 1 dX6_law_10 rfl rfl ?_
    refine z_iload_n C 2 dX6_law_11 rfl rfl ?_
    refine z_iload_n C 3 dX6_law_12 rfl rfl ?_
    refine z_iload C 4 dX6_law_13 rfl ?_
    obtain ⟨r_8, σ_10, e_9, hf⟩ := bd_ hf
    refine z_calli C (rest := []) (av := (.ref (w.2.2 0) :: [.int p1, .int p2, .int p3, .int p4])) (zPay.of q1564 q83) (fun H ls hH h2 => zInv_V C (As := [.int p1, .int p2, .int p3, .int p4]) (rest := []) (ci := 6) (T := TX6) (N := 24) rfl (zSee.fix ly_m0) hH q1561 q1563 qs43 (Or.inl rfl) q1564 mh_X6 np_X6_given dX6_law_15) (tX6_given l w e_9) (Nat.le_of_ble_eq_true rfl) (Nat.le_of_ble_eq_true rfl) ?_
    refine z_goto C 27 dX6_law_18 (by decide) ?_
    obtain ⟨rfl, rfl⟩ := fin_ hf
    exact hje_3
