/-! the reference, walked (written by gen/main_m.py) -/
def fX6_ofShip (σ : ZS) (p1 : Int32) (p2 : Int32) : Option (Int32 × ZS) := if (fX6_isShip σ p1) = 0 then (bd (fX6_finding σ (-1000000001)) (fun r_2 σ_4 => some (r_2, σ_4))) else (if (fX6_within p2 0 5) = 0 then (bd (fX6_finding σ (-1000000001)) (fun r_18 σ_20 => some (r_18, σ_20))) else (bo (fX6_shipIs σ p1 3) (fun r_6 => bd (if 5 ≤ p2 then (if r_6 = 0 then (some ((-1), σ)) else (bd (fX6_believes σ p1 (r_6 - 1)) (fun r_13 σ_15 => some (r_13, σ_15)))) else (bo (fX6_shipIs σ p1 p2) (fun r_16 => some (r_16, σ)))) (fun (j_8 : Int32) σ_9 => some (j_8, σ_9)))))
set_option maxHeartbeats 4000000 in
set_option maxRecDepth 100000 in
theorem tX6_ofShip (l : Launch) (w : ZW) {σ σ' : ZS} {p1 : Int32} {p2 : Int32} {r : Int32} (hf : fX6_ofShip σ p1 p2 = some (r, σ')) : zC l w zLm yX6_ofShip (ws_ yX6_ofShip cX6_ofShip 4 (some .int)) 7 113 [.ref (w.2.2 0), .int p1, .int p2] σ (.returned (some (.int r))) σ' := by
  refine zC.of (plainFor_of_name (by decide)) (Nat.le_of_ble_eq_true rfl) ?_
  intro p e s m args below meth c C hnm
  show Z p l e _ s m args below meth c _ w _ _ 4 σ 0 [(0, .ref (w.2.2 0)), (1, .int p1), (2, .int p2)] []
  unfold fX6_ofShip at hf
  refine z_aload_n C 0 dX6_ofShip_0 rfl rfl ?_
  refine z_iload_n C 1 dX6_ofShip_1 rfl rfl ?_
  refine z_calli C (rest := []) (av := (.ref (w.2.2 0) :: [.int p1])) (zPay.of q1664 q83) (fun H ls hH h2 => zInv_V C (As := [.int p1]) (rest := []) (ci := 6) (T := TX6) (N := 24) rfl (zSee.fix ly_m0) hH q1661 q1663 qs55 (Or.inl rfl) q1664 mh_X6 np_X6_isShip dX6_ofShip_2) (tX6_isShip l w σ p1) (Nat.le_of_ble_eq_true rfl) (Nat.le_of_ble_eq_true rfl) ?_
  refine z_if_eq C 17 dX6_ofShip_5 (by decide) (fun c_1 => ?_) (fun c_1 => ?_)
  · replace hf := if_t c_1 hf
    refine z_aload_n C 0 dX6_ofShip_17 rfl rfl ?_
    refine z_ldc C dX6_ofShip_18 q1484 ?_
    obtain ⟨r_2, σ_4, e_3, hf⟩ := bd_ hf
    refine z_calli C (rest := []) (av := (.ref (w.2.2 0) :: [.int (-1000000001)])) (zPay.of q1488 q83) (fun H ls hH h2 => zInv_V C (As := [.int (-1000000001)]) (rest := []) (ci := 6) (T := TX6) (N := 24) rfl (zSee.fix ly_m0) hH q1485 q1487 qs32 (Or.inl rfl) q1488 mh_X6 np_X6_finding dX6_ofShip_20) (tX6_finding l w e_3) (Nat.le_of_ble_eq_true rfl) (Nat.le_of_ble_eq_true rfl) ?_
    obtain ⟨rfl, rfl⟩ := fin_ hf
    exact z_iret C rfl dX6_ofShip_23
  · replace hf := if_f c_1 hf
    refine z_iload_n C 2 dX6_ofShip_8 rfl rfl ?_
    refine z_iconst C 0 dX6_ofShip_9 (by decide) ?_
    refine z_iconst C 5 dX6_ofShip_10 (by decide) ?_
    refine z_calli C (rest := []) (av := [.int p2, .int 0, .int 5]) (zPay.of q1483 q83) (fun H ls hH h2 => zInv_S C (As := [.int p2, .int 0, .int 5]) (rest := []) q1481 q1482 q83 (Or.inl rfl) q1483 mh_X6 np_X6_within dX6_ofShip_11) (tX6_within l w zLm σ p2 0 5) (Nat.le_of_ble_eq_true rfl) (Nat.le_of_ble_eq_true rfl) ?_
    refine z_if_ne C 24 dX6_ofShip_14 (by decide) (fun c_5 => ?_) (fun c_5 => ?_)
    · replace hf := if_f c_5 hf
      refine z_aload_n C 0 dX6_ofShip_24 rfl rfl ?_
      refine z_iload_n C 1 dX6_ofShip_25 rfl rfl ?_
      refine z_iconst C 3 dX6_ofShip_26 (by decide) ?_
      obtain ⟨r_6, e_7, hf⟩ := bo_ hf
      refine z_calli C (rest := []) (av := (.ref (w.2.2 0) :: [.int p1, .int 3])) (zPay.of q1628 q83) (fun H ls hH h2 => zInv_V C (As := [.int p1, .int 3]) (rest := []) (ci := 6) (T := TX6) (N := 24) rfl (zSee.fix ly_m0) hH q1625 q1627 qs53 (Or.inl rfl) q1628 mh_X6 np_X6_shipIs dX6_ofShip_27) (tX6_shipIs l w e_7) (Nat.le_of_ble_eq_true rfl) (Nat.le_of_ble_eq_true rfl) ?_
      refine z_istore_n C dX6_ofShip_30 rfl (by decide) rfl (lv' := [(3, .int r_6), (0, .ref (w.2.2 0)), (1, .int p1), (2, .int p2)]) ?_
      refine z_iload_n C 3 dX6_ofShip_31 rfl rfl ?_
      refine z_iconst C 5 dX6_ofShip_32 (by decide) ?_
      obtain ⟨j_8, σ_9, e_10, hf⟩ := bd_ hf
      have hje_10 : Z p l e (zRm 7 113 σ) s m args below meth c (zQ below w zLm σ (.returned (some (.int r))) σ' args s) w zLm (zA w zLm σ) 4 σ_9 61 [(0, .ref (w.2.2 0)), (1, .int p1), (2, .int p2), (3, .int r_6)] [.int j_8] := by
        obtain ⟨rfl, rfl⟩ := fin_ hf
        exact z_iret C rfl dX6_ofShip_61
      replace hf := e_10
      refine z_icmp_ge C 45 dX6_ofShip_33 (by decide) (fun c_11 => ?_) (fun c_11 => ?_)
      · replace hf := if_t c_11 hf
        refine z_iload_n C 0 dX6_ofShip_45 rfl rfl ?_
        refine z_if_ne C 53 dX6_ofShip_46 (by decide) (fun c_12 => ?_) (fun c_12 => ?_)
        · replace hf := if_f c_12 hf
          refine z_aload_n C 1 dX6_ofShip_53 rfl rfl ?_
          refine z_iload_n C 2 dX6_ofShip_54 rfl rfl ?_
          refine z_iload_n C 0 dX6_ofShip_55 rfl rfl ?_
          refine z_iconst C 1 dX6_ofShip_56 (by decide) ?_
          refine z_isub C dX6_ofShip_57 ?_
          obtain ⟨r_13, σ_15, e_14, hf⟩ := bd_ hf
          refine z_calli C (rest := []) (av := (.ref (w.2.2 0) :: [.int p1, .int (r_6 - 1)])) (zPay.of q1668 q83) (fun H ls hH h2 => zInv_V C (As := [.int p1, .int (r_6 - 1)]) (rest := []) (ci := 6) (T := TX6) (N := 24) rfl (zSee.fix ly_m0) hH q1665 q1667 qs56 (Or.inl rfl) q1668 mh_X6 np_X6_believes dX6_ofShip_58) (tX6_believes l w e_14) (Nat.le_of_ble_eq_true rfl) (Nat.le_of_ble_eq_true rfl) ?_
          obtain ⟨rfl, rfl⟩ := fin_ hf
          exact z_lv [1, 2, 3, 0] rfl hje_10
        · replace hf := if_t c_12 hf
          refine z_iconst C (-1) dX6_ofShip_49 (by decide) ?_
          refine z_goto C 61 dX6_ofShip_50 (by decide) ?_
          obtain ⟨rfl, rfl⟩ := fin_ hf
          exact z_lv [1, 2, 3, 0] rfl hje_10
      · replace hf := if_f c_11 hf
        refine z_aload_n C 1 dX6_ofShip_36 rfl rfl ?_
        refine z_iload_n C 2 dX6_ofShip_37 rfl rfl ?_
        refine z_iload_n C 3 dX6_ofShip_38 rfl rfl ?_
        obtain ⟨r_16, e_17, hf⟩ := bo_ hf
        refine z_calli C (rest := []) (av := (.ref (w.2.2 0) :: [.int p1, .int p2])) (zPay.of q1628 q83) (fun H ls hH h2 => zInv_V C (As := [.int p1, .int p2]) (rest := []) (ci := 6) (T := TX6) (N := 24) rfl (zSee.fix ly_m0) hH q1625 q1627 qs53 (Or.inl rfl) q1628 mh_X6 np_X6_shipIs dX6_ofShip_39) (tX6_shipIs l w e_17) (Nat.le_of_ble_eq_true rfl) (Nat.le_of_ble_eq_true rfl) ?_
        refine z_goto C 61 dX6_ofShip_42 (by decide) ?_
        obtain ⟨rfl, rfl⟩ := fin_ hf
        exact z_lv [1, 2, 3, 0] rfl hje_10
    · replace hf := if_t c_5 hf
      refine z_aload_n C 0 dX6_ofShip_17 rfl rfl ?_
      refine z_ldc C dX6_ofShip_18 q1484 ?_
      obtain ⟨r_18, σ_20, e_19, hf⟩ := bd_ hf
      refine z_calli C (rest := []) (av := (.ref (w.2.2 0) :: [.int (-1000000001)])) (zPay.of q1488 q83) (fun H ls hH h2 => zInv_V C (As := [.int (-1000000001)]) (rest := []) (ci := 6) (T := TX6) (N := 24) rfl (zSee.fix ly_m0) hH q1485 q1487 qs32 (Or.inl rfl) q1488 mh_X6 np_X6_finding dX6_ofShip_20) (tX6_finding l w e_19) (Nat.le_of_ble_eq_true rfl) (Nat.le_of_ble_eq_true rfl) ?_
      obtain ⟨rfl, rfl⟩ := fin_ hf
      exact z_iret C rfl dX6_ofShip_23
def fX6_hour_L2 : Nat → Int32 → ZS → Option ((Int32) × ZS)
  | 0, _, _ => none
  | n + 1, y1, σ => if (σ.1 1 (2 : Int32).toNatClampNeg) ≤ y1 then (some (y1, σ)) else (bo (fX6_shipIs σ y1 4) (fun r_2 => bd (if r_2 = 0 then (bo (fX6_shipIs σ y1 3) (fun r_8 => if r_8 ≤ 0 then (some ((), σ)) else (bd (fX6_sails σ y1) (fun _ σ_13 => some ((), σ_13))))) else (some ((), σ))) (fun (_ : Unit) σ_4 => nm (y1 + 1) (fun (x1_6 : Int32) => fX6_hour_L2 n x1_6 σ_4))))
def fX6_hour (σ : ZS) : Option (Unit × ZS) := bd (fX6_hour_L2 10000 0 σ) (fun x1_14 σ_15 => nm ((σ_15.1 1 (0 : Int32).toNatClampNeg) + 1) (fun (v_17 : Int32) => some ((), sI σ_15 1 ((0 : Int32).toNatClampNeg) v_17)))
set_option maxHeartbeats 4000000 in
set_option maxRecDepth 100000 in
theorem lfX6_hour_L2 {p : Program} {l : Launch} {e : Env} {R : Room} {s : State} {m : MethodId} {args : Array Value} {below : List Frame} {meth : Method} {c : Code} {Q : State → Prop} {w : ZW} {A : Nat → Prop} {ret : Option FieldType} {hh : List (Nat × Nat × Nat × Nat)} (C : zCx p s m args meth c w zLm A 2 cX6_hour RX6 ret hh) (hfr : 8 ≤ R.frames) (hlo : 127 ≤ R.locals) {z1 : Int32} {σ' : ZS} (hk : Z p l e R s m args below meth c Q w zLm A 2 σ' 41 [(0, .ref (w.2.2 0)), (1, .int z1)] []) : ∀ (n : Nat) (y1 : Int32) (σ : ZS), fX6_hour_L2 n y1 σ = some (z1, σ') → Z p l e R s m args below meth c Q w zLm A 2 σ 2 [(0, .ref (w.2.2 0)), (1, .int y1)] [] := by
  intro n
  induction n with
  | zero => intro y1 σ hf; exact none_ hf
  | succ n ih =>
    intro y1 σ hf
    rw [fX6_hour_L2] at hf
    refine z_iload_n C 1 dX6_hour_2 rfl rfl ?_
    refine z_aload_n C 0 dX6_hour_3 rfl rfl ?_
    refine z_getR C ly_m0 (Cn := RX6) (T := TX6) (N := 24) rfl in_X6 0 (by decide) q1404 (Or.inl rfl) rfl dX6_hour_4 ?_
    refine z_iconst C 2 dX6_hour_7 (by decide) ?_
    refine z_ialoadF C ly_m1 (by decide) dX6_hour_8 ?_
    refine z_icmp_ge C 41 dX6_hour_9 (by decide) (fun c_1 => ?_) (fun c_1 => ?_)
    · replace hf := if_t c_1 hf
      obtain ⟨rfl, rfl⟩ := fin_ hf
      exact hk
    · replace hf := if_f c_1 hf
      refine z_aload_n C 0 dX6_hour_12 rfl rfl ?_
      refine z_iload_n C 1 dX6_hour_13 rfl rfl ?_
      refine z_iconst C 4 dX6_hour_14 (by decide) ?_
      obtain ⟨r_2, e_3, hf⟩ := bo_ hf
      refine z_calli C (rest := []) (av := (.ref (w.2.2 0) :: [.int y1, .int 4])) (zPay.of q1628 q83) (fun H ls hH h2 => zInv_V C (As := [.int y1, .int 4]) (rest := []) (ci := 6) (T := TX6) (N := 24) rfl (zSee.fix ly_m0) hH q1625 q1627 qs53 (Or.inl rfl) q1628 mh_X6 np_X6_shipIs dX6_hour_15) (tX6_shipIs l w e_3) (Nat.le_trans (Nat.le_of_ble_eq_true rfl) hfr) (Nat.le_trans (Nat.le_of_ble_eq_true rfl) hlo) ?_
      obtain ⟨⟨⟩, σ_4, e_5, hf⟩ := bd_ hf
      have hje_5 : Z p l e R s m args below meth c Q w zLm A 2 σ_4 35 [(0, .ref (w.2.2 0)), (1, .int y1)] [] := by
        obtain ⟨x1_6, ex1_6, hf⟩ := nmo_ hf
        refine z_iinc C x1_6 1 dX6_hour_35 rfl (by rw [ex1_6]; rfl) (by decide) rfl (lv' := [(1, .int x1_6), (0, .ref (w.2.2 0))]) ?_
        refine z_goto C 2 dX6_hour_38 (by decide) ?_
        exact z_lv [1, 0] rfl (ih _ _ hf)
      replace hf := e_5
      refine z_if_ne C 35 dX6_hour_18 (by decide) (fun c_7 => ?_) (fun c_7 => ?_)
      · replace hf := if_f c_7 hf
        obtain ⟨-, rfl⟩ := fin_ hf
        exact hje_5
      · replace hf := if_t c_7 hf
        refine z_aload_n C 0 dX6_hour_21 rfl rfl ?_
        refine z_iload_n C 1 dX6_hour_22 rfl rfl ?_
        refine z_iconst C 3 dX6_hour_23 (by decide) ?_
        obtain ⟨r_8, e_9, hf⟩ := bo_ hf
        refine z_calli C (rest := []) (av := (.ref (w.2.2 0) :: [.int y1, .int 3])) (zPay.of q1628 q83) (fun H ls hH h2 => zInv_V C (As := [.int y1, .int 3]) (rest := []) (ci := 6) (T := TX6) (N := 24) rfl (zSee.fix ly_m0) hH q1625 q1627 qs53 (Or.inl rfl) q1628 mh_X6 np_X6_shipIs dX6_hour_24) (tX6_shipIs l w e_9) (Nat.le_trans (Nat.le_of_ble_eq_true rfl) hfr) (Nat.le_trans (Nat.le_of_ble_eq_true rfl) hlo) ?_
        refine z_if_le C 35 dX6_hour_27 (by decide) (fun c_10 => ?_) (fun c_10 => ?_)
        · replace hf := if_t c_10 hf
          obtain ⟨-, rfl⟩ := fin_ hf
          exact hje_5
        · replace hf := if_f c_10 hf
          refine z_aload_n C 0 dX6_hour_30 rfl rfl ?_
          refine z_iload_n C 1 dX6_hour_31 rfl rfl ?_
          obtain ⟨⟨⟩, σ_13, e_12, hf⟩ := bd_ hf
          refine z_callv C (rest := []) (av := (.ref (w.2.2 0) :: [.int y1])) (zPay.of q1703 q83) (fun H ls hH h2 => zInv_V C (As := [.int y1]) (rest := []) (ci := 6) (T := TX6) (N := 24) rfl (zSee.fix ly_m0) hH q1700 q1702 qs59 (Or.inl rfl) q1703 mh_X6 np_X6_sails dX6_hour_32) (tX6_sails l w e_12) (Nat.le_trans (Nat.le_of_ble_eq_true rfl) hfr) (Nat.le_trans (Nat.le_of_ble_eq_true rfl) hlo) ?_
          obtain ⟨-, rfl⟩ := fin_ hf
          exact hje_5
set_option maxHeartbeats 4000000 in
set_option maxRecDepth 100000 in
theorem tX6_hour (l : Launch) (w : ZW) {σ σ' : ZS} (hf : fX6_hour σ = some ((), σ')) : zC l w zLm yX6_hour (ws_ yX6_hour cX6_hour 2 none) 8 127 [.ref (w.2.2 0)] σ (.returned none) σ' := by
  refine zC.of (plainFor_of_name (by decide)) (Nat.le_of_ble_eq_true rfl) ?_
  intro p e s m args below meth c C hnm
  show Z p l e _ s m args below meth c _ w _ _ 2 σ 0 [(0, .ref (w.2.2 0))] []
  unfold fX6_hour at hf
  refine z_iconst C 0 dX6_hour_0 (by decide) ?_
  refine z_istore_n C dX6_hour_1 rfl (by decide) rfl (lv' := [(1, .int 0), (0, .ref (w.2.2 0))]) ?_
  obtain ⟨x1_14, σ_15, e_16, hf⟩ := bd_ hf
  refine z_lv (lv' := [(0, .ref (w.2.2 0)), (1, .int 0)]) [1, 0] rfl ?_
  refine lfX6_hour_L2 C (Nat.le_of_ble_eq_true rfl) (Nat.le_of_ble_eq_true rfl)  ?_ _ _ _ e_16
  refine z_aload_n C 0 dX6_hour_41 rfl rfl ?_
  refine z_getR C ly_m0 (Cn := RX6) (T := TX6) (N := 24) rfl in_X6 0 (by decide) q1404 (Or.inl rfl) rfl dX6_hour_42 ?_
  refine z_iconst C 0 dX6_hour_45 (by decide) ?_
  refine z_dup2 C dX6_hour_46 rfl rfl ?_
  refine z_ialoadF C ly_m1 (by decide) dX6_hour_47 ?_
  refine z_iconst C 1 dX6_hour_48 (by decide) ?_
  refine z_iadd C dX6_hour_49 ?_
  obtain ⟨v_17, ev_17, hf⟩ := nmo_ hf
  refine z_top ev_17 ?_
  refine z_iastore C ly_m1 (by decide) dX6_hour_50 ?_
  obtain ⟨-, rfl⟩ := fin_ hf
  exact z_vret C dX6_hour_51
def fX6_loose_L40 (y1 : Int32) : Nat → Int32 → ZS → Option ((Int32) × ZS)
  | 0, _, _ => none
  | n + 1, y2, σ => if y1 ≤ y2 then (some (y2, σ)) else (bd (fX6_drawn σ) (fun r_4 σ_6 => nm (r_4 - r_4 / 100 * 100) (fun (v_7 : Int32) => bd (fX6_hour (sI σ_6 1 ((4 : Int32).toNatClampNeg) v_7)) (fun _ σ_10 => nm (y2 + 1) (fun (x2_11 : Int32) => fX6_loose_L40 y1 n x2_11 σ_10)))))
def fX6_loose (σ : ZS) (p1 : Int32) : Option (Int32 × ZS) := if (fX6_within p1 1 40) = 0 then (bd (fX6_finding σ (-1000000001)) (fun r_20 σ_22 => some (r_20, σ_22))) else (if ((σ.1 1 (0 : Int32).toNatClampNeg) + p1) ≤ 9999 then (bd (fX6_loose_L40 p1 10000 0 σ) (fun x2_12 σ_13 => bo (fX6_manyIn σ_13) (fun r_15 => some (r_15, σ_13)))) else (bd (fX6_finding σ (-1000000003)) (fun r_17 σ_19 => some (r_17, σ_19))))
set_option maxHeartbeats 4000000 in
set_option maxRecDepth 100000 in
theorem lfX6_loose_L40 {p : Program} {l : Launch} {e : Env} {R : Room} {s : State} {m : MethodId} {args : Array Value} {below : List Frame} {meth : Method} {c : Code} {Q : State → Prop} {w : ZW} {A : Nat → Prop} {ret : Option FieldType} {hh : List (Nat × Nat × Nat × Nat)} (C : zCx p s m args meth c w zLm A 3 cX6_loose RX6 ret hh) (hfr : 9 ≤ R.frames) (hlo : 140 ≤ R.locals) (y1 : Int32) {z2 : Int32} {σ' : ZS} (hk : Z p l e R s m args below meth c Q w zLm A 3 σ' 68 [(0, .ref (w.2.2 0)), (1, .int y1), (2, .int z2)] []) : ∀ (n : Nat) (y2 : Int32) (σ : ZS), fX6_loose_L40 y1 n y2 σ = some (z2, σ') → Z p l e R s m args below meth c Q w zLm A 3 σ 40 [(0, .ref (w.2.2 0)), (1, .int y1), (2, .int y2)] [] := by
  intro n
  induction n with
  | zero => intro y2 σ hf; exact none_ hf
  | succ n ih =>
    intro y2 σ hf
    rw [fX6_loose_L40] at hf
    refine z_iload_n C 2 dX6_loose_40 rfl rfl ?_
    refine z_iload_n C 1 dX6_loose_41 rfl rfl ?_
    refine z_icmp_ge C 68 dX6_loose_42 (by decide) (fun c_3 => ?_) (fun c_3 => ?_)
    · replace hf := if_t c_3 hf
      obtain ⟨rfl, rfl⟩ := fin_ hf
      exact hk
    · replace hf := if_f c_3 hf
      refine z_aload_n C 0 dX6_loose_45 rfl rfl ?_
      refine z_getR C ly_m0 (Cn := RX6) (T := TX6) (N := 24) rfl in_X6 0 (by decide) q1404 (Or.inl rfl) rfl dX6_loose_46 ?_
      refine z_iconst C 4 dX6_loose_49 (by decide) ?_
      refine z_aload_n C 0 dX6_loose_50 rfl rfl ?_
      obtain ⟨r_4, σ_6, e_5, hf⟩ := bd_ hf
      refine z_calli C (rest := [.int 4, .ref (w.2.2 1)]) (av := (.ref (w.2.2 0) :: [])) (zPay.of q1718 q83) (fun H ls hH h2 => zInv_V C (As := []) (rest := [.int 4, .ref (w.2.2 1)]) (ci := 6) (T := TX6) (N := 24) rfl (zSee.fix ly_m0) hH q1715 q1717 qs61 (Or.inl rfl) q1718 mh_X6 np_X6_drawn dX6_loose_51) (tX6_drawn l w e_5) (Nat.le_trans (Nat.le_of_ble_eq_true rfl) hfr) (Nat.le_trans (Nat.le_of_ble_eq_true rfl) hlo) ?_
      refine z_bipush C 100 dX6_loose_54 (by decide) ?_
      refine z_irem C dX6_loose_56 (by decide) ?_
      obtain ⟨v_7, ev_7, hf⟩ := nmo_ hf
      refine z_top ev_7 ?_
      refine z_iastore C ly_m1 (by decide) dX6_loose_57 ?_
      refine z_aload_n C 0 dX6_loose_58 rfl rfl ?_
      obtain ⟨⟨⟩, σ_10, e_9, hf⟩ := bd_ hf
      refine z_callv C (rest := []) (av := (.ref (w.2.2 0) :: [])) (zPay.of q1699 q83) (fun H ls hH h2 => zInv_V C (As := []) (rest := []) (ci := 6) (T := TX6) (N := 24) rfl (zSee.fix ly_m0) hH q1696 q1698 qs58 (Or.inl rfl) q1699 mh_X6 np_X6_hour dX6_loose_59) (tX6_hour l w e_9) (Nat.le_trans (Nat.le_of_ble_eq_true rfl) hfr) (Nat.le_trans (Nat.le_of_ble_eq_true rfl) hlo) ?_
      obtain ⟨x2_11, ex2_11, hf⟩ := nmo_ hf
      refine z_iinc C x2_11 2 dX6_loose_62 rfl (by rw [ex2_11]; rfl) (by decide) rfl (lv' := [(2, .int x2_11), (0, .ref (w.2.2 0)), (1, .int y1)]) ?_
      refine z_goto C 40 dX6_loose_65 (by decide) ?_
      exact z_lv [1, 2, 0] rfl (ih _ _ hf)
set_option maxHeartbeats 4000000 in
set_option maxRecDepth 100000 in
theorem tX6_loose (l : Launch) (w : ZW) {σ σ' : ZS} {p1 : Int32} {r : Int32} (hf : fX6_loose σ p1 = some (r, σ')) : zC l w zLm yX6_loose (ws_ yX6_loose cX6_loose 3 (some .int)) 9 140 [.ref (w.2.2 0), .int p1] σ (.returned (some (.int r))) σ' := by
  refine zC.of (plainFor_of_name (by decide)) (Nat.le_of_ble_eq_true rfl) ?_
  intro p e s m args below meth c C hnm
  show Z p l e _ s m args below meth c _ w _ _ 3 σ 0 [(0, .ref (w.2.2 0)), (1, .int p1)] []
  unfold fX6_loose at hf
  refine z_iload_n C 1 dX6_loose_0 rfl rfl ?_
  refine z_iconst C 1 dX6_loose_1 (by decide) ?_
  refine z_bipush C 40 dX6_loose_2 (by decide) ?_
  refine z_calli C (rest := []) (av := [.int p1, .int 1, .int 40]) (zPay.of q1483 q83) (fun H ls hH h2 => zInv_S C (As := [.int p1, .int 1, .int 40]) (rest := []) q1481 q1482 q83 (Or.inl rfl) q1483 mh_X6 np_X6_within dX6_loose_4) (tX6_within l w zLm σ p1 1 40) (Nat.le_of_ble_eq_true rfl) (Nat.le_of_ble_eq_true rfl) ?_
  refine z_if_ne C 17 dX6_loose_7 (by decide) (fun c_1 => ?_) (fun c_1 => ?_)
  · replace hf := if_f c_1 hf
    refine z_aload_n C 0 dX6_loose_17 rfl rfl ?_
    refine z_getR C ly_m0 (Cn := RX6) (T := TX6) (N := 24) rfl in_X6 0 (by decide) q1404 (Or.inl rfl) rfl dX6_loose_18 ?_
    refine z_iconst C 0 dX6_loose_21 (by decide) ?_
    refine z_ialoadF C ly_m1 (by decide) dX6_loose_22 ?_
    refine z_iload_n C 1 dX6_loose_23 rfl rfl ?_
    refine z_iadd C dX6_loose_24 ?_
    refine z_sipush C 9999 dX6_loose_25 (by decide) ?_
    refine z_icmp_le C 38 dX6_loose_28 (by decide) (fun c_2 => ?_) (fun c_2 => ?_)
    · replace hf := if_t c_2 hf
      refine z_iconst C 0 dX6_loose_38 (by decide) ?_
      refine z_istore_n C dX6_loose_39 rfl (by decide) rfl (lv' := [(2, .int 0), (0, .ref (w.2.2 0)), (1, .int p1)]) ?_
      obtain ⟨x2_12, σ_13, e_14, hf⟩ := bd_ hf
      refine z_lv (lv' := [(0, .ref (w.2.2 0)), (1, .int p1), (2, .int 0)]) [1, 2, 0] rfl ?_
      refine lfX6_loose_L40 C (Nat.le_of_ble_eq_true rfl) (Nat.le_of_ble_eq_true rfl) p1 ?_ _ _ _ e_14
      refine z_aload_n C 0 dX6_loose_68 rfl rfl ?_
      obtain ⟨r_15, e_16, hf⟩ := bo_ hf
      refine z_calli C (rest := []) (av := (.ref (w.2.2 0) :: [])) (zPay.of q1707 q83) (fun H ls hH h2 => zInv_V C (As := []) (rest := []) (ci := 6) (T := TX6) (N := 24) rfl (zSee.fix ly_m0) hH q1704 q1706 qs60 (Or.inl rfl) q1707 mh_X6 np_X6_manyIn dX6_loose_69) (tX6_manyIn l w e_16) (Nat.le_of_ble_eq_true rfl) (Nat.le_of_ble_eq_true rfl) ?_
      obtain ⟨rfl, rfl⟩ := fin_ hf
      exact z_iret C rfl dX6_loose_72
    · replace hf := if_f c_2 hf
      refine z_aload_n C 0 dX6_loose_31 rfl rfl ?_
      refine z_ldc C dX6_loose_32 q1585 ?_
      obtain ⟨r_17, σ_19, e_18, hf⟩ := bd_ hf
      refine z_calli C (rest := []) (av := (.ref (w.2.2 0) :: [.int (-1000000003)])) (zPay.of q1488 q83) (fun H ls hH h2 => zInv_V C (As := [.int (-1000000003)]) (rest := []) (ci := 6) (T := TX6) (N := 24) rfl (zSee.fix ly_m0) hH q1485 q1487 qs32 (Or.inl rfl) q1488 mh_X6 np_X6_finding dX6_loose_34) (tX6_finding l w e_18) (Nat.le_of_ble_eq_true rfl) (Nat.le_of_ble_eq_true rfl) ?_
      obtain ⟨rfl, rfl⟩ := fin_ hf
      exact z_iret C rfl dX6_loose_37
  · replace hf := if_t c_1 hf
    refine z_aload_n C 0 dX6_loose_10 rfl rfl ?_
    refine z_ldc C dX6_loose_11 q1484 ?_
    obtain ⟨r_20, σ_22, e_21, hf⟩ := bd_ hf
    refine z_calli C (rest := []) (av := (.ref (w.2.2 0) :: [.int (-1000000001)])) (zPay.of q1488 q83) (fun H ls hH h2 => zInv_V C (As := [.int (-1000000001)]) (rest := []) (ci := 6) (T := TX6) (N := 24) rfl (zSee.fix ly_m0) hH q1485 q1487 qs32 (Or.inl rfl) q1488 mh_X6 np_X6_finding dX6_loose_13) (tX6_finding l w e_21) (Nat.le_of_ble_eq_true rfl) (Nat.le_of_ble_eq_true rfl) ?_
    obtain ⟨rfl, rfl⟩ := fin_ hf
    exact z_iret C rfl dX6_loose_16
def fX6_lost_L34 (y1 : Int32) (y2 : Int32) : Nat → Int32 → ZS → Option ((Int32) × ZS)
  | 0, _, _ => none
  | n + 1, y3, σ => if 60 ≤ y3 then (some (y3, σ)) else (bo (fX6_lostNow σ) (fun r_8 => if r_8 = y2 then (bd (fX6_hour σ) (fun _ σ_13 => nm (y3 + 1) (fun (x3_14 : Int32) => fX6_lost_L34 y1 y2 n x3_14 σ_13))) else (some (y3, σ))))
def fX6_lost (σ : ZS) (p1 : Int32) : Option (Int32 × ZS) := if (fX6_within p1 0 1) = 0 then (bd (fX6_finding σ (-1000000001)) (fun r_34 σ_36 => some (r_34, σ_36))) else (bd (fX6_copy σ 1 3) (fun _ σ_4 => bo (fX6_lostNow σ_4) (fun r_5 => bd (fX6_lost_L34 p1 r_5 10000 0 σ_4) (fun x3_15 σ_16 => bo (fX6_lostNow σ_16) (fun r_18 => nm (r_18 &&& (r_5 ^^^ (-1))) (fun (x4_20 : Int32) => bd (fX6_copy σ_16 3 1) (fun _ σ_23 => bd (if x4_20 = 0 then (bd (fX6_finding σ_23 (-1000000002)) (fun r_31 σ_33 => some (r_31, σ_33))) else (if p1 = 0 then (some (x3_15, σ_23)) else (bo (fX6_bits σ_23 ((x4_20 &&& (-x4_20)) - 1)) (fun r_29 => some (r_29, σ_23))))) (fun (j_24 : Int32) σ_25 => some (j_24, σ_25)))))))))
set_option maxHeartbeats 4000000 in
set_option maxRecDepth 100000 in
theorem lfX6_lost_L34 {p : Program} {l : Launch} {e : Env} {R : Room} {s : State} {m : MethodId} {args : Array Value} {below : List Frame} {meth : Method} {c : Code} {Q : State → Prop} {w : ZW} {A : Nat → Prop} {ret : Option FieldType} {hh : List (Nat × Nat × Nat × Nat)} (C : zCx p s m args meth c w zLm A 5 cX6_lost RX6 ret hh) (hfr : 9 ≤ R.frames) (hlo : 140 ≤ R.locals) (y1 : Int32) (y2 : Int32) {z3 : Int32} {σ' : ZS} (hk : Z p l e R s m args below meth c Q w zLm A 5 σ' 58 [(0, .ref (w.2.2 0)), (1, .int y1), (2, .int y2), (3, .int z3)] []) : ∀ (n : Nat) (y3 : Int32) (σ : ZS), fX6_lost_L34 y1 y2 n y3 σ = some (z3, σ') → Z p l e R s m args below meth c Q w zLm A 5 σ 34 [(0, .ref (w.2.2 0)), (1, .int y1), (2, .int y2), (3, .int y3)] [] := by
  intro n
  induction n with
  | zero => intro y3 σ hf; exact none_ hf
  | succ n ih =>
    intro y3 σ hf
    rw [fX6_lost_L34] at hf
    refine z_iload_n C 3 dX6_lost_34 rfl rfl ?_
    refine z_bipush C 60 dX6_lost_35 (by decide) ?_
    refine z_icmp_ge C 58 dX6_lost_37 (by decide) (fun c_7 => ?_) (fun c_7 => ?_)
    · replace hf := if_t c_7 hf
      obtain ⟨rfl, rfl⟩ := fin_ hf
      exact hk
    · replace hf := if_f c_7 hf
      refine z_aload_n C 0 dX6_lost_40 rfl rfl ?_
      obtain ⟨r_8, e_9, hf⟩ := bo_ hf
      refine z_calli C (rest := []) (av := (.ref (w.2.2 0) :: [])) (zPay.of q1741 q83) (fun H ls hH h2 => zInv_V C (As := []) (rest := []) (ci := 6) (T := TX6) (N := 24) rfl (zSee.fix ly_m0) hH q1738 q1740 qs63 (Or.inl rfl) q1741 mh_X6 np_X6_lostNow dX6_lost_41) (tX6_lostNow l w e_9) (Nat.le_trans (Nat.le_of_ble_eq_true rfl) hfr) (Nat.le_trans (Nat.le_of_ble_eq_true rfl) hlo) ?_
      refine z_iload_n C 2 dX6_lost_44 rfl rfl ?_
      refine z_icmp_ne C 58 dX6_lost_45 (by decide) (fun c_10 => ?_) (fun c_10 => ?_)
      · replace hf := if_f c_10 hf
        obtain ⟨rfl, rfl⟩ := fin_ hf
        exact hk
      · replace hf := if_t c_10 hf
        refine z_aload_n C 0 dX6_lost_48 rfl rfl ?_
        obtain ⟨⟨⟩, σ_13, e_12, hf⟩ := bd_ hf
        refine z_callv C (rest := []) (av := (.ref (w.2.2 0) :: [])) (zPay.of q1699 q83) (fun H ls hH h2 => zInv_V C (As := []) (rest := []) (ci := 6) (T := TX6) (N := 24) rfl (zSee.fix ly_m0) hH q1696 q1698 qs58 (Or.inl rfl) q1699 mh_X6 np_X6_hour dX6_lost_49) (tX6_hour l w e_12) (Nat.le_trans (Nat.le_of_ble_eq_true rfl) hfr) (Nat.le_trans (Nat.le_of_ble_eq_true rfl) hlo) ?_
        obtain ⟨x3_14, ex3_14, hf⟩ := nmo_ hf
        refine z_iinc C x3_14 3 dX6_lost_52 rfl (by rw [ex3_14]; rfl) (by decide) rfl (lv' := [(3, .int x3_14), (0, .ref (w.2.2 0)), (1, .int y1), (2, .int y2)]) ?_
        refine z_goto C 34 dX6_lost_55 (by decide) ?_
        exact z_lv [1, 2, 3, 0] rfl (ih _ _ hf)
set_option maxHeartbeats 4000000 in
set_option maxRecDepth 100000 in
theorem tX6_lost (l : Launch) (w : ZW) {σ σ' : ZS} {p1 : Int32} {r : Int32} (hf : fX6_lost σ p1 = some (r, σ')) : zC l w zLm yX6_lost (ws_ yX6_lost cX6_lost 5 (some .int)) 9 140 [.ref (w.2.2 0), .int p1] σ (.returned (some (.int r))) σ' := by
  refine zC.of (plainFor_of_name (by decide)) (Nat.le_of_ble_eq_true rfl) ?_
  intro p e s m args below meth c C hnm
  show Z p l e _ s m args below meth c _ w _ _ 5 σ 0 [(0, .ref (w.2.2 0)), (1, .int p1)] []
  unfold fX6_lost at hf
  refine z_iload_n C 1 dX6_lost_0 rfl rfl ?_
  refine z_iconst C 0 dX6_lost_1 (by decide) ?_
  refine z_iconst C 1 dX6_lost_2 (by decide) ?_
  refine z_calli C (rest := []) (av := [.int p1, .int 0, .int 1]) (zPay.of q1483 q83) (fun H ls hH h2 => zInv_S C (As := [.int p1, .int 0, .int 1]) (rest := []) q1481 q1482 q83 (Or.inl rfl) q1483 mh_X6 np_X6_within dX6_lost_3) (tX6_within l w zLm σ p1 0 1) (Nat.le_of_ble_eq_true rfl) (Nat.le_of_ble_eq_true rfl) ?_
  refine z_if_ne C 16 dX6_lost_6 (by decide) (fun c_1 => ?_) (fun c_1 => ?_)
  · replace hf := if_f c_1 hf
    refine z_aload_n C 0 dX6_lost_16 rfl rfl ?_
    refine z_getR C ly_m0 (Cn := RX6) (T := TX6) (N := 24) rfl in_X6 0 (by decide) q1404 (Or.inl rfl) rfl dX6_lost_17 ?_
    refine z_aload_n C 0 dX6_lost_20 rfl rfl ?_
    refine z_getR C ly_m0 (Cn := RX6) (T := TX6) (N := 24) rfl in_X6 2 (by decide) q1406 (Or.inl rfl) rfl dX6_lost_21 ?_
    obtain ⟨⟨⟩, σ_4, e_3, hf⟩ := bd_ hf
    refine z_callv C (rest := []) (av := [.ref (w.2.2 1), .ref (w.2.2 3)]) (zPay.of q1729 q83) (fun H ls hH h2 => zInv_S C (As := [.ref (w.2.2 1), .ref (w.2.2 3)]) (rest := []) q1727 q1728 q83 (Or.inl rfl) q1729 mh_X6 np_X6_copy dX6_lost_24) (tX6_copy l w ly_m1 ly_m3 e_3) (Nat.le_of_ble_eq_true rfl) (Nat.le_of_ble_eq_true rfl) ?_
    refine z_aload_n C 0 dX6_lost_27 rfl rfl ?_
    obtain ⟨r_5, e_6, hf⟩ := bo_ hf
    refine z_calli C (rest := []) (av := (.ref (w.2.2 0) :: [])) (zPay.of q1741 q83) (fun H ls hH h2 => zInv_V C (As := []) (rest := []) (ci := 6) (T := TX6) (N := 24) rfl (zSee.fix ly_m0) hH q1738 q1740 qs63 (Or.inl rfl) q1741 mh_X6 np_X6_lostNow dX6_lost_28) (tX6_lostNow l w e_6) (Nat.le_of_ble_eq_true rfl) (Nat.le_of_ble_eq_true rfl) ?_
    refine z_istore_n C dX6_lost_31 rfl (by decide) rfl (lv' := [(2, .int r_5), (0, .ref (w.2.2 0)), (1, .int p1)]) ?_
    refine z_iconst C 0 dX6_lost_32 (by decide) ?_
    refine z_istore_n C dX6_lost_33 rfl (by decide) rfl (lv' := [(3, .int 0), (2, .int r_5), (0, .ref (w.2.2 0)), (1, .int p1)]) ?_
    obtain ⟨x3_15, σ_16, e_17, hf⟩ := bd_ hf
    refine z_lv (lv' := [(0, .ref (w.2.2 0)), (1, .int p1), (2, .int r_5), (3, .int 0)]) [2, 3, 1, 0] rfl ?_
    refine lfX6_lost_L34 C (Nat.le_of_ble_eq_true rfl) (Nat.le_of_ble_eq_true rfl) p1 r_5 ?_ _ _ _ e_17
    refine z_aload_n C 0 dX6_lost_58 rfl rfl ?_
    obtain ⟨r_18, e_19, hf⟩ := bo_ hf
    refine z_calli C (rest := []) (av := (.ref (w.2.2 0) :: [])) (zPay.of q1741 q83) (fun H ls hH h2 => zInv_V C (As := []) (rest := []) (ci := 6) (T := TX6) (N := 24) rfl (zSee.fix ly_m0) hH q1738 q1740 qs63 (Or.inl rfl) q1741 mh_X6 np_X6_lostNow dX6_lost_59) (tX6_lostNow l w e_19) (Nat.le_of_ble_eq_true rfl) (Nat.le_of_ble_eq_true rfl) ?_
    refine z_iload_n C 2 dX6_lost_62 rfl rfl ?_
    refine z_iconst C (-1) dX6_lost_63 (by decide) ?_
    refine z_ixor C dX6_lost_64 ?_
    refine z_iand C dX6_lost_65 ?_
    obtain ⟨x4_20, ex4_20, hf⟩ := nmo_ hf
    refine z_top ex4_20 ?_
    refine z_istore C dX6_lost_66 (by decide) rfl (lv' := [(4, .int x4_20), (0, .ref (w.2.2 0)), (1, .int p1), (2, .int r_5), (3, .int x3_15)]) ?_
    refine z_aload_n C 1 dX6_lost_68 rfl rfl ?_
    refine z_getR C ly_m0 (Cn := RX6) (T := TX6) (N := 24) rfl in_X6 2 (by decide) q1406 (Or.inl rfl) rfl dX6_lost_69 ?_
    refine z_aload_n C 1 dX6_lost_72 rfl rfl ?_
    refine z_getR C ly_m0 (Cn := RX6) (T := TX6) (N := 24) rfl in_X6 0 (by decide) q1404 (Or.inl rfl) rfl dX6_lost_73 ?_
    obtain ⟨⟨⟩, σ_23, e_22, hf⟩ := bd_ hf
    refine z_callv C (rest := []) (av := [.ref (w.2.2 3), .ref (w.2.2 1)]) (zPay.of q1729 q83) (fun H ls hH h2 => zInv_S C (As := [.ref (w.2.2 3), .ref (w.2.2 1)]) (rest := []) q1727 q1728 q83 (Or.inl rfl) q1729 mh_X6 np_X6_copy dX6_lost_76) (tX6_copy l w ly_m3 ly_m1 e_22) (Nat.le_of_ble_eq_true rfl) (Nat.le_of_ble_eq_true rfl) ?_
    refine z_iload C 0 dX6_lost_79 rfl ?_
    obtain ⟨j_24, σ_25, e_26, hf⟩ := bd_ hf
    have hje_26 : Z p l e (zRm 9 140 σ) s m args below meth c (zQ below w zLm σ (.returned (some (.int r))) σ' args s) w zLm (zA w zLm σ) 5 σ_25 113 [(0, .ref (w.2.2 0)), (1, .int p1), (2, .int r_5), (3, .int x3_15), (4, .int x4_20)] [.int j_24] := by
      obtain ⟨rfl, rfl⟩ := fin_ hf
      exact z_iret C rfl dX6_lost_113
    replace hf := e_26
    refine z_if_ne C 94 dX6_lost_81 (by decide) (fun c_27 => ?_) (fun c_27 => ?_)
    · replace hf := if_f c_27 hf
      refine z_iload_n C 2 dX6_lost_94 rfl rfl ?_
      refine z_if_ne C 102 dX6_lost_95 (by decide) (fun c_28 => ?_) (fun c_28 => ?_)
      · replace hf := if_f c_28 hf
        refine z_iload C 0 dX6_lost_102 rfl ?_
        refine z_iload C 0 dX6_lost_104 rfl ?_
        refine z_ineg C dX6_lost_106 ?_
        refine z_iand C dX6_lost_107 ?_
        refine z_iconst C 1 dX6_lost_108 (by decide) ?_
        refine z_isub C dX6_lost_109 ?_
        obtain ⟨r_29, e_30, hf⟩ := bo_ hf
        refine z_calli C (rest := []) (av := [.int ((x4_20 &&& (-x4_20)) - 1)]) (zPay.of q1710 q83) (fun H ls hH h2 => zInv_S C (As := [.int ((x4_20 &&& (-x4_20)) - 1)]) (rest := []) q1708 q1709 q83 (Or.inl rfl) q1710 mh_X6 np_X6_bits dX6_lost_110) (tX6_bits l w e_30) (Nat.le_of_ble_eq_true rfl) (Nat.le_of_ble_eq_true rfl) ?_
        obtain ⟨rfl, rfl⟩ := fin_ hf
        exact z_lv [1, 2, 3, 4, 0] rfl hje_26
      · replace hf := if_t c_28 hf
        refine z_iload_n C 4 dX6_lost_98 rfl rfl ?_
        refine z_goto C 113 dX6_lost_99 (by decide) ?_
        obtain ⟨rfl, rfl⟩ := fin_ hf
        exact z_lv [1, 2, 3, 4, 0] rfl hje_26
    · replace hf := if_t c_27 hf
      refine z_aload_n C 1 dX6_lost_84 rfl rfl ?_
      refine z_ldc_w C dX6_lost_85 q1742 ?_
      obtain ⟨r_31, σ_33, e_32, hf⟩ := bd_ hf
      refine z_calli C (rest := []) (av := (.ref (w.2.2 0) :: [.int (-1000000002)])) (zPay.of q1488 q83) (fun H ls hH h2 => zInv_V C (As := [.int (-1000000002)]) (rest := []) (ci := 6) (T := TX6) (N := 24) rfl (zSee.fix ly_m0) hH q1485 q1487 qs32 (Or.inl rfl) q1488 mh_X6 np_X6_finding dX6_lost_88) (tX6_finding l w e_32) (Nat.le_of_ble_eq_true rfl) (Nat.le_of_ble_eq_true rfl) ?_
      refine z_goto C 113 dX6_lost_91 (by decide) ?_
      obtain ⟨rfl, rfl⟩ := fin_ hf
      exact z_lv [1, 2, 3, 4, 0] rfl hje_26
  · replace hf := if_t c_1 hf
    refine z_aload_n C 0 dX6_lost_9 rfl rfl ?_
    refine z_ldc C dX6_lost_10 q1484 ?_
    obtain ⟨r_34, σ_36, e_35, hf⟩ := bd_ hf
    refine z_calli C (rest := []) (av := (.ref (w.2.2 0) :: [.int (-1000000001)])) (zPay.of q1488 q83) (fun H ls hH h2 => zInv_V C (As := [.int (-1000000001)]) (rest := []) (ci := 6) (T := TX6) (N := 24) rfl (zSee.fix ly_m0) hH q1485 q1487 qs32 (Or.inl rfl) q1488 mh_X6 np_X6_finding dX6_lost_12) (tX6_finding l w e_35) (Nat.le_of_ble_eq_true rfl) (Nat.le_of_ble_eq_true rfl) ?_
    obtain ⟨rfl, rfl⟩ := fin_ hf
    exact z_iret C rfl dX6_lost_15
def fX6_leastFalse_L20 (y1 : Int32) : Nat → Int32 → Int32 → ZS → Option ((Int32 × Int32) × ZS)
  | 0, _, _, _ => none
  | n + 1, y2, y3, σ => if 99 < y3 then (some ((y2, y3), σ)) else (bd (fX6_falseBy σ y3) (fun r_3 σ_5 => bd (fX6_falseBy σ_5 y2) (fun r_6 σ_8 => nm (if r_6 ≤ r_3 then y2 else y3) (fun (j_9 : Int32) => nm (y3 + 1) (fun (x3_10 : Int32) => fX6_leastFalse_L20 y1 n j_9 x3_10 σ_8)))))
def fX6_leastFalse (σ : ZS) (p1 : Int32) : Option (Int32 × ZS) := if (fX6_within p1 0 1) = 0 then (bd (fX6_finding σ (-1000000001)) (fun r_23 σ_25 => some (r_23, σ_25))) else (bd (fX6_leastFalse_L20 p1 10000 1 2 σ) (fun uu14 σ_14 => bd (if p1 = 0 then (some ((uu14.1), σ_14)) else (bd (fX6_falseBy σ_14 (uu14.1)) (fun r_20 σ_22 => some (r_20, σ_22)))) (fun (j_16 : Int32) σ_17 => some (j_16, σ_17))))
set_option maxHeartbeats 4000000 in
set_option maxRecDepth 100000 in
theorem lfX6_leastFalse_L20 {p : Program} {l : Launch} {e : Env} {R : Room} {s : State} {m : MethodId} {args : Array Value} {below : List Frame} {meth : Method} {c : Code} {Q : State → Prop} {w : ZW} {A : Nat → Prop} {ret : Option FieldType} {hh : List (Nat × Nat × Nat × Nat)} (C : zCx p s m args meth c w zLm A 4 cX6_leastFalse RX6 ret hh) (hfr : 7 ≤ R.frames) (hlo : 114 ≤ R.locals) (y1 : Int32) {z2 : Int32} {z3 : Int32} {σ' : ZS} (hk : Z p l e R s m args below meth c Q w zLm A 4 σ' 51 [(0, .ref (w.2.2 0)), (1, .int y1), (2, .int z2), (3, .int z3)] []) : ∀ (n : Nat) (y2 : Int32) (y3 : Int32) (σ : ZS), fX6_leastFalse_L20 y1 n y2 y3 σ = some ((z2, z3), σ') → Z p l e R s m args below meth c Q w zLm A 4 σ 20 [(0, .ref (w.2.2 0)), (1, .int y1), (2, .int y2), (3, .int y3)] [] := by
  intro n
  induction n with
  | zero => intro y2 y3 σ hf; exact none_ hf
  | succ n ih =>
    intro y2 y3 σ hf
    rw [fX6_leastFalse_L20] at hf
    refine z_iload_n C 3 dX6_leastFalse_20 rfl rfl ?_
    refine z_bipush C 99 dX6_leastFalse_21 (by decide) ?_
    refine z_icmp_gt C 51 dX6_leastFalse_23 (by decide) (fun c_2 => ?_) (fun c_2 => ?_)
    · replace hf := if_t c_2 hf
      obtain ⟨hf1, rfl⟩ := fin_ hf
      simp only [Prod.mk.injEq] at hf1
      obtain ⟨rfl, rfl⟩ := hf1
      exact hk
    · replace hf := if_f c_2 hf
      refine z_aload_n C 0 dX6_leastFalse_26 rfl rfl ?_
      refine z_iload_n C 3 dX6_leastFalse_27 rfl rfl ?_
      obtain ⟨r_3, σ_5, e_4, hf⟩ := bd_ hf
      refine z_calli C (rest := []) (av := (.ref (w.2.2 0) :: [.int y3])) (zPay.of q1758 q83) (fun H ls hH h2 => zInv_V C (As := [.int y3]) (rest := []) (ci := 6) (T := TX6) (N := 24) rfl (zSee.fix ly_m0) hH q1755 q1757 qs65 (Or.inl rfl) q1758 mh_X6 np_X6_falseBy dX6_leastFalse_28) (tX6_falseBy l w e_4) (Nat.le_trans (Nat.le_of_ble_eq_true rfl) hfr) (Nat.le_trans (Nat.le_of_ble_eq_true rfl) hlo) ?_
      refine z_aload_n C 0 dX6_leastFalse_31 rfl rfl ?_
      refine z_iload_n C 2 dX6_leastFalse_32 rfl rfl ?_
      obtain ⟨r_6, σ_8, e_7, hf⟩ := bd_ hf
      refine z_calli C (rest := [.int r_3]) (av := (.ref (w.2.2 0) :: [.int y2])) (zPay.of q1758 q83) (fun H ls hH h2 => zInv_V C (As := [.int y2]) (rest := [.int r_3]) (ci := 6) (T := TX6) (N := 24) rfl (zSee.fix ly_m0) hH q1755 q1757 qs65 (Or.inl rfl) q1758 mh_X6 np_X6_falseBy dX6_leastFalse_33) (tX6_falseBy l w e_7) (Nat.le_trans (Nat.le_of_ble_eq_true rfl) hfr) (Nat.le_trans (Nat.le_of_ble_eq_true rfl) hlo) ?_
      obtain ⟨j_9, ej_9, hf⟩ := nmo_ hf
      have hjj_9 : Z p l e R s m args below meth c Q w zLm A 4 σ_8 44 [(0, .ref (w.2.2 0)), (1, .int y1), (2, .int y2), (3, .int y3)] [.int j_9] := by
        refine z_istore_n C dX6_leastFalse_44 rfl (by decide) rfl (lv' := [(2, .int j_9), (0, .ref (w.2.2 0)), (1, .int y1), (3, .int y3)]) ?_
        obtain ⟨x3_10, ex3_10, hf⟩ := nmo_ hf
        refine z_iinc C x3_10 3 dX6_leastFalse_45 rfl (by rw [ex3_10]; rfl) (by decide) rfl (lv' := [(3, .int x3_10), (2, .int j_9), (0, .ref (w.2.2 0)), (1, .int y1)]) ?_
        refine z_goto C 20 dX6_leastFalse_48 (by decide) ?_
        exact z_lv [2, 3, 1, 0] rfl (ih _ _ _ hf)
      replace hf := ej_9
      refine z_icmp_ge C 43 dX6_leastFalse_36 (by decide) (fun c_11 => ?_) (fun c_11 => ?_)
      · replace hf := ifp_t c_11 hf
        refine z_iload_n C 2 dX6_leastFalse_43 rfl rfl ?_
        subst hf
        exact hjj_9
      · replace hf := ifp_f c_11 hf
        refine z_iload_n C 3 dX6_leastFalse_39 rfl rfl ?_
        refine z_goto C 44 dX6_leastFalse_40 (by decide) ?_
        subst hf
        exact hjj_9
set_option maxHeartbeats 4000000 in
set_option maxRecDepth 100000 in
theorem tX6_leastFalse (l : Launch) (w : ZW) {σ σ' : ZS} {p1 : Int32} {r : Int32} (hf : fX6_leastFalse σ p1 = some (r, σ')) : zC l w zLm yX6_leastFalse (ws_ yX6_leastFalse cX6_leastFalse 4 (some .int)) 7 114 [.ref (w.2.2 0), .int p1] σ (.returned (some (.int r))) σ' := by
  refine zC.of (plainFor_of_name (by decide)) (Nat.le_of_ble_eq_true rfl) ?_
  intro p e s m args below meth c C hnm
  show Z p l e _ s m args below meth c _ w _ _ 4 σ 0 [(0, .ref (w.2.2 0)), (1, .int p1)] []
  unfold fX6_leastFalse at hf
  refine z_iload_n C 1 dX6_leastFalse_0 rfl rfl ?_
  refine z_iconst C 0 dX6_leastFalse_1 (by decide) ?_
  refine z_iconst C 1 dX6_leastFalse_2 (by decide) ?_
  refine z_calli C (rest := []) (av := [.int p1, .int 0, .int 1]) (zPay.of q1483 q83) (fun H ls hH h2 => zInv_S C (As := [.int p1, .int 0, .int 1]) (rest := []) q1481 q1482 q83 (Or.inl rfl) q1483 mh_X6 np_X6_within dX6_leastFalse_3) (tX6_within l w zLm σ p1 0 1) (Nat.le_of_ble_eq_true rfl) (Nat.le_of_ble_eq_true rfl) ?_
  refine z_if_ne C 16 dX6_leastFalse_6 (by decide) (fun c_1 => ?_) (fun c_1 => ?_)
  · replace hf := if_f c_1 hf
    refine z_iconst C 1 dX6_leastFalse_16 (by decide) ?_
    refine z_istore_n C dX6_leastFalse_17 rfl (by decide) rfl (lv' := [(2, .int 1), (0, .ref (w.2.2 0)), (1, .int p1)]) ?_
    refine z_iconst C 2 dX6_leastFalse_18 (by decide) ?_
    refine z_istore_n C dX6_leastFalse_19 rfl (by decide) rfl (lv' := [(3, .int 2), (2, .int 1), (0, .ref (w.2.2 0)), (1, .int p1)]) ?_
    obtain ⟨⟨x2_12, x3_13⟩, σ_14, e_15, hf⟩ := bd_ hf
    try dsimp only at hf
    refine z_lv (lv' := [(0, .ref (w.2.2 0)), (1, .int p1), (2, .int 1), (3, .int 2)]) [2, 3, 1, 0] rfl ?_
    refine lfX6_leastFalse_L20 C (Nat.le_of_ble_eq_true rfl) (Nat.le_of_ble_eq_true rfl) p1 ?_ _ _ _ _ e_15
    refine z_iload_n C 1 dX6_leastFalse_51 rfl rfl ?_
    obtain ⟨j_16, σ_17, e_18, hf⟩ := bd_ hf
    have hje_18 : Z p l e (zRm 7 114 σ) s m args below meth c (zQ below w zLm σ (.returned (some (.int r))) σ' args s) w zLm (zA w zLm σ) 4 σ_17 64 [(0, .ref (w.2.2 0)), (1, .int p1), (2, .int x2_12), (3, .int x3_13)] [.int j_16] := by
      obtain ⟨rfl, rfl⟩ := fin_ hf
      exact z_iret C rfl dX6_leastFalse_64
    replace hf := e_18
    refine z_if_ne C 59 dX6_leastFalse_52 (by decide) (fun c_19 => ?_) (fun c_19 => ?_)
    · replace hf := if_f c_19 hf
      refine z_aload_n C 0 dX6_leastFalse_59 rfl rfl ?_
      refine z_iload_n C 2 dX6_leastFalse_60 rfl rfl ?_
      obtain ⟨r_20, σ_22, e_21, hf⟩ := bd_ hf
      refine z_calli C (rest := []) (av := (.ref (w.2.2 0) :: [.int x2_12])) (zPay.of q1758 q83) (fun H ls hH h2 => zInv_V C (As := [.int x2_12]) (rest := []) (ci := 6) (T := TX6) (N := 24) rfl (zSee.fix ly_m0) hH q1755 q1757 qs65 (Or.inl rfl) q1758 mh_X6 np_X6_falseBy dX6_leastFalse_61) (tX6_falseBy l w e_21) (Nat.le_of_ble_eq_true rfl) (Nat.le_of_ble_eq_true rfl) ?_
      obtain ⟨rfl, rfl⟩ := fin_ hf
      exact hje_18
    · replace hf := if_t c_19 hf
      refine z_iload_n C 2 dX6_leastFalse_55 rfl rfl ?_
      refine z_goto C 64 dX6_leastFalse_56 (by decide) ?_
      obtain ⟨rfl, rfl⟩ := fin_ hf
      exact hje_18
  · replace hf := if_t c_1 hf
    refine z_aload_n C 0 dX6_leastFalse_9 rfl rfl ?_
    refine z_ldc C dX6_leastFalse_10 q1484 ?_
    obtain ⟨r_23, σ_25, e_24, hf⟩ := bd_ hf
    refine z_calli C (rest := []) (av := (.ref (w.2.2 0) :: [.int (-1000000001)])) (zPay.of q1488 q83) (fun H ls hH h2 => zInv_V C (As := [.int (-1000000001)]) (rest := []) (ci := 6) (T := TX6) (N := 24) rfl (zSee.fix ly_m0) hH q1485 q1487 qs32 (Or.inl rfl) q1488 mh_X6 np_X6_finding dX6_leastFalse_12) (tX6_finding l w e_24) (Nat.le_of_ble_eq_true rfl) (Nat.le_of_ble_eq_true rfl) ?_
    obtain ⟨rfl, rfl⟩ := fin_ hf
    exact z_iret C rfl dX6_leastFalse_15
def fX6_check_L31 (y1 : Int32) : Nat → Int32 → Int32 → ZS → Option ((Int32 × Int32) × ZS)
  | 0, _, _, _ => none
  | n + 1, y2, y3, σ => if y1 ≤ y3 then (some ((y2, y3), σ)) else (if y2 = 0 then (bd (fX6_hour σ) (fun _ σ_9 => gd (¬ ((118 + y3) < 0 ∨ 242 ≤ (118 + y3).toNatClampNeg)) (bo (fX6_manyIn σ_9) (fun r_11 => nm (if (σ_9.1 1 (118 + y3).toNatClampNeg) = r_11 then 0 else (1 + y3)) (fun (j_13 : Int32) => nm (y3 + 1) (fun (x3_14 : Int32) => fX6_check_L31 y1 n j_13 x3_14 σ_9)))))) else (some ((y2, y3), σ)))
def fX6_check (σ : ZS) : Option (Int32 × ZS) := nm (σ.1 1 (8 : Int32).toNatClampNeg) (fun (x1_1 : Int32) => bd (fX6_copy (sI σ 1 ((8 : Int32).toNatClampNeg) 0) 1 3) (fun _ σ_4 => bd (fX6_check_L31 x1_1 10000 0 0 σ_4) (fun uu18 σ_18 => bd (fX6_putBack σ_18 (uu18.1)) (fun r_20 σ_22 => some (r_20, σ_22)))))
set_option maxHeartbeats 4000000 in
set_option maxRecDepth 100000 in
theorem lfX6_check_L31 {p : Program} {l : Launch} {e : Env} {R : Room} {s : State} {m : MethodId} {args : Array Value} {below : List Frame} {meth : Method} {c : Code} {Q : State → Prop} {w : ZW} {A : Nat → Prop} {ret : Option FieldType} {hh : List (Nat × Nat × Nat × Nat)} (C : zCx p s m args meth c w zLm A 4 cX6_check RX6 ret hh) (hfr : 9 ≤ R.frames) (hlo : 140 ≤ R.locals) (y1 : Int32) {z2 : Int32} {z3 : Int32} {σ' : ZS} (hk : Z p l e R s m args below meth c Q w zLm A 4 σ' 74 [(0, .ref (w.2.2 0)), (1, .int y1), (2, .int z2), (3, .int z3)] []) : ∀ (n : Nat) (y2 : Int32) (y3 : Int32) (σ : ZS), fX6_check_L31 y1 n y2 y3 σ = some ((z2, z3), σ') → Z p l e R s m args below meth c Q w zLm A 4 σ 31 [(0, .ref (w.2.2 0)), (1, .int y1), (2, .int y2), (3, .int y3)] [] := by
  intro n
  induction n with
  | zero => intro y2 y3 σ hf; exact none_ hf
  | succ n ih =>
    intro y2 y3 σ hf
    rw [fX6_check_L31] at hf
    refine z_iload_n C 3 dX6_check_31 rfl rfl ?_
    refine z_iload_n C 1 dX6_check_32 rfl rfl ?_
    refine z_icmp_ge C 74 dX6_check_33 (by decide) (fun c_5 => ?_) (fun c_5 => ?_)
    · replace hf := if_t c_5 hf
      obtain ⟨hf1, rfl⟩ := fin_ hf
      simp only [Prod.mk.injEq] at hf1
      obtain ⟨rfl, rfl⟩ := hf1
      exact hk
    · replace hf := if_f c_5 hf
      refine z_iload_n C 2 dX6_check_36 rfl rfl ?_
      refine z_if_ne C 74 dX6_check_37 (by decide) (fun c_6 => ?_) (fun c_6 => ?_)
      · replace hf := if_f c_6 hf
        obtain ⟨hf1, rfl⟩ := fin_ hf
        simp only [Prod.mk.injEq] at hf1
        obtain ⟨rfl, rfl⟩ := hf1
        exact hk
      · replace hf := if_t c_6 hf
        refine z_aload_n C 0 dX6_check_40 rfl rfl ?_
        obtain ⟨⟨⟩, σ_9, e_8, hf⟩ := bd_ hf
        refine z_callv C (rest := []) (av := (.ref (w.2.2 0) :: [])) (zPay.of q1699 q83) (fun H ls hH h2 => zInv_V C (As := []) (rest := []) (ci := 6) (T := TX6) (N := 24) rfl (zSee.fix ly_m0) hH q1696 q1698 qs58 (Or.inl rfl) q1699 mh_X6 np_X6_hour dX6_check_41) (tX6_hour l w e_8) (Nat.le_trans (Nat.le_of_ble_eq_true rfl) hfr) (Nat.le_trans (Nat.le_of_ble_eq_true rfl) hlo) ?_
        refine z_aload_n C 0 dX6_check_44 rfl rfl ?_
        refine z_getR C ly_m0 (Cn := RX6) (T := TX6) (N := 24) rfl in_X6 0 (by decide) q1404 (Or.inl rfl) rfl dX6_check_45 ?_
        refine z_bipush C 118 dX6_check_48 (by decide) ?_
        refine z_iload_n C 3 dX6_check_50 rfl rfl ?_
        refine z_iadd C dX6_check_51 ?_
        obtain ⟨g_10, hf⟩ := gd_ hf
        refine z_ialoadF C ly_m1 g_10 dX6_check_52 ?_
        refine z_aload_n C 0 dX6_check_53 rfl rfl ?_
        obtain ⟨r_11, e_12, hf⟩ := bo_ hf
        refine z_calli C (rest := [.int (σ_9.1 1 (118 + y3).toNatClampNeg)]) (av := (.ref (w.2.2 0) :: [])) (zPay.of q1707 q83) (fun H ls hH h2 => zInv_V C (As := []) (rest := [.int (σ_9.1 1 (118 + y3).toNatClampNeg)]) (ci := 6) (T := TX6) (N := 24) rfl (zSee.fix ly_m0) hH q1704 q1706 qs60 (Or.inl rfl) q1707 mh_X6 np_X6_manyIn dX6_check_54) (tX6_manyIn l w e_12) (Nat.le_trans (Nat.le_of_ble_eq_true rfl) hfr) (Nat.le_trans (Nat.le_of_ble_eq_true rfl) hlo) ?_
        obtain ⟨j_13, ej_13, hf⟩ := nmo_ hf
        have hjj_13 : Z p l e R s m args below meth c Q w zLm A 4 σ_9 67 [(0, .ref (w.2.2 0)), (1, .int y1), (2, .int y2), (3, .int y3)] [.int j_13] := by
          refine z_istore_n C dX6_check_67 rfl (by decide) rfl (lv' := [(2, .int j_13), (0, .ref (w.2.2 0)), (1, .int y1), (3, .int y3)]) ?_
          obtain ⟨x3_14, ex3_14, hf⟩ := nmo_ hf
          refine z_iinc C x3_14 3 dX6_check_68 rfl (by rw [ex3_14]; rfl) (by decide) rfl (lv' := [(3, .int x3_14), (2, .int j_13), (0, .ref (w.2.2 0)), (1, .int y1)]) ?_
          refine z_goto C 31 dX6_check_71 (by decide) ?_
          exact z_lv [2, 3, 1, 0] rfl (ih _ _ _ hf)
        replace hf := ej_13
        refine z_icmp_ne C 64 dX6_check_57 (by decide) (fun c_15 => ?_) (fun c_15 => ?_)
        · replace hf := ifp_f c_15 hf
          refine z_iconst C 1 dX6_check_64 (by decide) ?_
          refine z_iload_n C 3 dX6_check_65 rfl rfl ?_
          refine z_iadd C dX6_check_66 ?_
          subst hf
          exact hjj_13
        · replace hf := ifp_t c_15 hf
          refine z_iconst C 0 dX6_check_60 (by decide) ?_
          refine z_goto C 67 dX6_check_61 (by decide) ?_
          subst hf
          exact hjj_13
set_option maxHeartbeats 4000000 in
set_option maxRecDepth 100000 in
theorem tX6_check (l : Launch) (w : ZW) {σ σ' : ZS} {r : Int32} (hf : fX6_check σ = some (r, σ')) : zC l w zLm yX6_check (ws_ yX6_check cX6_check 4 (some .int)) 9 140 [.ref (w.2.2 0)] σ (.returned (some (.int r))) σ' := by
  refine zC.of (plainFor_of_name (by decide)) (Nat.le_of_ble_eq_true rfl) ?_
  intro p e s m args below meth c C hnm
  show Z p l e _ s m args below meth c _ w _ _ 4 σ 0 [(0, .ref (w.2.2 0))] []
  unfold fX6_check at hf
  refine z_aload_n C 0 dX6_check_0 rfl rfl ?_
  refine z_getR C ly_m0 (Cn := RX6) (T := TX6) (N := 24) rfl in_X6 0 (by decide) q1404 (Or.inl rfl) rfl dX6_check_1 ?_
  refine z_bipush C 8 dX6_check_4 (by decide) ?_
  refine z_ialoadF C ly_m1 (by decide) dX6_check_6 ?_
  obtain ⟨x1_1, ex1_1, hf⟩ := nmo_ hf
  refine z_top ex1_1 ?_
  refine z_istore_n C dX6_check_7 rfl (by decide) rfl (lv' := [(1, .int x1_1), (0, .ref (w.2.2 0))]) ?_
  refine z_aload_n C 1 dX6_check_8 rfl rfl ?_
  refine z_getR C ly_m0 (Cn := RX6) (T := TX6) (N := 24) rfl in_X6 0 (by decide) q1404 (Or.inl rfl) rfl dX6_check_9 ?_
  refine z_bipush C 8 dX6_check_12 (by decide) ?_
  refine z_iconst C 0 dX6_check_14 (by decide) ?_
  refine z_iastore C ly_m1 (by decide) dX6_check_15 ?_
  refine z_aload_n C 1 dX6_check_16 rfl rfl ?_
  refine z_getR C ly_m0 (Cn := RX6) (T := TX6) (N := 24) rfl in_X6 0 (by decide) q1404 (Or.inl rfl) rfl dX6_check_17 ?_
  refine z_aload_n C 1 dX6_check_20 rfl rfl ?_
  refine z_getR C ly_m0 (Cn := RX6) (T := TX6) (N := 24) rfl in_X6 2 (by decide) q1406 (Or.inl rfl) rfl dX6_check_21 ?_
  obtain ⟨⟨⟩, σ_4, e_3, hf⟩ := bd_ hf
  refine z_callv C (rest := []) (av := [.ref (w.2.2 1), .ref (w.2.2 3)]) (zPay.of q1729 q83) (fun H ls hH h2 => zInv_S C (As := [.ref (w.2.2 1), .ref (w.2.2 3)]) (rest := []) q1727 q1728 q83 (Or.inl rfl) q1729 mh_X6 np_X6_copy dX6_check_24) (tX6_copy l w ly_m1 ly_m3 e_3) (Nat.le_of_ble_eq_true rfl) (Nat.le_of_ble_eq_true rfl) ?_
  refine z_iconst C 0 dX6_check_27 (by decide) ?_
  refine z_istore_n C dX6_check_28 rfl (by decide) rfl (lv' := [(2, .int 0), (1, .int x1_1), (0, .ref (w.2.2 0))]) ?_
  refine z_iconst C 0 dX6_check_29 (by decide) ?_
  refine z_istore_n C dX6_check_30 rfl (by decide) rfl (lv' := [(3, .int 0), (2, .int 0), (1, .int x1_1), (0, .ref (w.2.2 0))]) ?_
  obtain ⟨⟨x2_16, x3_17⟩, σ_18, e_19, hf⟩ := bd_ hf
  try dsimp only at hf
  refine z_lv (lv' := [(0, .ref (w.2.2 0)), (1, .int x1_1), (2, .int 0), (3, .int 0)]) [3, 2, 1, 0] rfl ?_
  refine lfX6_check_L31 C (Nat.le_of_ble_eq_true rfl) (Nat.le_of_ble_eq_true rfl) x1_1 ?_ _ _ _ _ e_19
  refine z_aload_n C 0 dX6_check_74 rfl rfl ?_
  refine z_iload_n C 2 dX6_check_75 rfl rfl ?_
  obtain ⟨r_20, σ_22, e_21, hf⟩ := bd_ hf
  refine z_calli C (rest := []) (av := (.ref (w.2.2 0) :: [.int x2_16])) (zPay.of q1733 q83) (fun H ls hH h2 => zInv_V C (As := [.int x2_16]) (rest := []) (ci := 6) (T := TX6) (N := 24) rfl (zSee.fix ly_m0) hH q1730 q1732 qs62 (Or.inl rfl) q1733 mh_X6 np_X6_putBack dX6_check_76) (tX6_putBack l w e_21) (Nat.le_of_ble_eq_true rfl) (Nat.le_of_ble_eq_true rfl) ?_
  obtain ⟨rfl, rfl⟩ := fin_ hf
  exact z_iret C rfl dX6_check_79
def fX6_hoursGo_L2 (y1 : Int32) : Nat → Int32 → ZS → Option ((Int32) × ZS)
  | 0, _, _ => none
  | n + 1, y2, σ => if y1 ≤ y2 then (some (y2, σ)) else (bd (fX6_hour σ) (fun _ σ_4 => nm (y2 + 1) (fun (x2_5 : Int32) => fX6_hoursGo_L2 y1 n x2_5 σ_4)))
def fX6_hoursGo (σ : ZS) (p1 : Int32) : Option (Unit × ZS) := bd (fX6_hoursGo_L2 p1 10000 0 σ) (fun x2_6 σ_7 => some ((), σ_7))
set_option maxHeartbeats 4000000 in
set_option maxRecDepth 100000 in
theorem lfX6_hoursGo_L2 {p : Program} {l : Launch} {e : Env} {R : Room} {s : State} {m : MethodId} {args : Array Value} {below : List Frame} {meth : Method} {c : Code} {Q : State → Prop} {w : ZW} {A : Nat → Prop} {ret : Option FieldType} {hh : List (Nat × Nat × Nat × Nat)} (C : zCx p s m args meth c w zLm A 3 cX6_hoursGo RX6 ret hh) (hfr : 9 ≤ R.frames) (hlo : 140 ≤ R.locals) (y1 : Int32) {z2 : Int32} {σ' : ZS} (hk : Z p l e R s m args below meth c Q w zLm A 3 σ' 17 [(0, .ref (w.2.2 0)), (1, .int y1), (2, .int z2)] []) : ∀ (n : Nat) (y2 : Int32) (σ : ZS), fX6_hoursGo_L2 y1 n y2 σ = some (z2, σ') → Z p l e R s m args below meth c Q w zLm A 3 σ 2 [(0, .ref (w.2.2 0)), (1, .int y1), (2, .int y2)] [] := by
  intro n
  induction n with
  | zero => intro y2 σ hf; exact none_ hf
  | succ n ih =>
    intro y2 σ hf
    rw [fX6_hoursGo_L2] at hf
    refine z_iload_n C 2 dX6_hoursGo_2 rfl rfl ?_
    refine z_iload_n C 1 dX6_hoursGo_3 rfl rfl ?_
    refine z_icmp_ge C 17 dX6_hoursGo_4 (by decide) (fun c_1 => ?_) (fun c_1 => ?_)
    · replace hf := if_t c_1 hf
      obtain ⟨rfl, rfl⟩ := fin_ hf
      exact hk
    · replace hf := if_f c_1 hf
      refine z_aload_n C 0 dX6_hoursGo_7 rfl rfl ?_
      obtain ⟨⟨⟩, σ_4, e_3, hf⟩ := bd_ hf
      refine z_callv C (rest := []) (av := (.ref (w.2.2 0) :: [])) (zPay.of q1699 q83) (fun H ls hH h2 => zInv_V C (As := []) (rest := []) (ci := 6) (T := TX6) (N := 24) rfl (zSee.fix ly_m0) hH q1696 q1698 qs58 (Or.inl rfl) q1699 mh_X6 np_X6_hour dX6_hoursGo_8) (tX6_hour l w e_3) (Nat.le_trans (Nat.le_of_ble_eq_true rfl) hfr) (Nat.le_trans (Nat.le_of_ble_eq_true rfl) hlo) ?_
      obtain ⟨x2_5, ex2_5, hf⟩ := nmo_ hf
      refine z_iinc C x2_5 2 dX6_hoursGo_11 rfl (by rw [ex2_5]; rfl) (by decide) rfl (lv' := [(2, .int x2_5), (0, .ref (w.2.2 0)), (1, .int y1)]) ?_
      refine z_goto C 2 dX6_hoursGo_14 (by decide) ?_
      exact z_lv [1, 2, 0] rfl (ih _ _ hf)
set_option maxHeartbeats 4000000 in
set_option maxRecDepth 100000 in
theorem tX6_hoursGo (l : Launch) (w : ZW) {σ σ' : ZS} {p1 : Int32} (hf : fX6_hoursGo σ p1 = some ((), σ')) : zC l w zLm yX6_hoursGo (ws_ yX6_hoursGo cX6_hoursGo 3 none) 9 140 [.ref (w.2.2 0), .int p1] σ (.returned none) σ' := by
  refine zC.of (plainFor_of_name (by decide)) (Nat.le_of_ble_eq_true rfl) ?_
  intro p e s m args below meth c C hnm
  show Z p l e _ s m args below meth c _ w _ _ 3 σ 0 [(0, .ref (w.2.2 0)), (1, .int p1)] []
  unfold fX6_hoursGo at hf
  refine z_iconst C 0 dX6_hoursGo_0 (by decide) ?_
  refine z_istore_n C dX6_hoursGo_1 rfl (by decide) rfl (lv' := [(2, .int 0), (0, .ref (w.2.2 0)), (1, .int p1)]) ?_
  obtain ⟨x2_6, σ_7, e_8, hf⟩ := bd_ hf
  refine z_lv (lv' := [(0, .ref (w.2.2 0)), (1, .int p1), (2, .int 0)]) [1, 2, 0] rfl ?_
  refine lfX6_hoursGo_L2 C (Nat.le_of_ble_eq_true rfl) (Nat.le_of_ble_eq_true rfl) p1 ?_ _ _ _ e_8
  obtain ⟨-, rfl⟩ := fin_ hf
  exact z_vret C dX6_hoursGo_17
def fX6_then (σ : ZS) (p1 : Int32) (p2 : Int32) (p3 : Int32) : Option (Int32 × ZS) := if (fX6_isBehind p1) = 0 then (bd (fX6_finding σ (-1000000001)) (fun r_2 σ_4 => some (r_2, σ_4))) else (if (fX6_isShip σ p2) = 0 then (bd (fX6_finding σ (-1000000001)) (fun r_6 σ_8 => some (r_6, σ_8))) else (if (fX6_within p3 0 1) = 0 then (bd (fX6_finding σ (-1000000001)) (fun r_23 σ_25 => some (r_23, σ_25))) else (bd (fX6_copy σ 1 3) (fun _ σ_12 => bd (fX6_hoursGo σ_12 p1) (fun _ σ_15 => nm (if p3 = 0 then 3 else 4) (fun (j_16 : Int32) => bo (fX6_shipIs σ_15 p2 j_16) (fun r_17 => bd (fX6_putBack σ_15 r_17) (fun r_19 σ_21 => some (r_19, σ_21)))))))))
set_option maxHeartbeats 4000000 in
set_option maxRecDepth 100000 in
theorem tX6_then (l : Launch) (w : ZW) {σ σ' : ZS} {p1 : Int32} {p2 : Int32} {p3 : Int32} {r : Int32} (hf : fX6_then σ p1 p2 p3 = some (r, σ')) : zC l w zLm yX6_then (ws_ yX6_then cX6_then 4 (some .int)) 10 154 [.ref (w.2.2 0), .int p1, .int p2, .int p3] σ (.returned (some (.int r))) σ' := by
  refine zC.of (plainFor_of_name (by decide)) (Nat.le_of_ble_eq_true rfl) ?_
  intro p e s m args below meth c C hnm
  show Z p l e _ s m args below meth c _ w _ _ 4 σ 0 [(0, .ref (w.2.2 0)), (1, .int p1), (2, .int p2), (3, .int p3)] []
  unfold fX6_then at hf
  refine z_iload_n C 1 dX6_then_0 rfl rfl ?_
  refine z_calli C (rest := []) (av := [.int p1]) (zPay.of q1726 q83) (fun H ls hH h2 => zInv_S C (As := [.int p1]) (rest := []) q1724 q1725 q83 (Or.inl rfl) q1726 mh_X6 np_X6_isBehind dX6_then_1) (tX6_isBehind l w zLm σ p1) (Nat.le_of_ble_eq_true rfl) (Nat.le_of_ble_eq_true rfl) ?_
  refine z_if_eq C 24 dX6_then_4 (by decide) (fun c_1 => ?_) (fun c_1 => ?_)
  · replace hf := if_t c_1 hf
    refine z_aload_n C 0 dX6_then_24 rfl rfl ?_
    refine z_ldc C dX6_then_25 q1484 ?_
    obtain ⟨r_2, σ_4, e_3, hf⟩ := bd_ hf
    refine z_calli C (rest := []) (av := (.ref (w.2.2 0) :: [.int (-1000000001)])) (zPay.of q1488 q83) (fun H ls hH h2 => zInv_V C (As := [.int (-1000000001)]) (rest := []) (ci := 6) (T := TX6) (N := 24) rfl (zSee.fix ly_m0) hH q1485 q1487 qs32 (Or.inl rfl) q1488 mh_X6 np_X6_finding dX6_then_27) (tX6_finding l w e_3) (Nat.le_of_ble_eq_true rfl) (Nat.le_of_ble_eq_true rfl) ?_
    obtain ⟨rfl, rfl⟩ := fin_ hf
    exact z_iret C rfl dX6_then_30
  · replace hf := if_f c_1 hf
    refine z_aload_n C 0 dX6_then_7 rfl rfl ?_
    refine z_iload_n C 2 dX6_then_8 rfl rfl ?_
    refine z_calli C (rest := []) (av := (.ref (w.2.2 0) :: [.int p2])) (zPay.of q1664 q83) (fun H ls hH h2 => zInv_V C (As := [.int p2]) (rest := []) (ci := 6) (T := TX6) (N := 24) rfl (zSee.fix ly_m0) hH q1661 q1663 qs55 (Or.inl rfl) q1664 mh_X6 np_X6_isShip dX6_then_9) (tX6_isShip l w σ p2) (Nat.le_of_ble_eq_true rfl) (Nat.le_of_ble_eq_true rfl) ?_
    refine z_if_eq C 24 dX6_then_12 (by decide) (fun c_5 => ?_) (fun c_5 => ?_)
    · replace hf := if_t c_5 hf
      refine z_aload_n C 0 dX6_then_24 rfl rfl ?_
      refine z_ldc C dX6_then_25 q1484 ?_
      obtain ⟨r_6, σ_8, e_7, hf⟩ := bd_ hf
      refine z_calli C (rest := []) (av := (.ref (w.2.2 0) :: [.int (-1000000001)])) (zPay.of q1488 q83) (fun H ls hH h2 => zInv_V C (As := [.int (-1000000001)]) (rest := []) (ci := 6) (T := TX6) (N := 24) rfl (zSee.fix ly_m0) hH q1485 q1487 qs32 (Or.inl rfl) q1488 mh_X6 np_X6_finding dX6_then_27) (tX6_finding l w e_7) (Nat.le_of_ble_eq_true rfl) (Nat.le_of_ble_eq_true rfl) ?_
      obtain ⟨rfl, rfl⟩ := fin_ hf
      exact z_iret C rfl dX6_then_30
    · replace hf := if_f c_5 hf
      refine z_iload_n C 3 dX6_then_15 rfl rfl ?_
      refine z_iconst C 0 dX6_then_16 (by decide) ?_
      refine z_iconst C 1 dX6_then_17 (by decide) ?_
      refine z_calli C (rest := []) (av := [.int p3, .int 0, .int 1]) (zPay.of q1483 q83) (fun H ls hH h2 => zInv_S C (As := [.int p3, .int 0, .int 1]) (rest := []) q1481 q1482 q83 (Or.inl rfl) q1483 mh_X6 np_X6_within dX6_then_18) (tX6_within l w zLm σ p3 0 1) (Nat.le_of_ble_eq_true rfl) (Nat.le_of_ble_eq_true rfl) ?_
      refine z_if_ne C 31 dX6_then_21 (by decide) (fun c_9 => ?_) (fun c_9 => ?_)
      · replace hf := if_f c_9 hf
        refine z_aload_n C 0 dX6_then_31 rfl rfl ?_
        refine z_getR C ly_m0 (Cn := RX6) (T := TX6) (N := 24) rfl in_X6 0 (by decide) q1404 (Or.inl rfl) rfl dX6_then_32 ?_
        refine z_aload_n C 0 dX6_then_35 rfl rfl ?_
        refine z_getR C ly_m0 (Cn := RX6) (T := TX6) (N := 24) rfl in_X6 2 (by decide) q1406 (Or.inl rfl) rfl dX6_then_36 ?_
        obtain ⟨⟨⟩, σ_12, e_11, hf⟩ := bd_ hf
        refine z_callv C (rest := []) (av := [.ref (w.2.2 1), .ref (w.2.2 3)]) (zPay.of q1729 q83) (fun H ls hH h2 => zInv_S C (As := [.ref (w.2.2 1), .ref (w.2.2 3)]) (rest := []) q1727 q1728 q83 (Or.inl rfl) q1729 mh_X6 np_X6_copy dX6_then_39) (tX6_copy l w ly_m1 ly_m3 e_11) (Nat.le_of_ble_eq_true rfl) (Nat.le_of_ble_eq_true rfl) ?_
        refine z_aload_n C 0 dX6_then_42 rfl rfl ?_
        refine z_iload_n C 1 dX6_then_43 rfl rfl ?_
        obtain ⟨⟨⟩, σ_15, e_14, hf⟩ := bd_ hf
        refine z_callv C (rest := []) (av := (.ref (w.2.2 0) :: [.int p1])) (zPay.of q1695 q83) (fun H ls hH h2 => zInv_V C (As := [.int p1]) (rest := []) (ci := 6) (T := TX6) (N := 24) rfl (zSee.fix ly_m0) hH q1692 q1694 qs57 (Or.inl rfl) q1695 mh_X6 np_X6_hoursGo dX6_then_44) (tX6_hoursGo l w e_14) (Nat.le_of_ble_eq_true rfl) (Nat.le_of_ble_eq_true rfl) ?_
        refine z_aload_n C 0 dX6_then_47 rfl rfl ?_
        refine z_aload_n C 0 dX6_then_48 rfl rfl ?_
        refine z_iload_n C 2 dX6_then_49 rfl rfl ?_
        refine z_iload_n C 3 dX6_then_50 rfl rfl ?_
        obtain ⟨j_16, ej_16, hf⟩ := nmo_ hf
        have hjj_16 : Z p l e (zRm 10 154 σ) s m args below meth c (zQ below w zLm σ (.returned (some (.int r))) σ' args s) w zLm (zA w zLm σ) 4 σ_15 59 [(0, .ref (w.2.2 0)), (1, .int p1), (2, .int p2), (3, .int p3)] [.int j_16, .int p2, .ref (w.2.2 0), .ref (w.2.2 0)] := by
          obtain ⟨r_17, e_18, hf⟩ := bo_ hf
          refine z_calli C (rest := [.ref (w.2.2 0)]) (av := (.ref (w.2.2 0) :: [.int p2, .int j_16])) (zPay.of q1628 q83) (fun H ls hH h2 => zInv_V C (As := [.int p2, .int j_16]) (rest := [.ref (w.2.2 0)]) (ci := 6) (T := TX6) (N := 24) rfl (zSee.fix ly_m0) hH q1625 q1627 qs53 (Or.inl rfl) q1628 mh_X6 np_X6_shipIs dX6_then_59) (tX6_shipIs l w e_18) (Nat.le_of_ble_eq_true rfl) (Nat.le_of_ble_eq_true rfl) ?_
          obtain ⟨r_19, σ_21, e_20, hf⟩ := bd_ hf
          refine z_calli C (rest := []) (av := (.ref (w.2.2 0) :: [.int r_17])) (zPay.of q1733 q83) (fun H ls hH h2 => zInv_V C (As := [.int r_17]) (rest := []) (ci := 6) (T := TX6) (N := 24) rfl (zSee.fix ly_m0) hH q1730 q1732 qs62 (Or.inl rfl) q1733 mh_X6 np_X6_putBack dX6_then_62) (tX6_putBack l w e_20) (Nat.le_of_ble_eq_true rfl) (Nat.le_of_ble_eq_true rfl) ?_
          obtain ⟨rfl, rfl⟩ := fin_ hf
          exact z_iret C rfl dX6_then_65
        replace hf := ej_16
        refine z_if_ne C 58 dX6_then_51 (by decide) (fun c_22 => ?_) (fun c_22 => ?_)
        · replace hf := ifp_f c_22 hf
          refine z_iconst C 4 dX6_then_58 (by decide) ?_
          subst hf
          exact hjj_16
        · replace hf := ifp_t c_22 hf
          refine z_iconst C 3 dX6_then_54 (by decide) ?_
          refine z_goto C 59 dX6_then_55 (by decide) ?_
          subst hf
          exact hjj_16
      · replace hf := if_t c_9 hf
        refine z_aload_n C 0 dX6_then_24 rfl rfl ?_
        refine z_ldc C dX6_then_25 q1484 ?_
        obtain ⟨r_23, σ_25, e_24, hf⟩ := bd_ hf
        refine z_calli C (rest := []) (av := (.ref (w.2.2 0) :: [.int (-1000000001)])) (zPay.of q1488 q83) (fun H ls hH h2 => zInv_V C (As := [.int (-1000000001)]) (rest := []) (ci := 6) (T := TX6) (N := 24) rfl (zSee.fix ly_m0) hH q1485 q1487 qs32 (Or.inl rfl) q1488 mh_X6 np_X6_finding dX6_then_27) (tX6_finding l w e_24) (Nat.le_of_ble_eq_true rfl) (Nat.le_of_ble_eq_true rfl) ?_
        obtain ⟨rfl, rfl⟩ := fin_ hf
        exact z_iret C rfl dX6_then_30
def fX6_inBehind (σ : ZS) (p1 : Int32) : Option (Int32 × ZS) := bd (fX6_hoursGo σ p1) (fun _ σ_3 => bo (fX6_shipsAt σ_3 0) (fun r_4 => bd (fX6_putBack σ_3 r_4) (fun r_6 σ_8 => some (r_6, σ_8))))
set_option maxHeartbeats 4000000 in
set_option maxRecDepth 100000 in
theorem tX6_inBehind (l : Launch) (w : ZW) {σ σ' : ZS} {p1 : Int32} {r : Int32} (hf : fX6_inBehind σ p1 = some (r, σ')) : zC l w zLm yX6_inBehind (ws_ yX6_inBehind cX6_inBehind 2 (some .int)) 10 154 [.ref (w.2.2 0), .int p1] σ (.returned (some (.int r))) σ' := by
  refine zC.of (plainFor_of_name (by decide)) (Nat.le_of_ble_eq_true rfl) ?_
  intro p e s m args below meth c C hnm
  show Z p l e _ s m args below meth c _ w _ _ 2 σ 0 [(0, .ref (w.2.2 0)), (1, .int p1)] []
  unfold fX6_inBehind at hf
  refine z_aload_n C 0 dX6_inBehind_0 rfl rfl ?_
  refine z_iload_n C 1 dX6_inBehind_1 rfl rfl ?_
  obtain ⟨⟨⟩, σ_3, e_2, hf⟩ := bd_ hf
  refine z_callv C (rest := []) (av := (.ref (w.2.2 0) :: [.int p1])) (zPay.of q1695 q83) (fun H ls hH h2 => zInv_V C (As := [.int p1]) (rest := []) (ci := 6) (T := TX6) (N := 24) rfl (zSee.fix ly_m0) hH q1692 q1694 qs57 (Or.inl rfl) q1695 mh_X6 np_X6_hoursGo dX6_inBehind_2) (tX6_hoursGo l w e_2) (Nat.le_of_ble_eq_true rfl) (Nat.le_of_ble_eq_true rfl) ?_
  refine z_aload_n C 0 dX6_inBehind_5 rfl rfl ?_
  refine z_aload_n C 0 dX6_inBehind_6 rfl rfl ?_
  refine z_iconst C 0 dX6_inBehind_7 (by decide) ?_
  obtain ⟨r_4, e_5, hf⟩ := bo_ hf
  refine z_calli C (rest := [.ref (w.2.2 0)]) (av := (.ref (w.2.2 0) :: [.int 0])) (zPay.of q1624 q83) (fun H ls hH h2 => zInv_V C (As := [.int 0]) (rest := [.ref (w.2.2 0)]) (ci := 6) (T := TX6) (N := 24) rfl (zSee.fix ly_m0) hH q1621 q1623 qs52 (Or.inl rfl) q1624 mh_X6 np_X6_shipsAt dX6_inBehind_8) (tX6_shipsAt l w e_5) (Nat.le_of_ble_eq_true rfl) (Nat.le_of_ble_eq_true rfl) ?_
  obtain ⟨r_6, σ_8, e_7, hf⟩ := bd_ hf
  refine z_calli C (rest := []) (av := (.ref (w.2.2 0) :: [.int r_4])) (zPay.of q1733 q83) (fun H ls hH h2 => zInv_V C (As := [.int r_4]) (rest := []) (ci := 6) (T := TX6) (N := 24) rfl (zSee.fix ly_m0) hH q1730 q1732 qs62 (Or.inl rfl) q1733 mh_X6 np_X6_putBack dX6_inBehind_11) (tX6_putBack l w e_7) (Nat.le_of_ble_eq_true rfl) (Nat.le_of_ble_eq_true rfl) ?_
  obtain ⟨rfl, rfl⟩ := fin_ hf
  exact z_iret C rfl dX6_inBehind_14
def fX6_struck (σ : ZS) (p1 : Int32) : Option (Int32 × ZS) := if (fX6_isCell σ p1) = 0 then (bd (fX6_finding σ (-1000000001)) (fun r_15 σ_17 => some (r_15, σ_17))) else (bd (fX6_copy σ 1 3) (fun _ σ_4 => bd (fX6_hoursGo σ_4 60) (fun _ σ_7 => bo (fX6_lostNow σ_7) (fun r_8 => bo (fX6_shipsAt σ_7 p1) (fun r_10 => bd (fX6_putBack σ_7 (r_8 &&& r_10)) (fun r_12 σ_14 => some (r_12, σ_14)))))))
set_option maxHeartbeats 4000000 in
set_option maxRecDepth 100000 in
theorem tX6_struck (l : Launch) (w : ZW) {σ σ' : ZS} {p1 : Int32} {r : Int32} (hf : fX6_struck σ p1 = some (r, σ')) : zC l w zLm yX6_struck (ws_ yX6_struck cX6_struck 2 (some .int)) 10 154 [.ref (w.2.2 0), .int p1] σ (.returned (some (.int r))) σ' := by
  refine zC.of (plainFor_of_name (by decide)) (Nat.le_of_ble_eq_true rfl) ?_
  intro p e s m args below meth c C hnm
  show Z p l e _ s m args below meth c _ w _ _ 2 σ 0 [(0, .ref (w.2.2 0)), (1, .int p1)] []
  unfold fX6_struck at hf
  refine z_aload_n C 0 dX6_struck_0 rfl rfl ?_
  refine z_iload_n C 1 dX6_struck_1 rfl rfl ?_
  refine z_calli C (rest := []) (av := (.ref (w.2.2 0) :: [.int p1])) (zPay.of q1593 q83) (fun H ls hH h2 => zInv_V C (As := [.int p1]) (rest := []) (ci := 6) (T := TX6) (N := 24) rfl (zSee.fix ly_m0) hH q1590 q1592 qs46 (Or.inl rfl) q1593 mh_X6 np_X6_isCell dX6_struck_2) (tX6_isCell l w σ p1) (Nat.le_of_ble_eq_true rfl) (Nat.le_of_ble_eq_true rfl) ?_
  refine z_if_ne C 15 dX6_struck_5 (by decide) (fun c_1 => ?_) (fun c_1 => ?_)
  · replace hf := if_f c_1 hf
    refine z_aload_n C 0 dX6_struck_15 rfl rfl ?_
    refine z_getR C ly_m0 (Cn := RX6) (T := TX6) (N := 24) rfl in_X6 0 (by decide) q1404 (Or.inl rfl) rfl dX6_struck_16 ?_
    refine z_aload_n C 0 dX6_struck_19 rfl rfl ?_
    refine z_getR C ly_m0 (Cn := RX6) (T := TX6) (N := 24) rfl in_X6 2 (by decide) q1406 (Or.inl rfl) rfl dX6_struck_20 ?_
    obtain ⟨⟨⟩, σ_4, e_3, hf⟩ := bd_ hf
    refine z_callv C (rest := []) (av := [.ref (w.2.2 1), .ref (w.2.2 3)]) (zPay.of q1729 q83) (fun H ls hH h2 => zInv_S C (As := [.ref (w.2.2 1), .ref (w.2.2 3)]) (rest := []) q1727 q1728 q83 (Or.inl rfl) q1729 mh_X6 np_X6_copy dX6_struck_23) (tX6_copy l w ly_m1 ly_m3 e_3) (Nat.le_of_ble_eq_true rfl) (Nat.le_of_ble_eq_true rfl) ?_
    refine z_aload_n C 0 dX6_struck_26 rfl rfl ?_
    refine z_bipush C 60 dX6_struck_27 (by decide) ?_
    obtain ⟨⟨⟩, σ_7, e_6, hf⟩ := bd_ hf
    refine z_callv C (rest := []) (av := (.ref (w.2.2 0) :: [.int 60])) (zPay.of q1695 q83) (fun H ls hH h2 => zInv_V C (As := [.int 60]) (rest := []) (ci := 6) (T := TX6) (N := 24) rfl (zSee.fix ly_m0) hH q1692 q1694 qs57 (Or.inl rfl) q1695 mh_X6 np_X6_hoursGo dX6_struck_29) (tX6_hoursGo l w e_6) (Nat.le_of_ble_eq_true rfl) (Nat.le_of_ble_eq_true rfl) ?_
    refine z_aload_n C 0 dX6_struck_32 rfl rfl ?_
    refine z_aload_n C 0 dX6_struck_33 rfl rfl ?_
    obtain ⟨r_8, e_9, hf⟩ := bo_ hf
    refine z_calli C (rest := [.ref (w.2.2 0)]) (av := (.ref (w.2.2 0) :: [])) (zPay.of q1741 q83) (fun H ls hH h2 => zInv_V C (As := []) (rest := [.ref (w.2.2 0)]) (ci := 6) (T := TX6) (N := 24) rfl (zSee.fix ly_m0) hH q1738 q1740 qs63 (Or.inl rfl) q1741 mh_X6 np_X6_lostNow dX6_struck_34) (tX6_lostNow l w e_9) (Nat.le_of_ble_eq_true rfl) (Nat.le_of_ble_eq_true rfl) ?_
    refine z_aload_n C 0 dX6_struck_37 rfl rfl ?_
    refine z_iload_n C 1 dX6_struck_38 rfl rfl ?_
    obtain ⟨r_10, e_11, hf⟩ := bo_ hf
    refine z_calli C (rest := [.int r_8, .ref (w.2.2 0)]) (av := (.ref (w.2.2 0) :: [.int p1])) (zPay.of q1624 q83) (fun H ls hH h2 => zInv_V C (As := [.int p1]) (rest := [.int r_8, .ref (w.2.2 0)]) (ci := 6) (T := TX6) (N := 24) rfl (zSee.fix ly_m0) hH q1621 q1623 qs52 (Or.inl rfl) q1624 mh_X6 np_X6_shipsAt dX6_struck_39) (tX6_shipsAt l w e_11) (Nat.le_of_ble_eq_true rfl) (Nat.le_of_ble_eq_true rfl) ?_
    refine z_iand C dX6_struck_42 ?_
    obtain ⟨r_12, σ_14, e_13, hf⟩ := bd_ hf
    refine z_calli C (rest := []) (av := (.ref (w.2.2 0) :: [.int (r_8 &&& r_10)])) (zPay.of q1733 q83) (fun H ls hH h2 => zInv_V C (As := [.int (r_8 &&& r_10)]) (rest := []) (ci := 6) (T := TX6) (N := 24) rfl (zSee.fix ly_m0) hH q1730 q1732 qs62 (Or.inl rfl) q1733 mh_X6 np_X6_putBack dX6_struck_43) (tX6_putBack l w e_13) (Nat.le_of_ble_eq_true rfl) (Nat.le_of_ble_eq_true rfl) ?_
    obtain ⟨rfl, rfl⟩ := fin_ hf
    exact z_iret C rfl dX6_struck_46
  · replace hf := if_t c_1 hf
    refine z_aload_n C 0 dX6_struck_8 rfl rfl ?_
    refine z_ldc C dX6_struck_9 q1484 ?_
    obtain ⟨r_15, σ_17, e_16, hf⟩ := bd_ hf
    refine z_calli C (rest := []) (av := (.ref (w.2.2 0) :: [.int (-1000000001)])) (zPay.of q1488 q83) (fun H ls hH h2 => zInv_V C (As := [.int (-1000000001)]) (rest := []) (ci := 6) (T := TX6) (N := 24) rfl (zSee.fix ly_m0) hH q1485 q1487 qs32 (Or.inl rfl) q1488 mh_X6 np_X6_finding dX6_struck_11) (tX6_finding l w e_16) (Nat.le_of_ble_eq_true rfl) (Nat.le_of_ble_eq_true rfl) ?_
    obtain ⟨rfl, rfl⟩ := fin_ hf
    exact z_iret C rfl dX6_struck_14
def fX6_dark_L41 (y1 : Int32) (y2 : Int32) : Nat → Int32 → Int32 → ZS → Option ((Int32 × Int32) × ZS)
  | 0, _, _, _ => none
  | n + 1, y3, y4, σ => if (1 <<< ((σ.1 1 (1 : Int32).toNatClampNeg) &&& 31)) ≤ y4 then (some ((y3, y4), σ)) else (bd (if (y4 &&& ((σ.1 1 (5 : Int32).toNatClampNeg) ^^^ (-1))) = 0 then (if y3 < 0 then (nm ((σ.1 1 (5 : Int32).toNatClampNeg) &&& (y4 ^^^ (-1))) (fun (v_16 : Int32) => bd (fX6_hoursGo (sI σ 1 ((5 : Int32).toNatClampNeg) v_16) y1) (fun _ σ_19 => bo (fX6_lostNow σ_19) (fun r_20 => bo (fX6_bits σ_19 r_20) (fun r_22 => bd (fX6_putBack σ_19 r_22) (fun r_24 σ_26 => nm (if y2 < r_24 then y3 else y4) (fun (j_27 : Int32) => some (j_27, σ_26)))))))) else (bo (fX6_bits σ y4) (fun r_29 => bo (fX6_bits σ y3) (fun r_31 => if r_31 ≤ r_29 then (some (y3, σ)) else (nm ((σ.1 1 (5 : Int32).toNatClampNeg) &&& (y4 ^^^ (-1))) (fun (v_34 : Int32) => bd (fX6_hoursGo (sI σ 1 ((5 : Int32).toNatClampNeg) v_34) y1) (fun _ σ_37 => bo (fX6_lostNow σ_37) (fun r_38 => bo (fX6_bits σ_37 r_38) (fun r_40 => bd (fX6_putBack σ_37 r_40) (fun r_42 σ_44 => nm (if y2 < r_42 then y3 else y4) (fun (j_45 : Int32) => some (j_45, σ_44)))))))))))) else (some (y3, σ))) (fun (x3_10 : Int32) σ_11 => nm (y4 + 1) (fun (x4_13 : Int32) => fX6_dark_L41 y1 y2 n x3_10 x4_13 σ_11)))
def fX6_dark (σ : ZS) (p1 : Int32) : Option (Int32 × ZS) := if (fX6_within p1 0 20) = 0 then (bd (fX6_finding σ (-1000000001)) (fun r_58 σ_60 => some (r_58, σ_60))) else (bd (fX6_copy σ 1 3) (fun _ σ_4 => bo (fX6_lostNow σ_4) (fun r_5 => bo (fX6_bits σ_4 r_5) (fun r_7 => bd (fX6_dark_L41 p1 r_7 10000 (-1) 0 σ_4) (fun uu49 σ_49 => bd (if 0 ≤ (uu49.1) then (some ((uu49.1), σ_49)) else (bd (fX6_finding σ_49 (-1000000002)) (fun r_55 σ_57 => some (r_55, σ_57)))) (fun (j_51 : Int32) σ_52 => some (j_51, σ_52)))))))
set_option maxHeartbeats 4000000 in
set_option maxRecDepth 100000 in
theorem lfX6_dark_L41 {p : Program} {l : Launch} {e : Env} {R : Room} {s : State} {m : MethodId} {args : Array Value} {below : List Frame} {meth : Method} {c : Code} {Q : State → Prop} {w : ZW} {A : Nat → Prop} {ret : Option FieldType} {hh : List (Nat × Nat × Nat × Nat)} (C : zCx p s m args meth c w zLm A 5 cX6_dark RX6 ret hh) (hfr : 10 ≤ R.frames) (hlo : 154 ≤ R.locals) (y1 : Int32) (y2 : Int32) {z3 : Int32} {z4 : Int32} {σ' : ZS} (hk : Z p l e R s m args below meth c Q w zLm A 5 σ' 130 [(0, .ref (w.2.2 0)), (1, .int y1), (2, .int y2), (3, .int z3), (4, .int z4)] []) : ∀ (n : Nat) (y3 : Int32) (y4 : Int32) (σ : ZS), fX6_dark_L41 y1 y2 n y3 y4 σ = some ((z3, z4), σ') → Z p l e R s m args below meth c Q w zLm A 5 σ 41 [(0, .ref (w.2.2 0)), (1, .int y1), (2, .int y2), (3, .int y3), (4, .int y4)] [] := by
  intro n
  induction n with
  | zero => intro y3 y4 σ hf; exact none_ hf
  | succ n ih =>
    intro y3 y4 σ hf
    rw [fX6_dark_L41] at hf
    refine z_iload C 4 dX6_dark_41 rfl ?_
    refine z_iconst C 1 dX6_dark_43 (by decide) ?_
    refine z_aload_n C 0 dX6_dark_44 rfl rfl ?_
    refine z_getR C ly_m0 (Cn := RX6) (T := TX6) (N := 24) rfl in_X6 0 (by decide) q1404 (Or.inl rfl) rfl dX6_dark_45 ?_
    refine z_iconst C 1 dX6_dark_48 (by decide) ?_
    refine z_ialoadF C ly_m1 (by decide) dX6_dark_49 ?_
    refine z_ishl C dX6_dark_50 ?_
    refine z_icmp_ge C 130 dX6_dark_51 (by decide) (fun c_9 => ?_) (fun c_9 => ?_)
    · replace hf := if_t c_9 hf
      obtain ⟨hf1, rfl⟩ := fin_ hf
      simp only [Prod.mk.injEq] at hf1
      obtain ⟨rfl, rfl⟩ := hf1
      exact hk
    · replace hf := if_f c_9 hf
      refine z_iload C 4 dX6_dark_54 rfl ?_
      refine z_aload_n C 0 dX6_dark_56 rfl rfl ?_
      refine z_getR C ly_m0 (Cn := RX6) (T := TX6) (N := 24) rfl in_X6 0 (by decide) q1404 (Or.inl rfl) rfl dX6_dark_57 ?_
      refine z_iconst C 5 dX6_dark_60 (by decide) ?_
      refine z_ialoadF C ly_m1 (by decide) dX6_dark_61 ?_
      refine z_iconst C (-1) dX6_dark_62 (by decide) ?_
      refine z_ixor C dX6_dark_63 ?_
      refine z_iand C dX6_dark_64 ?_
      obtain ⟨x3_10, σ_11, e_12, hf⟩ := bd_ hf
      have hje_12 : Z p l e R s m args below meth c Q w zLm A 5 σ_11 124 [(0, .ref (w.2.2 0)), (1, .int y1), (2, .int y2), (3, .int x3_10), (4, .int y4)] [] := by
        obtain ⟨x4_13, ex4_13, hf⟩ := nmo_ hf
        refine z_iinc C x4_13 4 dX6_dark_124 rfl (by rw [ex4_13]; rfl) (by decide) rfl (lv' := [(4, .int x4_13), (0, .ref (w.2.2 0)), (1, .int y1), (2, .int y2), (3, .int x3_10)]) ?_
        refine z_goto C 41 dX6_dark_127 (by decide) ?_
        exact z_lv [1, 2, 3, 4, 0] rfl (ih _ _ _ hf)
      replace hf := e_12
      refine z_if_ne C 124 dX6_dark_65 (by decide) (fun c_14 => ?_) (fun c_14 => ?_)
      · replace hf := if_f c_14 hf
        obtain ⟨rfl, rfl⟩ := fin_ hf
        exact hje_12
      · replace hf := if_t c_14 hf
        refine z_iload_n C 3 dX6_dark_68 rfl rfl ?_
        refine z_if_lt C 84 dX6_dark_69 (by decide) (fun c_15 => ?_) (fun c_15 => ?_)
        · replace hf := if_t c_15 hf
          refine z_aload_n C 0 dX6_dark_84 rfl rfl ?_
          refine z_getR C ly_m0 (Cn := RX6) (T := TX6) (N := 24) rfl in_X6 0 (by decide) q1404 (Or.inl rfl) rfl dX6_dark_85 ?_
          refine z_iconst C 5 dX6_dark_88 (by decide) ?_
          refine z_dup2 C dX6_dark_89 rfl rfl ?_
          refine z_ialoadF C ly_m1 (by decide) dX6_dark_90 ?_
          refine z_iload C 4 dX6_dark_91 rfl ?_
          refine z_iconst C (-1) dX6_dark_93 (by decide) ?_
          refine z_ixor C dX6_dark_94 ?_
          refine z_iand C dX6_dark_95 ?_
          obtain ⟨v_16, ev_16, hf⟩ := nmo_ hf
          refine z_top ev_16 ?_
          refine z_iastore C ly_m1 (by decide) dX6_dark_96 ?_
          refine z_aload_n C 0 dX6_dark_97 rfl rfl ?_
          refine z_iload_n C 1 dX6_dark_98 rfl rfl ?_
          obtain ⟨⟨⟩, σ_19, e_18, hf⟩ := bd_ hf
          refine z_callv C (rest := []) (av := (.ref (w.2.2 0) :: [.int y1])) (zPay.of q1695 q83) (fun H ls hH h2 => zInv_V C (As := [.int y1]) (rest := []) (ci := 6) (T := TX6) (N := 24) rfl (zSee.fix ly_m0) hH q1692 q1694 qs57 (Or.inl rfl) q1695 mh_X6 np_X6_hoursGo dX6_dark_99) (tX6_hoursGo l w e_18) (Nat.le_trans (Nat.le_of_ble_eq_true rfl) hfr) (Nat.le_trans (Nat.le_of_ble_eq_true rfl) hlo) ?_
          refine z_aload_n C 0 dX6_dark_102 rfl rfl ?_
          refine z_aload_n C 0 dX6_dark_103 rfl rfl ?_
          obtain ⟨r_20, e_21, hf⟩ := bo_ hf
          refine z_calli C (rest := [.ref (w.2.2 0)]) (av := (.ref (w.2.2 0) :: [])) (zPay.of q1741 q83) (fun H ls hH h2 => zInv_V C (As := []) (rest := [.ref (w.2.2 0)]) (ci := 6) (T := TX6) (N := 24) rfl (zSee.fix ly_m0) hH q1738 q1740 qs63 (Or.inl rfl) q1741 mh_X6 np_X6_lostNow dX6_dark_104) (tX6_lostNow l w e_21) (Nat.le_trans (Nat.le_of_ble_eq_true rfl) hfr) (Nat.le_trans (Nat.le_of_ble_eq_true rfl) hlo) ?_
          obtain ⟨r_22, e_23, hf⟩ := bo_ hf
          refine z_calli C (rest := [.ref (w.2.2 0)]) (av := [.int r_20]) (zPay.of q1710 q83) (fun H ls hH h2 => zInv_S C (As := [.int r_20]) (rest := [.ref (w.2.2 0)]) q1708 q1709 q83 (Or.inl rfl) q1710 mh_X6 np_X6_bits dX6_dark_107) (tX6_bits l w e_23) (Nat.le_trans (Nat.le_of_ble_eq_true rfl) hfr) (Nat.le_trans (Nat.le_of_ble_eq_true rfl) hlo) ?_
          obtain ⟨r_24, σ_26, e_25, hf⟩ := bd_ hf
          refine z_calli C (rest := []) (av := (.ref (w.2.2 0) :: [.int r_22])) (zPay.of q1733 q83) (fun H ls hH h2 => zInv_V C (As := [.int r_22]) (rest := []) (ci := 6) (T := TX6) (N := 24) rfl (zSee.fix ly_m0) hH q1730 q1732 qs62 (Or.inl rfl) q1733 mh_X6 np_X6_putBack dX6_dark_110) (tX6_putBack l w e_25) (Nat.le_trans (Nat.le_of_ble_eq_true rfl) hfr) (Nat.le_trans (Nat.le_of_ble_eq_true rfl) hlo) ?_
          refine z_iload_n C 2 dX6_dark_113 rfl rfl ?_
          obtain ⟨j_27, ej_27, hf⟩ := nmo_ hf
          have hjj_27 : Z p l e R s m args below meth c Q w zLm A 5 σ_26 123 [(0, .ref (w.2.2 0)), (1, .int y1), (2, .int y2), (3, .int y3), (4, .int y4)] [.int j_27] := by
            refine z_istore_n C dX6_dark_123 rfl (by decide) rfl (lv' := [(3, .int j_27), (0, .ref (w.2.2 0)), (1, .int y1), (2, .int y2), (4, .int y4)]) ?_
            obtain ⟨rfl, rfl⟩ := fin_ hf
            exact z_lv [1, 2, 3, 0, 4] rfl hje_12
          replace hf := ej_27
          refine z_icmp_gt C 122 dX6_dark_114 (by decide) (fun c_28 => ?_) (fun c_28 => ?_)
          · replace hf := ifp_t c_28 hf
            refine z_iload_n C 3 dX6_dark_122 rfl rfl ?_
            subst hf
            exact hjj_27
          · replace hf := ifp_f c_28 hf
            refine z_iload C 4 dX6_dark_117 rfl ?_
            refine z_goto C 123 dX6_dark_119 (by decide) ?_
            subst hf
            exact hjj_27
        · replace hf := if_f c_15 hf
          refine z_iload C 4 dX6_dark_72 rfl ?_
          obtain ⟨r_29, e_30, hf⟩ := bo_ hf
          refine z_calli C (rest := []) (av := [.int y4]) (zPay.of q1710 q83) (fun H ls hH h2 => zInv_S C (As := [.int y4]) (rest := []) q1708 q1709 q83 (Or.inl rfl) q1710 mh_X6 np_X6_bits dX6_dark_74) (tX6_bits l w e_30) (Nat.le_trans (Nat.le_of_ble_eq_true rfl) hfr) (Nat.le_trans (Nat.le_of_ble_eq_true rfl) hlo) ?_
          refine z_iload_n C 3 dX6_dark_77 rfl rfl ?_
          obtain ⟨r_31, e_32, hf⟩ := bo_ hf
          refine z_calli C (rest := [.int r_29]) (av := [.int y3]) (zPay.of q1710 q83) (fun H ls hH h2 => zInv_S C (As := [.int y3]) (rest := [.int r_29]) q1708 q1709 q83 (Or.inl rfl) q1710 mh_X6 np_X6_bits dX6_dark_78) (tX6_bits l w e_32) (Nat.le_trans (Nat.le_of_ble_eq_true rfl) hfr) (Nat.le_trans (Nat.le_of_ble_eq_true rfl) hlo) ?_
          refine z_icmp_ge C 124 dX6_dark_81 (by decide) (fun c_33 => ?_) (fun c_33 => ?_)
          · replace hf := if_t c_33 hf
            obtain ⟨rfl, rfl⟩ := fin_ hf
            exact hje_12
          · replace hf := if_f c_33 hf
            refine z_aload_n C 0 dX6_dark_84 rfl rfl ?_
            refine z_getR C ly_m0 (Cn := RX6) (T := TX6) (N := 24) rfl in_X6 0 (by decide) q1404 (Or.inl rfl) rfl dX6_dark_85 ?_
            refine z_iconst C 5 dX6_dark_88 (by decide) ?_
            refine z_dup2 C dX6_dark_89 rfl rfl ?_
            refine z_ialoadF C ly_m1 (by decide) dX6_dark_90 ?_
            refine z_iload C 4 dX6_dark_91 rfl ?_
            refine z_iconst C (-1) dX6_dark_93 (by decide) ?_
            refine z_ixor C dX6_dark_94 ?_
            refine z_iand C dX6_dark_95 ?_
            obtain ⟨v_34, ev_34, hf⟩ := nmo_ hf
            refine z_top ev_34 ?_
            refine z_iastore C ly_m1 (by decide) dX6_dark_96 ?_
            refine z_aload_n C 0 dX6_dark_97 rfl rfl ?_
            refine z_iload_n C 1 dX6_dark_98 rfl rfl ?_
            obtain ⟨⟨⟩, σ_37, e_36, hf⟩ := bd_ hf
            refine z_callv C (rest := []) (av := (.ref (w.2.2 0) :: [.int y1])) (zPay.of q1695 q83) (fun H ls hH h2 => zInv_V C (As := [.int y1]) (rest := []) (ci := 6) (T := TX6) (N := 24) rfl (zSee.fix ly_m0) hH q1692 q1694 qs57 (Or.inl rfl) q1695 mh_X6 np_X6_hoursGo dX6_dark_99) (tX6_hoursGo l w e_36) (Nat.le_trans (Nat.le_of_ble_eq_true rfl) hfr) (Nat.le_trans (Nat.le_of_ble_eq_true rfl) hlo) ?_
            refine z_aload_n C 0 dX6_dark_102 rfl rfl ?_
            refine z_aload_n C 0 dX6_dark_103 rfl rfl ?_
            obtain ⟨r_38, e_39, hf⟩ := bo_ hf
            refine z_calli C (rest := [.ref (w.2.2 0)]) (av := (.ref (w.2.2 0) :: [])) (zPay.of q1741 q83) (fun H ls hH h2 => zInv_V C (As := []) (rest := [.ref (w.2.2 0)]) (ci := 6) (T := TX6) (N := 24) rfl (zSee.fix ly_m0) hH q1738 q1740 qs63 (Or.inl rfl) q1741 mh_X6 np_X6_lostNow dX6_dark_104) (tX6_lostNow l w e_39) (Nat.le_trans (Nat.le_of_ble_eq_true rfl) hfr) (Nat.le_trans (Nat.le_of_ble_eq_true rfl) hlo) ?_
            obtain ⟨r_40, e_41, hf⟩ := bo_ hf
            refine z_calli C (rest := [.ref (w.2.2 0)]) (av := [.int r_38]) (zPay.of q1710 q83) (fun H ls hH h2 => zInv_S C (As := [.int r_38]) (rest := [.ref (w.2.2 0)]) q1708 q1709 q83 (Or.inl rfl) q1710 mh_X6 np_X6_bits dX6_dark_107) (tX6_bits l w e_41) (Nat.le_trans (Nat.le_of_ble_eq_true rfl) hfr) (Nat.le_trans (Nat.le_of_ble_eq_true rfl) hlo) ?_
            obtain ⟨r_42, σ_44, e_43, hf⟩ := bd_ hf
            refine z_calli C (rest := []) (av := (.ref (w.2.2 0) :: [.int r_40])) (zPay.of q1733 q83) (fun H ls hH h2 => zInv_V C (As := [.int r_40]) (rest := []) (ci := 6) (T := TX6) (N := 24) rfl (zSee.fix ly_m0) hH q1730 q1732 qs62 (Or.inl rfl) q1733 mh_X6 np_X6_putBack dX6_dark_110) (tX6_putBack l w e_43) (Nat.le_trans (Nat.le_of_ble_eq_true rfl) hfr) (Nat.le_trans (Nat.le_of_ble_eq_true rfl) hlo) ?_
            refine z_iload_n C 2 dX6_dark_113 rfl rfl ?_
            obtain ⟨j_45, ej_45, hf⟩ := nmo_ hf
            have hjj_45 : Z p l e R s m args below meth c Q w zLm A 5 σ_44 123 [(0, .ref (w.2.2 0)), (1, .int y1), (2, .int y2), (3, .int y3), (4, .int y4)] [.int j_45] := by
              refine z_istore_n C dX6_dark_123 rfl (by decide) rfl (lv' := [(3, .int j_45), (0, .ref (w.2.2 0)), (1, .int y1), (2, .int y2), (4, .int y4)]) ?_
              obtain ⟨rfl, rfl⟩ := fin_ hf
              exact z_lv [1, 2, 3, 0, 4] rfl hje_12
            replace hf := ej_45
            refine z_icmp_gt C 122 dX6_dark_114 (by decide) (fun c_46 => ?_) (fun c_46 => ?_)
            · replace hf := ifp_t c_46 hf
              refine z_iload_n C 3 dX6_dark_122 rfl rfl ?_
              subst hf
              exact hjj_45
            · replace hf := ifp_f c_46 hf
              refine z_iload C 4 dX6_dark_117 rfl ?_
              refine z_goto C 123 dX6_dark_119 (by decide) ?_
              subst hf
              exact hjj_45
set_option maxHeartbeats 4000000 in
set_option maxRecDepth 100000 in
theorem tX6_dark (l : Launch) (w : ZW) {σ σ' : ZS} {p1 : Int32} {r : Int32} (hf : fX6_dark σ p1 = some (r, σ')) : zC l w zLm yX6_dark (ws_ yX6_dark cX6_dark 5 (some .int)) 10 154 [.ref (w.2.2 0), .int p1] σ (.returned (some (.int r))) σ' := by
  refine zC.of (plainFor_of_name (by decide)) (Nat.le_of_ble_eq_true rfl) ?_
  intro p e s m args below meth c C hnm
  show Z p l e _ s m args below meth c _ w _ _ 5 σ 0 [(0, .ref (w.2.2 0)), (1, .int p1)] []
  unfold fX6_dark at hf
  refine z_iload_n C 1 dX6_dark_0 rfl rfl ?_
  refine z_iconst C 0 dX6_dark_1 (by decide) ?_
  refine z_bipush C 20 dX6_dark_2 (by decide) ?_
  refine z_calli C (rest := []) (av := [.int p1, .int 0, .int 20]) (zPay.of q1483 q83) (fun H ls hH h2 => zInv_S C (As := [.int p1, .int 0, .int 20]) (rest := []) q1481 q1482 q83 (Or.inl rfl) q1483 mh_X6 np_X6_within dX6_dark_4) (tX6_within l w zLm σ p1 0 20) (Nat.le_of_ble_eq_true rfl) (Nat.le_of_ble_eq_true rfl) ?_
  refine z_if_ne C 17 dX6_dark_7 (by decide) (fun c_1 => ?_) (fun c_1 => ?_)
  · replace hf := if_f c_1 hf
    refine z_aload_n C 0 dX6_dark_17 rfl rfl ?_
    refine z_getR C ly_m0 (Cn := RX6) (T := TX6) (N := 24) rfl in_X6 0 (by decide) q1404 (Or.inl rfl) rfl dX6_dark_18 ?_
    refine z_aload_n C 0 dX6_dark_21 rfl rfl ?_
    refine z_getR C ly_m0 (Cn := RX6) (T := TX6) (N := 24) rfl in_X6 2 (by decide) q1406 (Or.inl rfl) rfl dX6_dark_22 ?_
    obtain ⟨⟨⟩, σ_4, e_3, hf⟩ := bd_ hf
    refine z_callv C (rest := []) (av := [.ref (w.2.2 1), .ref (w.2.2 3)]) (zPay.of q1729 q83) (fun H ls hH h2 => zInv_S C (As := [.ref (w.2.2 1), .ref (w.2.2 3)]) (rest := []) q1727 q1728 q83 (Or.inl rfl) q1729 mh_X6 np_X6_copy dX6_dark_25) (tX6_copy l w ly_m1 ly_m3 e_3) (Nat.le_of_ble_eq_true rfl) (Nat.le_of_ble_eq_true rfl) ?_
    refine z_aload_n C 0 dX6_dark_28 rfl rfl ?_
    obtain ⟨r_5, e_6, hf⟩ := bo_ hf
    refine z_calli C (rest := []) (av := (.ref (w.2.2 0) :: [])) (zPay.of q1741 q83) (fun H ls hH h2 => zInv_V C (As := []) (rest := []) (ci := 6) (T := TX6) (N := 24) rfl (zSee.fix ly_m0) hH q1738 q1740 qs63 (Or.inl rfl) q1741 mh_X6 np_X6_lostNow dX6_dark_29) (tX6_lostNow l w e_6) (Nat.le_of_ble_eq_true rfl) (Nat.le_of_ble_eq_true rfl) ?_
    obtain ⟨r_7, e_8, hf⟩ := bo_ hf
    refine z_calli C (rest := []) (av := [.int r_5]) (zPay.of q1710 q83) (fun H ls hH h2 => zInv_S C (As := [.int r_5]) (rest := []) q1708 q1709 q83 (Or.inl rfl) q1710 mh_X6 np_X6_bits dX6_dark_32) (tX6_bits l w e_8) (Nat.le_of_ble_eq_true rfl) (Nat.le_of_ble_eq_true rfl) ?_
    refine z_istore_n C dX6_dark_35 rfl (by decide) rfl (lv' := [(2, .int r_7), (0, .ref (w.2.2 0)), (1, .int p1)]) ?_
    refine z_iconst C (-1) dX6_dark_36 (by decide) ?_
    refine z_istore_n C dX6_dark_37 rfl (by decide) rfl (lv' := [(3, .int (-1)), (2, .int r_7), (0, .ref (w.2.2 0)), (1, .int p1)]) ?_
    refine z_iconst C 0 dX6_dark_38 (by decide) ?_
    refine z_istore C dX6_dark_39 (by decide) rfl (lv' := [(4, .int 0), (3, .int (-1)), (2, .int r_7), (0, .ref (w.2.2 0)), (1, .int p1)]) ?_
    obtain ⟨⟨x3_47, x4_48⟩, σ_49, e_50, hf⟩ := bd_ hf
    try dsimp only at hf
    refine z_lv (lv' := [(0, .ref (w.2.2 0)), (1, .int p1), (2, .int r_7), (3, .int (-1)), (4, .int 0)]) [3, 4, 2, 1, 0] rfl ?_
    refine lfX6_dark_L41 C (Nat.le_of_ble_eq_true rfl) (Nat.le_of_ble_eq_true rfl) p1 r_7 ?_ _ _ _ _ e_50
    refine z_iload_n C 3 dX6_dark_130 rfl rfl ?_
    obtain ⟨j_51, σ_52, e_53, hf⟩ := bd_ hf
    have hje_53 : Z p l e (zRm 10 154 σ) s m args below meth c (zQ below w zLm σ (.returned (some (.int r))) σ' args s) w zLm (zA w zLm σ) 5 σ_52 145 [(0, .ref (w.2.2 0)), (1, .int p1), (2, .int r_7), (3, .int x3_47), (4, .int x4_48)] [.int j_51] := by
      obtain ⟨rfl, rfl⟩ := fin_ hf
      exact z_iret C rfl dX6_dark_145
    replace hf := e_53
    refine z_if_ge C 144 dX6_dark_131 (by decide) (fun c_54 => ?_) (fun c_54 => ?_)
    · replace hf := if_t c_54 hf
      refine z_iload_n C 3 dX6_dark_144 rfl rfl ?_
      obtain ⟨rfl, rfl⟩ := fin_ hf
      exact hje_53
    · replace hf := if_f c_54 hf
      refine z_aload_n C 0 dX6_dark_134 rfl rfl ?_
      refine z_ldc_w C dX6_dark_135 q1742 ?_
      obtain ⟨r_55, σ_57, e_56, hf⟩ := bd_ hf
      refine z_calli C (rest := []) (av := (.ref (w.2.2 0) :: [.int (-1000000002)])) (zPay.of q1488 q83) (fun H ls hH h2 => zInv_V C (As := [.int (-1000000002)]) (rest := []) (ci := 6) (T := TX6) (N := 24) rfl (zSee.fix ly_m0) hH q1485 q1487 qs32 (Or.inl rfl) q1488 mh_X6 np_X6_finding dX6_dark_138) (tX6_finding l w e_56) (Nat.le_of_ble_eq_true rfl) (Nat.le_of_ble_eq_true rfl) ?_
      refine z_goto C 145 dX6_dark_141 (by decide) ?_
      obtain ⟨rfl, rfl⟩ := fin_ hf
      exact hje_53
  · replace hf := if_t c_1 hf
    refine z_aload_n C 0 dX6_dark_10 rfl rfl ?_
    refine z_ldc C dX6_dark_11 q1484 ?_
    obtain ⟨r_58, σ_60, e_59, hf⟩ := bd_ hf
    refine z_calli C (rest := []) (av := (.ref (w.2.2 0) :: [.int (-1000000001)])) (zPay.of q1488 q83) (fun H ls hH h2 => zInv_V C (As := [.int (-1000000001)]) (rest := []) (ci := 6) (T := TX6) (N := 24) rfl (zSee.fix ly_m0) hH q1485 q1487 qs32 (Or.inl rfl) q1488 mh_X6 np_X6_finding dX6_dark_13) (tX6_finding l w e_59) (Nat.le_of_ble_eq_true rfl) (Nat.le_of_ble_eq_true rfl) ?_
    obtain ⟨rfl, rfl⟩ := fin_ hf
    exact z_iret C rfl dX6_dark_16
def fX6_draws_L48 (y1 : Int32) : Nat → Int32 → Int32 → ZS → Option ((Int32 × Int32) × ZS)
  | 0, _, _, _ => none
  | n + 1, y2, y3, σ => if y3 < 0 then (some ((y2, y3), σ)) else (if 0 ≤ y2 then (some ((y2, y3), σ)) else (gd (¬ ((fX6_shipAt y1 2) < 0 ∨ 242 ≤ (fX6_shipAt y1 2).toNatClampNeg)) (bd (fX6_inBehind (sI σ 1 ((fX6_shipAt y1 2).toNatClampNeg) y3) 60) (fun r_11 σ_13 => nm (if (fX6_hasBit r_11 y1) = 0 then (-1) else y3) (fun (j_14 : Int32) => nm (y3 + (-1)) (fun (x3_15 : Int32) => fX6_draws_L48 y1 n j_14 x3_15 σ_13))))))
def fX6_draws (σ : ZS) (p1 : Int32) : Option (Int32 × ZS) := if (fX6_isShip σ p1) = 0 then (bd (fX6_finding σ (-1000000001)) (fun r_31 σ_33 => some (r_31, σ_33))) else (bo (fX6_shipIs σ p1 4) (fun r_2 => if r_2 = 1 then (bd (fX6_finding σ (-1000000003)) (fun r_28 σ_30 => some (r_28, σ_30))) else (bd (fX6_copy σ 1 3) (fun _ σ_7 => bd (fX6_draws_L48 p1 10000 (-1) 9 σ_7) (fun uu19 σ_19 => bd (if 0 ≤ (uu19.1) then (some ((uu19.1), σ_19)) else (bd (fX6_finding σ_19 (-1000000002)) (fun r_25 σ_27 => some (r_25, σ_27)))) (fun (j_21 : Int32) σ_22 => some (j_21, σ_22)))))))
set_option maxHeartbeats 4000000 in
set_option maxRecDepth 100000 in
theorem lfX6_draws_L48 {p : Program} {l : Launch} {e : Env} {R : Room} {s : State} {m : MethodId} {args : Array Value} {below : List Frame} {meth : Method} {c : Code} {Q : State → Prop} {w : ZW} {A : Nat → Prop} {ret : Option FieldType} {hh : List (Nat × Nat × Nat × Nat)} (C : zCx p s m args meth c w zLm A 4 cX6_draws RX6 ret hh) (hfr : 11 ≤ R.frames) (hlo : 167 ≤ R.locals) (y1 : Int32) {z2 : Int32} {z3 : Int32} {σ' : ZS} (hk : Z p l e R s m args below meth c Q w zLm A 4 σ' 92 [(0, .ref (w.2.2 0)), (1, .int y1), (2, .int z2), (3, .int z3)] []) : ∀ (n : Nat) (y2 : Int32) (y3 : Int32) (σ : ZS), fX6_draws_L48 y1 n y2 y3 σ = some ((z2, z3), σ') → Z p l e R s m args below meth c Q w zLm A 4 σ 48 [(0, .ref (w.2.2 0)), (1, .int y1), (2, .int y2), (3, .int y3)] [] := by
  intro n
  induction n with
  | zero => intro y2 y3 σ hf; exact none_ hf
  | succ n ih =>
    intro y2 y3 σ hf
    rw [fX6_draws_L48] at hf
    refine z_iload_n C 3 dX6_draws_48 rfl rfl ?_
    refine z_if_lt C 92 dX6_draws_49 (by decide) (fun c_8 => ?_) (fun c_8 => ?_)
    · replace hf := if_t c_8 hf
      obtain ⟨hf1, rfl⟩ := fin_ hf
      simp only [Prod.mk.injEq] at hf1
      obtain ⟨rfl, rfl⟩ := hf1
      exact hk
    · replace hf := if_f c_8 hf
      refine z_iload_n C 2 dX6_draws_52 rfl rfl ?_
      refine z_if_ge C 92 dX6_draws_53 (by decide) (fun c_9 => ?_) (fun c_9 => ?_)
      · replace hf := if_t c_9 hf
        obtain ⟨hf1, rfl⟩ := fin_ hf
        simp only [Prod.mk.injEq] at hf1
        obtain ⟨rfl, rfl⟩ := hf1
        exact hk
      · replace hf := if_f c_9 hf
        refine z_aload_n C 0 dX6_draws_56 rfl rfl ?_
        refine z_getR C ly_m0 (Cn := RX6) (T := TX6) (N := 24) rfl in_X6 0 (by decide) q1404 (Or.inl rfl) rfl dX6_draws_57 ?_
        refine z_iload_n C 1 dX6_draws_60 rfl rfl ?_
        refine z_iconst C 2 dX6_draws_61 (by decide) ?_
        refine z_calli C (rest := [.ref (w.2.2 1)]) (av := [.int y1, .int 2]) (zPay.of q1631 q83) (fun H ls hH h2 => zInv_S C (As := [.int y1, .int 2]) (rest := [.ref (w.2.2 1)]) q1629 q1630 q83 (Or.inl rfl) q1631 mh_X6 np_X6_shipAt dX6_draws_62) (tX6_shipAt l w zLm σ y1 2) (Nat.le_trans (Nat.le_of_ble_eq_true rfl) hfr) (Nat.le_trans (Nat.le_of_ble_eq_true rfl) hlo) ?_
        refine z_iload_n C 3 dX6_draws_65 rfl rfl ?_
        obtain ⟨g_10, hf⟩ := gd_ hf
        refine z_iastore C ly_m1 g_10 dX6_draws_66 ?_
        refine z_aload_n C 0 dX6_draws_67 rfl rfl ?_
        refine z_bipush C 60 dX6_draws_68 (by decide) ?_
        obtain ⟨r_11, σ_13, e_12, hf⟩ := bd_ hf
        refine z_calli C (rest := []) (av := (.ref (w.2.2 0) :: [.int 60])) (zPay.of q1750 q83) (fun H ls hH h2 => zInv_V C (As := [.int 60]) (rest := []) (ci := 6) (T := TX6) (N := 24) rfl (zSee.fix ly_m0) hH q1747 q1749 qs64 (Or.inl rfl) q1750 mh_X6 np_X6_inBehind dX6_draws_70) (tX6_inBehind l w e_12) (Nat.le_trans (Nat.le_of_ble_eq_true rfl) hfr) (Nat.le_trans (Nat.le_of_ble_eq_true rfl) hlo) ?_
        refine z_iload_n C 1 dX6_draws_73 rfl rfl ?_
        refine z_calli C (rest := []) (av := [.int r_11, .int y1]) (zPay.of q1620 q83) (fun H ls hH h2 => zInv_S C (As := [.int r_11, .int y1]) (rest := []) q1618 q1619 q83 (Or.inl rfl) q1620 mh_X6 np_X6_hasBit dX6_draws_74) (tX6_hasBit l w zLm σ_13 r_11 y1) (Nat.le_trans (Nat.le_of_ble_eq_true rfl) hfr) (Nat.le_trans (Nat.le_of_ble_eq_true rfl) hlo) ?_
        obtain ⟨j_14, ej_14, hf⟩ := nmo_ hf
        have hjj_14 : Z p l e R s m args below meth c Q w zLm A 4 σ_13 85 [(0, .ref (w.2.2 0)), (1, .int y1), (2, .int y2), (3, .int y3)] [.int j_14] := by
          refine z_istore_n C dX6_draws_85 rfl (by decide) rfl (lv' := [(2, .int j_14), (0, .ref (w.2.2 0)), (1, .int y1), (3, .int y3)]) ?_
          obtain ⟨x3_15, ex3_15, hf⟩ := nmo_ hf
          refine z_iinc C x3_15 3 dX6_draws_86 rfl (by rw [ex3_15]; rfl) (by decide) rfl (lv' := [(3, .int x3_15), (2, .int j_14), (0, .ref (w.2.2 0)), (1, .int y1)]) ?_
          refine z_goto C 48 dX6_draws_89 (by decide) ?_
          exact z_lv [2, 3, 1, 0] rfl (ih _ _ _ hf)
        replace hf := ej_14
        refine z_if_eq C 84 dX6_draws_77 (by decide) (fun c_16 => ?_) (fun c_16 => ?_)
        · replace hf := ifp_t c_16 hf
          refine z_iconst C (-1) dX6_draws_84 (by decide) ?_
          subst hf
          exact hjj_14
        · replace hf := ifp_f c_16 hf
          refine z_iload_n C 3 dX6_draws_80 rfl rfl ?_
          refine z_goto C 85 dX6_draws_81 (by decide) ?_
          subst hf
          exact hjj_14
set_option maxHeartbeats 4000000 in
set_option maxRecDepth 100000 in
theorem tX6_draws (l : Launch) (w : ZW) {σ σ' : ZS} {p1 : Int32} {r : Int32} (hf : fX6_draws σ p1 = some (r, σ')) : zC l w zLm yX6_draws (ws_ yX6_draws cX6_draws 4 (some .int)) 11 167 [.ref (w.2.2 0), .int p1] σ (.returned (some (.int r))) σ' := by
  refine zC.of (plainFor_of_name (by decide)) (Nat.le_of_ble_eq_true rfl) ?_
  intro p e s m args below meth c C hnm
  show Z p l e _ s m args below meth c _ w _ _ 4 σ 0 [(0, .ref (w.2.2 0)), (1, .int p1)] []
  unfold fX6_draws at hf
  refine z_aload_n C 0 dX6_draws_0 rfl rfl ?_
  refine z_iload_n C 1 dX6_draws_1 rfl rfl ?_
  refine z_calli C (rest := []) (av := (.ref (w.2.2 0) :: [.int p1])) (zPay.of q1664 q83) (fun H ls hH h2 => zInv_V C (As := [.int p1]) (rest := []) (ci := 6) (T := TX6) (N := 24) rfl (zSee.fix ly_m0) hH q1661 q1663 qs55 (Or.inl rfl) q1664 mh_X6 np_X6_isShip dX6_draws_2) (tX6_isShip l w σ p1) (Nat.le_of_ble_eq_true rfl) (Nat.le_of_ble_eq_true rfl) ?_
  refine z_if_ne C 15 dX6_draws_5 (by decide) (fun c_1 => ?_) (fun c_1 => ?_)
  · replace hf := if_f c_1 hf
    refine z_aload_n C 0 dX6_draws_15 rfl rfl ?_
    refine z_iload_n C 1 dX6_draws_16 rfl rfl ?_
    refine z_iconst C 4 dX6_draws_17 (by decide) ?_
    obtain ⟨r_2, e_3, hf⟩ := bo_ hf
    refine z_calli C (rest := []) (av := (.ref (w.2.2 0) :: [.int p1, .int 4])) (zPay.of q1628 q83) (fun H ls hH h2 => zInv_V C (As := [.int p1, .int 4]) (rest := []) (ci := 6) (T := TX6) (N := 24) rfl (zSee.fix ly_m0) hH q1625 q1627 qs53 (Or.inl rfl) q1628 mh_X6 np_X6_shipIs dX6_draws_18) (tX6_shipIs l w e_3) (Nat.le_of_ble_eq_true rfl) (Nat.le_of_ble_eq_true rfl) ?_
    refine z_iconst C 1 dX6_draws_21 (by decide) ?_
    refine z_icmp_ne C 32 dX6_draws_22 (by decide) (fun c_4 => ?_) (fun c_4 => ?_)
    · replace hf := if_f c_4 hf
      refine z_aload_n C 0 dX6_draws_32 rfl rfl ?_
      refine z_getR C ly_m0 (Cn := RX6) (T := TX6) (N := 24) rfl in_X6 0 (by decide) q1404 (Or.inl rfl) rfl dX6_draws_33 ?_
      refine z_aload_n C 0 dX6_draws_36 rfl rfl ?_
      refine z_getR C ly_m0 (Cn := RX6) (T := TX6) (N := 24) rfl in_X6 2 (by decide) q1406 (Or.inl rfl) rfl dX6_draws_37 ?_
      obtain ⟨⟨⟩, σ_7, e_6, hf⟩ := bd_ hf
      refine z_callv C (rest := []) (av := [.ref (w.2.2 1), .ref (w.2.2 3)]) (zPay.of q1729 q83) (fun H ls hH h2 => zInv_S C (As := [.ref (w.2.2 1), .ref (w.2.2 3)]) (rest := []) q1727 q1728 q83 (Or.inl rfl) q1729 mh_X6 np_X6_copy dX6_draws_40) (tX6_copy l w ly_m1 ly_m3 e_6) (Nat.le_of_ble_eq_true rfl) (Nat.le_of_ble_eq_true rfl) ?_
      refine z_iconst C (-1) dX6_draws_43 (by decide) ?_
      refine z_istore_n C dX6_draws_44 rfl (by decide) rfl (lv' := [(2, .int (-1)), (0, .ref (w.2.2 0)), (1, .int p1)]) ?_
      refine z_bipush C 9 dX6_draws_45 (by decide) ?_
      refine z_istore_n C dX6_draws_47 rfl (by decide) rfl (lv' := [(3, .int 9), (2, .int (-1)), (0, .ref (w.2.2 0)), (1, .int p1)]) ?_
      obtain ⟨⟨x2_17, x3_18⟩, σ_19, e_20, hf⟩ := bd_ hf
      try dsimp only at hf
      refine z_lv (lv' := [(0, .ref (w.2.2 0)), (1, .int p1), (2, .int (-1)), (3, .int 9)]) [2, 3, 1, 0] rfl ?_
      refine lfX6_draws_L48 C (Nat.le_of_ble_eq_true rfl) (Nat.le_of_ble_eq_true rfl) p1 ?_ _ _ _ _ e_20
      refine z_iload_n C 2 dX6_draws_92 rfl rfl ?_
      obtain ⟨j_21, σ_22, e_23, hf⟩ := bd_ hf
      have hje_23 : Z p l e (zRm 11 167 σ) s m args below meth c (zQ below w zLm σ (.returned (some (.int r))) σ' args s) w zLm (zA w zLm σ) 4 σ_22 107 [(0, .ref (w.2.2 0)), (1, .int p1), (2, .int x2_17), (3, .int x3_18)] [.int j_21] := by
        obtain ⟨rfl, rfl⟩ := fin_ hf
        exact z_iret C rfl dX6_draws_107
      replace hf := e_23
      refine z_if_ge C 106 dX6_draws_93 (by decide) (fun c_24 => ?_) (fun c_24 => ?_)
      · replace hf := if_t c_24 hf
        refine z_iload_n C 2 dX6_draws_106 rfl rfl ?_
        obtain ⟨rfl, rfl⟩ := fin_ hf
        exact hje_23
      · replace hf := if_f c_24 hf
        refine z_aload_n C 0 dX6_draws_96 rfl rfl ?_
        refine z_ldc_w C dX6_draws_97 q1742 ?_
        obtain ⟨r_25, σ_27, e_26, hf⟩ := bd_ hf
        refine z_calli C (rest := []) (av := (.ref (w.2.2 0) :: [.int (-1000000002)])) (zPay.of q1488 q83) (fun H ls hH h2 => zInv_V C (As := [.int (-1000000002)]) (rest := []) (ci := 6) (T := TX6) (N := 24) rfl (zSee.fix ly_m0) hH q1485 q1487 qs32 (Or.inl rfl) q1488 mh_X6 np_X6_finding dX6_draws_100) (tX6_finding l w e_26) (Nat.le_of_ble_eq_true rfl) (Nat.le_of_ble_eq_true rfl) ?_
        refine z_goto C 107 dX6_draws_103 (by decide) ?_
        obtain ⟨rfl, rfl⟩ := fin_ hf
        exact hje_23
    · replace hf := if_t c_4 hf
      refine z_aload_n C 0 dX6_draws_25 rfl rfl ?_
      refine z_ldc C dX6_draws_26 q1585 ?_
      obtain ⟨r_28, σ_30, e_29, hf⟩ := bd_ hf
      refine z_calli C (rest := []) (av := (.ref (w.2.2 0) :: [.int (-1000000003)])) (zPay.of q1488 q83) (fun H ls hH h2 => zInv_V C (As := [.int (-1000000003)]) (rest := []) (ci := 6) (T := TX6) (N := 24) rfl (zSee.fix ly_m0) hH q1485 q1487 qs32 (Or.inl rfl) q1488 mh_X6 np_X6_finding dX6_draws_28) (tX6_finding l w e_29) (Nat.le_of_ble_eq_true rfl) (Nat.le_of_ble_eq_true rfl) ?_
      obtain ⟨rfl, rfl⟩ := fin_ hf
      exact z_iret C rfl dX6_draws_31
  · replace hf := if_t c_1 hf
    refine z_aload_n C 0 dX6_draws_8 rfl rfl ?_
    refine z_ldc C dX6_draws_9 q1484 ?_
    obtain ⟨r_31, σ_33, e_32, hf⟩ := bd_ hf
    refine z_calli C (rest := []) (av := (.ref (w.2.2 0) :: [.int (-1000000001)])) (zPay.of q1488 q83) (fun H ls hH h2 => zInv_V C (As := [.int (-1000000001)]) (rest := []) (ci := 6) (T := TX6) (N := 24) rfl (zSee.fix ly_m0) hH q1485 q1487 qs32 (Or.inl rfl) q1488 mh_X6 np_X6_finding dX6_draws_11) (tX6_finding l w e_32) (Nat.le_of_ble_eq_true rfl) (Nat.le_of_ble_eq_true rfl) ?_
    obtain ⟨rfl, rfl⟩ := fin_ hf
    exact z_iret C rfl dX6_draws_14
