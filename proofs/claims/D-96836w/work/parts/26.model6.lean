/-! the reference, walked (written by gen/main_m.py) -/
def fX6_traffic_L47 (σ : ZS) (y1 : Int32) (y2 : Int32) : Nat → Int32 → Int32 → Int32 → Option (Int32 × Int32 × Int32)
  | 0, _, _, _ => none
  | n + 1, y3, y4, y5 => if (σ.1 1 (1 : Int32).toNatClampNeg) ≤ y5 then (some (y3, y4, y5)) else (bo (fX6_shipsAt σ y5) (fun r_24 => bo (fX6_lostNow σ) (fun r_26 => bo (fX6_bits σ (r_24 &&& (r_26 ^^^ (-1)))) (fun r_28 => nm (if r_28 ≤ y4 then y3 else y5) (fun (j_30 : Int32) => nm (fJ3_max y4 r_28) (fun (x4_31 : Int32) => nm (y5 + 1) (fun (x5_32 : Int32) => fX6_traffic_L47 σ y1 y2 n j_30 x4_31 x5_32)))))))
def fX6_traffic (σ : ZS) (p1 : Int32) (p2 : Int32) : Option (Int32 × ZS) := if (fX6_isBehind p1) = 0 then (bd (fX6_finding σ (-1000000001)) (fun r_2 σ_4 => some (r_2, σ_4))) else (if (fX6_within p2 0 1) = 0 then (bd (fX6_finding σ (-1000000001)) (fun r_44 σ_46 => some (r_44, σ_46))) else (bd (fX6_copy σ 1 3) (fun _ σ_8 => bd (fX6_hoursGo σ_8 p1) (fun _ σ_11 => bo (fX6_traffic_L47 σ_11 p1 p2 10000 0 (-1) 0) (fun uu37 => nm (if p2 = 0 then (uu37.1) else (uu37.2.1)) (fun (j_39 : Int32) => bd (fX6_putBack σ_11 j_39) (fun r_40 σ_42 => some (r_40, σ_42))))))))
set_option maxHeartbeats 4000000 in
set_option maxRecDepth 100000 in
theorem lfX6_traffic_L47 {p : Program} {l : Launch} {e : Env} {R : Room} {s : State} {m : MethodId} {args : Array Value} {below : List Frame} {meth : Method} {c : Code} {Q : State → Prop} {w : ZW} {A : Nat → Prop} {ret : Option FieldType} {hh : List (Nat × Nat × Nat × Nat)} (C : zCx p s m args meth c w zLm A 7 cX6_traffic RX6 ret hh) (hfr : 3 ≤ R.frames) (hlo : 44 ≤ R.locals) (σ : ZS) (y1 : Int32) (y2 : Int32) {z3 : Int32} {z4 : Int32} {z5 : Int32} (hk : Z p l e R s m args below meth c Q w zLm A 7 σ 105 [(0, .ref (w.2.2 0)), (1, .int y1), (2, .int y2), (3, .int z3), (4, .int z4), (5, .int z5)] []) : ∀ (n : Nat) (y3 : Int32) (y4 : Int32) (y5 : Int32), fX6_traffic_L47 σ y1 y2 n y3 y4 y5 = some (z3, z4, z5) → Z p l e R s m args below meth c Q w zLm A 7 σ 47 [(0, .ref (w.2.2 0)), (1, .int y1), (2, .int y2), (3, .int y3), (4, .int y4), (5, .int y5)] [] := by
  intro n
  induction n with
  | zero => intro y3 y4 y5 hf; exact none_ hf
  | succ n ih =>
    intro y3 y4 y5 hf
    rw [fX6_traffic_L47] at hf
    refine z_iload C 5 dX6_traffic_47 rfl ?_
    refine z_aload_n C 0 dX6_traffic_49 rfl rfl ?_
    refine z_getR C ly_m0 (Cn := RX6) (T := TX6) (N := 24) rfl in_X6 0 (by decide) q1404 (Or.inl rfl) rfl dX6_traffic_50 ?_
    refine z_iconst C 1 dX6_traffic_53 (by decide) ?_
    refine z_ialoadF C ly_m1 (by decide) dX6_traffic_54 ?_
    refine z_icmp_ge C 105 dX6_traffic_55 (by decide) (fun c_23 => ?_) (fun c_23 => ?_)
    · replace hf := if_t c_23 hf
      have hf1 := fino_ hf
      simp only [Prod.mk.injEq] at hf1
      obtain ⟨rfl, rfl, rfl⟩ := hf1
      exact hk
    · replace hf := if_f c_23 hf
      refine z_aload_n C 0 dX6_traffic_58 rfl rfl ?_
      refine z_iload C 5 dX6_traffic_59 rfl ?_
      obtain ⟨r_24, e_25, hf⟩ := bo_ hf
      refine z_calli C (rest := []) (av := (.ref (w.2.2 0) :: [.int y5])) (zPay.of q1624 q83) (fun H ls hH h2 => zInv_V C (As := [.int y5]) (rest := []) (ci := 6) (T := TX6) (N := 24) rfl (zSee.fix ly_m0) hH q1621 q1623 qs52 (Or.inl rfl) q1624 mh_X6 np_X6_shipsAt dX6_traffic_61) (tX6_shipsAt l w e_25) (Nat.le_trans (Nat.le_of_ble_eq_true rfl) hfr) (Nat.le_trans (Nat.le_of_ble_eq_true rfl) hlo) ?_
      refine z_aload_n C 0 dX6_traffic_64 rfl rfl ?_
      obtain ⟨r_26, e_27, hf⟩ := bo_ hf
      refine z_calli C (rest := [.int r_24]) (av := (.ref (w.2.2 0) :: [])) (zPay.of q1741 q83) (fun H ls hH h2 => zInv_V C (As := []) (rest := [.int r_24]) (ci := 6) (T := TX6) (N := 24) rfl (zSee.fix ly_m0) hH q1738 q1740 qs63 (Or.inl rfl) q1741 mh_X6 np_X6_lostNow dX6_traffic_65) (tX6_lostNow l w e_27) (Nat.le_trans (Nat.le_of_ble_eq_true rfl) hfr) (Nat.le_trans (Nat.le_of_ble_eq_true rfl) hlo) ?_
      refine z_iconst C (-1) dX6_traffic_68 (by decide) ?_
      refine z_ixor C dX6_traffic_69 ?_
      refine z_iand C dX6_traffic_70 ?_
      obtain ⟨r_28, e_29, hf⟩ := bo_ hf
      refine z_calli C (rest := []) (av := [.int (r_24 &&& (r_26 ^^^ (-1)))]) (zPay.of q1710 q83) (fun H ls hH h2 => zInv_S C (As := [.int (r_24 &&& (r_26 ^^^ (-1)))]) (rest := []) q1708 q1709 q83 (Or.inl rfl) q1710 mh_X6 np_X6_bits dX6_traffic_71) (tX6_bits l w e_29) (Nat.le_trans (Nat.le_of_ble_eq_true rfl) hfr) (Nat.le_trans (Nat.le_of_ble_eq_true rfl) hlo) ?_
      refine z_istore C dX6_traffic_74 (by decide) rfl (lv' := [(6, .int r_28), (0, .ref (w.2.2 0)), (1, .int y1), (2, .int y2), (3, .int y3), (4, .int y4), (5, .int y5)]) ?_
      refine z_iload C 0 dX6_traffic_76 rfl ?_
      refine z_iload C 5 dX6_traffic_78 rfl ?_
      obtain ⟨j_30, ej_30, hf⟩ := nmo_ hf
      have hjj_30 : Z p l e R s m args below meth c Q w zLm A 7 σ 89 [(0, .ref (w.2.2 0)), (1, .int y1), (2, .int y2), (3, .int y3), (4, .int y4), (5, .int y5), (6, .int r_28)] [.int j_30] := by
        refine z_istore_n C dX6_traffic_89 rfl (by decide) rfl (lv' := [(3, .int j_30), (0, .ref (w.2.2 0)), (1, .int y1), (2, .int y2), (4, .int y4), (5, .int y5), (6, .int r_28)]) ?_
        refine z_iload C 4 dX6_traffic_90 rfl ?_
        refine z_iload C 6 dX6_traffic_92 rfl ?_
        refine z_calli C (rest := []) (av := [.int y4, .int r_28]) (zPay.of q390 q84) (fun H ls hH h2 => zInv_S C (As := [.int y4, .int r_28]) (rest := []) q1580 q389 q84 (Or.inl rfl) q390 mh_J3 np_J3_max dX6_traffic_94) (tJ3_max l w zLm σ y4 r_28) (Nat.le_trans (Nat.le_of_ble_eq_true rfl) hfr) (Nat.le_trans (Nat.le_of_ble_eq_true rfl) hlo) ?_
        obtain ⟨x4_31, ex4_31, hf⟩ := nmo_ hf
        refine z_top ex4_31 ?_
        refine z_istore C dX6_traffic_97 (by decide) rfl (lv' := [(4, .int x4_31), (3, .int j_30), (0, .ref (w.2.2 0)), (1, .int y1), (2, .int y2), (5, .int y5), (6, .int r_28)]) ?_
        obtain ⟨x5_32, ex5_32, hf⟩ := nmo_ hf
        refine z_iinc C x5_32 5 dX6_traffic_99 rfl (by rw [ex5_32]; rfl) (by decide) rfl (lv' := [(5, .int x5_32), (4, .int x4_31), (3, .int j_30), (0, .ref (w.2.2 0)), (1, .int y1), (2, .int y2), (6, .int r_28)]) ?_
        refine z_goto C 47 dX6_traffic_102 (by decide) ?_
        exact z_lv [3, 4, 5, 2, 1, 0] rfl (ih _ _ _ hf)
      replace hf := ej_30
      refine z_icmp_le C 88 dX6_traffic_80 (by decide) (fun c_33 => ?_) (fun c_33 => ?_)
      · replace hf := ifp_t c_33 hf
        refine z_iload_n C 4 dX6_traffic_88 rfl rfl ?_
        subst hf
        exact z_lv [1, 2, 3, 4, 5, 6, 0] rfl hjj_30
      · replace hf := ifp_f c_33 hf
        refine z_iload C 6 dX6_traffic_83 rfl ?_
        refine z_goto C 89 dX6_traffic_85 (by decide) ?_
        subst hf
        exact z_lv [1, 2, 3, 4, 5, 6, 0] rfl hjj_30
set_option maxHeartbeats 4000000 in
set_option maxRecDepth 100000 in
theorem tX6_traffic (l : Launch) (w : ZW) {σ σ' : ZS} {p1 : Int32} {p2 : Int32} {r : Int32} (hf : fX6_traffic σ p1 p2 = some (r, σ')) : zC l w zLm yX6_traffic (ws_ yX6_traffic cX6_traffic 7 (some .int)) 10 154 [.ref (w.2.2 0), .int p1, .int p2] σ (.returned (some (.int r))) σ' := by
  refine zC.of (plainFor_of_name (by decide)) (Nat.le_of_ble_eq_true rfl) ?_
  intro p e s m args below meth c C hnm
  show Z p l e _ s m args below meth c _ w _ _ 7 σ 0 [(0, .ref (w.2.2 0)), (1, .int p1), (2, .int p2)] []
  unfold fX6_traffic at hf
  refine z_iload_n C 1 dX6_traffic_0 rfl rfl ?_
  refine z_calli C (rest := []) (av := [.int p1]) (zPay.of q1726 q83) (fun H ls hH h2 => zInv_S C (As := [.int p1]) (rest := []) q1724 q1725 q83 (Or.inl rfl) q1726 mh_X6 np_X6_isBehind dX6_traffic_1) (tX6_isBehind l w zLm σ p1) (Nat.le_of_ble_eq_true rfl) (Nat.le_of_ble_eq_true rfl) ?_
  refine z_if_eq C 16 dX6_traffic_4 (by decide) (fun c_1 => ?_) (fun c_1 => ?_)
  · replace hf := if_t c_1 hf
    refine z_aload_n C 0 dX6_traffic_16 rfl rfl ?_
    refine z_ldc C dX6_traffic_17 q1484 ?_
    obtain ⟨r_2, σ_4, e_3, hf⟩ := bd_ hf
    refine z_calli C (rest := []) (av := (.ref (w.2.2 0) :: [.int (-1000000001)])) (zPay.of q1488 q83) (fun H ls hH h2 => zInv_V C (As := [.int (-1000000001)]) (rest := []) (ci := 6) (T := TX6) (N := 24) rfl (zSee.fix ly_m0) hH q1485 q1487 qs32 (Or.inl rfl) q1488 mh_X6 np_X6_finding dX6_traffic_19) (tX6_finding l w e_3) (Nat.le_of_ble_eq_true rfl) (Nat.le_of_ble_eq_true rfl) ?_
    obtain ⟨rfl, rfl⟩ := fin_ hf
    exact z_iret C rfl dX6_traffic_22
  · replace hf := if_f c_1 hf
    refine z_iload_n C 2 dX6_traffic_7 rfl rfl ?_
    refine z_iconst C 0 dX6_traffic_8 (by decide) ?_
    refine z_iconst C 1 dX6_traffic_9 (by decide) ?_
    refine z_calli C (rest := []) (av := [.int p2, .int 0, .int 1]) (zPay.of q1483 q83) (fun H ls hH h2 => zInv_S C (As := [.int p2, .int 0, .int 1]) (rest := []) q1481 q1482 q83 (Or.inl rfl) q1483 mh_X6 np_X6_within dX6_traffic_10) (tX6_within l w zLm σ p2 0 1) (Nat.le_of_ble_eq_true rfl) (Nat.le_of_ble_eq_true rfl) ?_
    refine z_if_ne C 23 dX6_traffic_13 (by decide) (fun c_5 => ?_) (fun c_5 => ?_)
    · replace hf := if_f c_5 hf
      refine z_aload_n C 0 dX6_traffic_23 rfl rfl ?_
      refine z_getR C ly_m0 (Cn := RX6) (T := TX6) (N := 24) rfl in_X6 0 (by decide) q1404 (Or.inl rfl) rfl dX6_traffic_24 ?_
      refine z_aload_n C 0 dX6_traffic_27 rfl rfl ?_
      refine z_getR C ly_m0 (Cn := RX6) (T := TX6) (N := 24) rfl in_X6 2 (by decide) q1406 (Or.inl rfl) rfl dX6_traffic_28 ?_
      obtain ⟨⟨⟩, σ_8, e_7, hf⟩ := bd_ hf
      refine z_callv C (rest := []) (av := [.ref (w.2.2 1), .ref (w.2.2 3)]) (zPay.of q1729 q83) (fun H ls hH h2 => zInv_S C (As := [.ref (w.2.2 1), .ref (w.2.2 3)]) (rest := []) q1727 q1728 q83 (Or.inl rfl) q1729 mh_X6 np_X6_copy dX6_traffic_31) (tX6_copy l w ly_m1 ly_m3 e_7) (Nat.le_of_ble_eq_true rfl) (Nat.le_of_ble_eq_true rfl) ?_
      refine z_aload_n C 0 dX6_traffic_34 rfl rfl ?_
      refine z_iload_n C 1 dX6_traffic_35 rfl rfl ?_
      obtain ⟨⟨⟩, σ_11, e_10, hf⟩ := bd_ hf
      refine z_callv C (rest := []) (av := (.ref (w.2.2 0) :: [.int p1])) (zPay.of q1695 q83) (fun H ls hH h2 => zInv_V C (As := [.int p1]) (rest := []) (ci := 6) (T := TX6) (N := 24) rfl (zSee.fix ly_m0) hH q1692 q1694 qs57 (Or.inl rfl) q1695 mh_X6 np_X6_hoursGo dX6_traffic_36) (tX6_hoursGo l w e_10) (Nat.le_of_ble_eq_true rfl) (Nat.le_of_ble_eq_true rfl) ?_
      refine z_iconst C 0 dX6_traffic_39 (by decide) ?_
      refine z_istore_n C dX6_traffic_40 rfl (by decide) rfl (lv' := [(3, .int 0), (0, .ref (w.2.2 0)), (1, .int p1), (2, .int p2)]) ?_
      refine z_iconst C (-1) dX6_traffic_41 (by decide) ?_
      refine z_istore C dX6_traffic_42 (by decide) rfl (lv' := [(4, .int (-1)), (3, .int 0), (0, .ref (w.2.2 0)), (1, .int p1), (2, .int p2)]) ?_
      refine z_iconst C 0 dX6_traffic_44 (by decide) ?_
      refine z_istore C dX6_traffic_45 (by decide) rfl (lv' := [(5, .int 0), (4, .int (-1)), (3, .int 0), (0, .ref (w.2.2 0)), (1, .int p1), (2, .int p2)]) ?_
      obtain ⟨⟨x3_34, x4_35, x5_36⟩, e_38, hf⟩ := bo_ hf
      try dsimp only at hf
      refine z_lv (lv' := [(0, .ref (w.2.2 0)), (1, .int p1), (2, .int p2), (3, .int 0), (4, .int (-1)), (5, .int 0)]) [3, 4, 5, 2, 1, 0] rfl ?_
      refine lfX6_traffic_L47 C (Nat.le_of_ble_eq_true rfl) (Nat.le_of_ble_eq_true rfl) σ_11 p1 p2 ?_ _ _ _ _ e_38
      refine z_aload_n C 0 dX6_traffic_105 rfl rfl ?_
      refine z_iload_n C 2 dX6_traffic_106 rfl rfl ?_
      obtain ⟨j_39, ej_39, hf⟩ := nmo_ hf
      have hjj_39 : Z p l e (zRm 10 154 σ) s m args below meth c (zQ below w zLm σ (.returned (some (.int r))) σ' args s) w zLm (zA w zLm σ) 7 σ_11 116 [(0, .ref (w.2.2 0)), (1, .int p1), (2, .int p2), (3, .int x3_34), (4, .int x4_35), (5, .int x5_36)] [.int j_39, .ref (w.2.2 0)] := by
        obtain ⟨r_40, σ_42, e_41, hf⟩ := bd_ hf
        refine z_calli C (rest := []) (av := (.ref (w.2.2 0) :: [.int j_39])) (zPay.of q1733 q83) (fun H ls hH h2 => zInv_V C (As := [.int j_39]) (rest := []) (ci := 6) (T := TX6) (N := 24) rfl (zSee.fix ly_m0) hH q1730 q1732 qs62 (Or.inl rfl) q1733 mh_X6 np_X6_putBack dX6_traffic_116) (tX6_putBack l w e_41) (Nat.le_of_ble_eq_true rfl) (Nat.le_of_ble_eq_true rfl) ?_
        obtain ⟨rfl, rfl⟩ := fin_ hf
        exact z_iret C rfl dX6_traffic_119
      replace hf := ej_39
      refine z_if_ne C 114 dX6_traffic_107 (by decide) (fun c_43 => ?_) (fun c_43 => ?_)
      · replace hf := ifp_f c_43 hf
        refine z_iload C 4 dX6_traffic_114 rfl ?_
        subst hf
        exact hjj_39
      · replace hf := ifp_t c_43 hf
        refine z_iload_n C 3 dX6_traffic_110 rfl rfl ?_
        refine z_goto C 116 dX6_traffic_111 (by decide) ?_
        subst hf
        exact hjj_39
    · replace hf := if_t c_5 hf
      refine z_aload_n C 0 dX6_traffic_16 rfl rfl ?_
      refine z_ldc C dX6_traffic_17 q1484 ?_
      obtain ⟨r_44, σ_46, e_45, hf⟩ := bd_ hf
      refine z_calli C (rest := []) (av := (.ref (w.2.2 0) :: [.int (-1000000001)])) (zPay.of q1488 q83) (fun H ls hH h2 => zInv_V C (As := [.int (-1000000001)]) (rest := []) (ci := 6) (T := TX6) (N := 24) rfl (zSee.fix ly_m0) hH q1485 q1487 qs32 (Or.inl rfl) q1488 mh_X6 np_X6_finding dX6_traffic_19) (tX6_finding l w e_45) (Nat.le_of_ble_eq_true rfl) (Nat.le_of_ble_eq_true rfl) ?_
      obtain ⟨rfl, rfl⟩ := fin_ hf
      exact z_iret C rfl dX6_traffic_22
def fX6_odds_L48 (y1 : Int32) (y2 : Int32) (y3 : Int32) : Nat → Int32 → Int32 → ZS → Option ((Int32 × Int32) × ZS)
  | 0, _, _, _ => none
  | n + 1, y4, y5, σ => if 20 ≤ y5 then (some ((y4, y5), σ)) else (bd (fX6_inBehind (sI σ 1 ((4 : Int32).toNatClampNeg) y5) y2) (fun r_14 σ_16 => nm (if (fX6_hasBit r_14 y1) = 0 then 0 else 1) (fun (j_17 : Int32) => nm (y4 + j_17) (fun (x4_18 : Int32) => nm (y5 + 1) (fun (x5_19 : Int32) => fX6_odds_L48 y1 y2 y3 n x4_18 x5_19 σ_16)))))
def fX6_odds_L99 (y1 : Int32) (y2 : Int32) (y3 : Int32) (y4 : Int32) : Nat → Int32 → Int32 → Option (Int32 × Int32)
  | 0, _, _ => none
  | n + 1, y5, y6 => if y6 = 0 then (some (y5, y6)) else (nm (y5 - y5 / y6 * y6) (fun (x7_28 : Int32) => fX6_odds_L99 y1 y2 y3 y4 n y6 x7_28))
def fX6_odds (σ : ZS) (p1 : Int32) (p2 : Int32) (p3 : Int32) : Option (Int32 × ZS) := if (fX6_isShip σ p1) = 0 then (bd (fX6_finding σ (-1000000001)) (fun r_2 σ_4 => some (r_2, σ_4))) else (if (fX6_isBehind p2) = 0 then (bd (fX6_finding σ (-1000000001)) (fun r_6 σ_8 => some (r_6, σ_8))) else (if (fX6_within p3 0 1) = 0 then (bd (fX6_finding σ (-1000000001)) (fun r_36 σ_38 => some (r_36, σ_38))) else (bd (fX6_copy σ 1 3) (fun _ σ_12 => bd (fX6_odds_L48 p1 p2 p3 10000 0 0 σ_12) (fun uu23 σ_23 => bo (fX6_odds_L99 p1 p2 p3 (uu23.1) 10000 20 (uu23.1)) (fun uu31 => nm (if p3 = 0 then (uu23.1) else 20) (fun (j_33 : Int32) => gd (¬ (uu31.1) = 0) (some (j_33 / (uu31.1), σ_23)))))))))
set_option maxHeartbeats 4000000 in
set_option maxRecDepth 100000 in
theorem lfX6_odds_L48 {p : Program} {l : Launch} {e : Env} {R : Room} {s : State} {m : MethodId} {args : Array Value} {below : List Frame} {meth : Method} {c : Code} {Q : State → Prop} {w : ZW} {A : Nat → Prop} {ret : Option FieldType} {hh : List (Nat × Nat × Nat × Nat)} (C : zCx p s m args meth c w zLm A 8 cX6_odds RX6 ret hh) (hfr : 11 ≤ R.frames) (hlo : 168 ≤ R.locals) (y1 : Int32) (y2 : Int32) (y3 : Int32) {z4 : Int32} {z5 : Int32} {σ' : ZS} (hk : Z p l e R s m args below meth c Q w zLm A 8 σ' 91 [(0, .ref (w.2.2 0)), (1, .int y1), (2, .int y2), (3, .int y3), (4, .int z4), (5, .int z5)] []) : ∀ (n : Nat) (y4 : Int32) (y5 : Int32) (σ : ZS), fX6_odds_L48 y1 y2 y3 n y4 y5 σ = some ((z4, z5), σ') → Z p l e R s m args below meth c Q w zLm A 8 σ 48 [(0, .ref (w.2.2 0)), (1, .int y1), (2, .int y2), (3, .int y3), (4, .int y4), (5, .int y5)] [] := by
  intro n
  induction n with
  | zero => intro y4 y5 σ hf; exact none_ hf
  | succ n ih =>
    intro y4 y5 σ hf
    rw [fX6_odds_L48] at hf
    refine z_iload C 5 dX6_odds_48 rfl ?_
    refine z_bipush C 20 dX6_odds_50 (by decide) ?_
    refine z_icmp_ge C 91 dX6_odds_52 (by decide) (fun c_13 => ?_) (fun c_13 => ?_)
    · replace hf := if_t c_13 hf
      obtain ⟨hf1, rfl⟩ := fin_ hf
      simp only [Prod.mk.injEq] at hf1
      obtain ⟨rfl, rfl⟩ := hf1
      exact hk
    · replace hf := if_f c_13 hf
      refine z_aload_n C 0 dX6_odds_55 rfl rfl ?_
      refine z_getR C ly_m0 (Cn := RX6) (T := TX6) (N := 24) rfl in_X6 0 (by decide) q1404 (Or.inl rfl) rfl dX6_odds_56 ?_
      refine z_iconst C 4 dX6_odds_59 (by decide) ?_
      refine z_iload C 5 dX6_odds_60 rfl ?_
      refine z_iastore C ly_m1 (by decide) dX6_odds_62 ?_
      refine z_iload C 4 dX6_odds_63 rfl ?_
      refine z_aload_n C 0 dX6_odds_65 rfl rfl ?_
      refine z_iload_n C 2 dX6_odds_66 rfl rfl ?_
      obtain ⟨r_14, σ_16, e_15, hf⟩ := bd_ hf
      refine z_calli C (rest := [.int y4]) (av := (.ref (w.2.2 0) :: [.int y2])) (zPay.of q1750 q83) (fun H ls hH h2 => zInv_V C (As := [.int y2]) (rest := [.int y4]) (ci := 6) (T := TX6) (N := 24) rfl (zSee.fix ly_m0) hH q1747 q1749 qs64 (Or.inl rfl) q1750 mh_X6 np_X6_inBehind dX6_odds_67) (tX6_inBehind l w e_15) (Nat.le_trans (Nat.le_of_ble_eq_true rfl) hfr) (Nat.le_trans (Nat.le_of_ble_eq_true rfl) hlo) ?_
      refine z_iload_n C 1 dX6_odds_70 rfl rfl ?_
      refine z_calli C (rest := [.int y4]) (av := [.int r_14, .int y1]) (zPay.of q1620 q83) (fun H ls hH h2 => zInv_S C (As := [.int r_14, .int y1]) (rest := [.int y4]) q1618 q1619 q83 (Or.inl rfl) q1620 mh_X6 np_X6_hasBit dX6_odds_71) (tX6_hasBit l w zLm σ_16 r_14 y1) (Nat.le_trans (Nat.le_of_ble_eq_true rfl) hfr) (Nat.le_trans (Nat.le_of_ble_eq_true rfl) hlo) ?_
      obtain ⟨j_17, ej_17, hf⟩ := nmo_ hf
      have hj_17 : j_17 = 0 ∨ j_17 = 1 := by rw [ej_17]; (repeat' split) <;> first | exact Or.inl rfl | exact Or.inr rfl
      have hjj_17 : Z p l e R s m args below meth c Q w zLm A 8 σ_16 82 [(0, .ref (w.2.2 0)), (1, .int y1), (2, .int y2), (3, .int y3), (4, .int y4), (5, .int y5)] [.int j_17, .int y4] := by
        refine z_iadd C dX6_odds_82 ?_
        obtain ⟨x4_18, ex4_18, hf⟩ := nmo_ hf
        refine z_top ex4_18 ?_
        refine z_istore C dX6_odds_83 (by decide) rfl (lv' := [(4, .int x4_18), (0, .ref (w.2.2 0)), (1, .int y1), (2, .int y2), (3, .int y3), (5, .int y5)]) ?_
        obtain ⟨x5_19, ex5_19, hf⟩ := nmo_ hf
        refine z_iinc C x5_19 5 dX6_odds_85 rfl (by rw [ex5_19]; rfl) (by decide) rfl (lv' := [(5, .int x5_19), (4, .int x4_18), (0, .ref (w.2.2 0)), (1, .int y1), (2, .int y2), (3, .int y3)]) ?_
        refine z_goto C 48 dX6_odds_88 (by decide) ?_
        exact z_lv [2, 3, 4, 5, 1, 0] rfl (ih _ _ _ hf)
      replace hf := ej_17
      refine z_if_eq C 81 dX6_odds_74 (by decide) (fun c_20 => ?_) (fun c_20 => ?_)
      · replace hf := ifp_t c_20 hf
        refine z_iconst C 0 dX6_odds_81 (by decide) ?_
        subst hf
        exact hjj_17
      · replace hf := ifp_f c_20 hf
        refine z_iconst C 1 dX6_odds_77 (by decide) ?_
        refine z_goto C 82 dX6_odds_78 (by decide) ?_
        subst hf
        exact hjj_17
set_option maxHeartbeats 4000000 in
set_option maxRecDepth 100000 in
theorem lfX6_odds_L99 {p : Program} {l : Launch} {e : Env} {R : Room} {s : State} {m : MethodId} {args : Array Value} {below : List Frame} {meth : Method} {c : Code} {Q : State → Prop} {w : ZW} {A : Nat → Prop} {ret : Option FieldType} {hh : List (Nat × Nat × Nat × Nat)} (C : zCx p s m args meth c w zLm A 8 cX6_odds RX6 ret hh) (hfr : 0 ≤ R.frames) (hlo : 0 ≤ R.locals) (σ : ZS) (y1 : Int32) (y2 : Int32) (y3 : Int32) (y4 : Int32) {z5 : Int32} {z6 : Int32} (hk : Z p l e R s m args below meth c Q w zLm A 8 σ 122 [(0, .ref (w.2.2 0)), (1, .int y1), (2, .int y2), (3, .int y3), (4, .int y4), (5, .int z5), (6, .int z6)] []) : ∀ (n : Nat) (y5 : Int32) (y6 : Int32), fX6_odds_L99 y1 y2 y3 y4 n y5 y6 = some (z5, z6) → Z p l e R s m args below meth c Q w zLm A 8 σ 99 [(0, .ref (w.2.2 0)), (1, .int y1), (2, .int y2), (3, .int y3), (4, .int y4), (5, .int y5), (6, .int y6)] [] := by
  intro n
  induction n with
  | zero => intro y5 y6 hf; exact none_ hf
  | succ n ih =>
    intro y5 y6 hf
    rw [fX6_odds_L99] at hf
    refine z_iload C 6 dX6_odds_99 rfl ?_
    refine z_if_eq C 122 dX6_odds_101 (by decide) (fun c_27 => ?_) (fun c_27 => ?_)
    · replace hf := if_t c_27 hf
      have hf1 := fino_ hf
      simp only [Prod.mk.injEq] at hf1
      obtain ⟨rfl, rfl⟩ := hf1
      exact hk
    · replace hf := if_f c_27 hf
      refine z_iload C 5 dX6_odds_104 rfl ?_
      refine z_iload C 6 dX6_odds_106 rfl ?_
      refine z_irem C dX6_odds_108 c_27 ?_
      obtain ⟨x7_28, ex7_28, hf⟩ := nmo_ hf
      refine z_top ex7_28 ?_
      refine z_istore C dX6_odds_109 (by decide) rfl (lv' := [(7, .int x7_28), (0, .ref (w.2.2 0)), (1, .int y1), (2, .int y2), (3, .int y3), (4, .int y4), (5, .int y5), (6, .int y6)]) ?_
      refine z_iload C 7 dX6_odds_111 rfl ?_
      refine z_istore C dX6_odds_113 (by decide) rfl (lv' := [(5, .int y6), (7, .int x7_28), (0, .ref (w.2.2 0)), (1, .int y1), (2, .int y2), (3, .int y3), (4, .int y4), (6, .int y6)]) ?_
      refine z_iload C 1 dX6_odds_115 rfl ?_
      refine z_istore C dX6_odds_117 (by decide) rfl (lv' := [(6, .int x7_28), (5, .int y6), (7, .int x7_28), (0, .ref (w.2.2 0)), (1, .int y1), (2, .int y2), (3, .int y3), (4, .int y4)]) ?_
      refine z_goto C 99 dX6_odds_119 (by decide) ?_
      exact z_lv [3, 4, 5, 6, 7, 1, 0] rfl (ih _ _ hf)
set_option maxHeartbeats 4000000 in
set_option maxRecDepth 100000 in
theorem tX6_odds (l : Launch) (w : ZW) {σ σ' : ZS} {p1 : Int32} {p2 : Int32} {p3 : Int32} {r : Int32} (hf : fX6_odds σ p1 p2 p3 = some (r, σ')) : zC l w zLm yX6_odds (ws_ yX6_odds cX6_odds 8 (some .int)) 11 168 [.ref (w.2.2 0), .int p1, .int p2, .int p3] σ (.returned (some (.int r))) σ' := by
  refine zC.of (plainFor_of_name (by decide)) (Nat.le_of_ble_eq_true rfl) ?_
  intro p e s m args below meth c C hnm
  show Z p l e _ s m args below meth c _ w _ _ 8 σ 0 [(0, .ref (w.2.2 0)), (1, .int p1), (2, .int p2), (3, .int p3)] []
  unfold fX6_odds at hf
  refine z_aload_n C 0 dX6_odds_0 rfl rfl ?_
  refine z_iload_n C 1 dX6_odds_1 rfl rfl ?_
  refine z_calli C (rest := []) (av := (.ref (w.2.2 0) :: [.int p1])) (zPay.of q1664 q83) (fun H ls hH h2 => zInv_V C (As := [.int p1]) (rest := []) (ci := 6) (T := TX6) (N := 24) rfl (zSee.fix ly_m0) hH q1661 q1663 qs55 (Or.inl rfl) q1664 mh_X6 np_X6_isShip dX6_odds_2) (tX6_isShip l w σ p1) (Nat.le_of_ble_eq_true rfl) (Nat.le_of_ble_eq_true rfl) ?_
  refine z_if_eq C 24 dX6_odds_5 (by decide) (fun c_1 => ?_) (fun c_1 => ?_)
  · replace hf := if_t c_1 hf
    refine z_aload_n C 0 dX6_odds_24 rfl rfl ?_
    refine z_ldc C dX6_odds_25 q1484 ?_
    obtain ⟨r_2, σ_4, e_3, hf⟩ := bd_ hf
    refine z_calli C (rest := []) (av := (.ref (w.2.2 0) :: [.int (-1000000001)])) (zPay.of q1488 q83) (fun H ls hH h2 => zInv_V C (As := [.int (-1000000001)]) (rest := []) (ci := 6) (T := TX6) (N := 24) rfl (zSee.fix ly_m0) hH q1485 q1487 qs32 (Or.inl rfl) q1488 mh_X6 np_X6_finding dX6_odds_27) (tX6_finding l w e_3) (Nat.le_of_ble_eq_true rfl) (Nat.le_of_ble_eq_true rfl) ?_
    obtain ⟨rfl, rfl⟩ := fin_ hf
    exact z_iret C rfl dX6_odds_30
  · replace hf := if_f c_1 hf
    refine z_iload_n C 2 dX6_odds_8 rfl rfl ?_
    refine z_calli C (rest := []) (av := [.int p2]) (zPay.of q1726 q83) (fun H ls hH h2 => zInv_S C (As := [.int p2]) (rest := []) q1724 q1725 q83 (Or.inl rfl) q1726 mh_X6 np_X6_isBehind dX6_odds_9) (tX6_isBehind l w zLm σ p2) (Nat.le_of_ble_eq_true rfl) (Nat.le_of_ble_eq_true rfl) ?_
    refine z_if_eq C 24 dX6_odds_12 (by decide) (fun c_5 => ?_) (fun c_5 => ?_)
    · replace hf := if_t c_5 hf
      refine z_aload_n C 0 dX6_odds_24 rfl rfl ?_
      refine z_ldc C dX6_odds_25 q1484 ?_
      obtain ⟨r_6, σ_8, e_7, hf⟩ := bd_ hf
      refine z_calli C (rest := []) (av := (.ref (w.2.2 0) :: [.int (-1000000001)])) (zPay.of q1488 q83) (fun H ls hH h2 => zInv_V C (As := [.int (-1000000001)]) (rest := []) (ci := 6) (T := TX6) (N := 24) rfl (zSee.fix ly_m0) hH q1485 q1487 qs32 (Or.inl rfl) q1488 mh_X6 np_X6_finding dX6_odds_27) (tX6_finding l w e_7) (Nat.le_of_ble_eq_true rfl) (Nat.le_of_ble_eq_true rfl) ?_
      obtain ⟨rfl, rfl⟩ := fin_ hf
      exact z_iret C rfl dX6_odds_30
    · replace hf := if_f c_5 hf
      refine z_iload_n C 3 dX6_odds_15 rfl rfl ?_
      refine z_iconst C 0 dX6_odds_16 (by decide) ?_
      refine z_iconst C 1 dX6_odds_17 (by decide) ?_
      refine z_calli C (rest := []) (av := [.int p3, .int 0, .int 1]) (zPay.of q1483 q83) (fun H ls hH h2 => zInv_S C (As := [.int p3, .int 0, .int 1]) (rest := []) q1481 q1482 q83 (Or.inl rfl) q1483 mh_X6 np_X6_within dX6_odds_18) (tX6_within l w zLm σ p3 0 1) (Nat.le_of_ble_eq_true rfl) (Nat.le_of_ble_eq_true rfl) ?_
      refine z_if_ne C 31 dX6_odds_21 (by decide) (fun c_9 => ?_) (fun c_9 => ?_)
      · replace hf := if_f c_9 hf
        refine z_aload_n C 0 dX6_odds_31 rfl rfl ?_
        refine z_getR C ly_m0 (Cn := RX6) (T := TX6) (N := 24) rfl in_X6 0 (by decide) q1404 (Or.inl rfl) rfl dX6_odds_32 ?_
        refine z_aload_n C 0 dX6_odds_35 rfl rfl ?_
        refine z_getR C ly_m0 (Cn := RX6) (T := TX6) (N := 24) rfl in_X6 2 (by decide) q1406 (Or.inl rfl) rfl dX6_odds_36 ?_
        obtain ⟨⟨⟩, σ_12, e_11, hf⟩ := bd_ hf
        refine z_callv C (rest := []) (av := [.ref (w.2.2 1), .ref (w.2.2 3)]) (zPay.of q1729 q83) (fun H ls hH h2 => zInv_S C (As := [.ref (w.2.2 1), .ref (w.2.2 3)]) (rest := []) q1727 q1728 q83 (Or.inl rfl) q1729 mh_X6 np_X6_copy dX6_odds_39) (tX6_copy l w ly_m1 ly_m3 e_11) (Nat.le_of_ble_eq_true rfl) (Nat.le_of_ble_eq_true rfl) ?_
        refine z_iconst C 0 dX6_odds_42 (by decide) ?_
        refine z_istore C dX6_odds_43 (by decide) rfl (lv' := [(4, .int 0), (0, .ref (w.2.2 0)), (1, .int p1), (2, .int p2), (3, .int p3)]) ?_
        refine z_iconst C 0 dX6_odds_45 (by decide) ?_
        refine z_istore C dX6_odds_46 (by decide) rfl (lv' := [(5, .int 0), (4, .int 0), (0, .ref (w.2.2 0)), (1, .int p1), (2, .int p2), (3, .int p3)]) ?_
        obtain ⟨⟨x4_21, x5_22⟩, σ_23, e_24, hf⟩ := bd_ hf
        try dsimp only at hf
        refine z_lv (lv' := [(0, .ref (w.2.2 0)), (1, .int p1), (2, .int p2), (3, .int p3), (4, .int 0), (5, .int 0)]) [2, 3, 4, 5, 1, 0] rfl ?_
        refine lfX6_odds_L48 C (Nat.le_of_ble_eq_true rfl) (Nat.le_of_ble_eq_true rfl) p1 p2 p3 ?_ _ _ _ _ e_24
        refine z_bipush C 20 dX6_odds_91 (by decide) ?_
        refine z_istore C dX6_odds_93 (by decide) rfl (lv' := [(5, .int 20), (0, .ref (w.2.2 0)), (1, .int p1), (2, .int p2), (3, .int p3), (4, .int x4_21)]) ?_
        refine z_iload C 5 dX6_odds_95 rfl ?_
        refine z_istore C dX6_odds_97 (by decide) rfl (lv' := [(6, .int x4_21), (5, .int 20), (0, .ref (w.2.2 0)), (1, .int p1), (2, .int p2), (3, .int p3), (4, .int x4_21)]) ?_
        obtain ⟨⟨x5_29, x6_30⟩, e_32, hf⟩ := bo_ hf
        try dsimp only at hf
        refine z_lv (lv' := [(0, .ref (w.2.2 0)), (1, .int p1), (2, .int p2), (3, .int p3), (4, .int x4_21), (5, .int 20), (6, .int x4_21)]) [2, 3, 4, 5, 6, 1, 0] rfl ?_
        refine lfX6_odds_L99 C (Nat.le_of_ble_eq_true rfl) (Nat.le_of_ble_eq_true rfl) σ_23 p1 p2 p3 x4_21 ?_ _ _ _ e_32
        refine z_iload_n C 3 dX6_odds_122 rfl rfl ?_
        obtain ⟨j_33, ej_33, hf⟩ := nmo_ hf
        have hjj_33 : Z p l e (zRm 11 168 σ) s m args below meth c (zQ below w zLm σ (.returned (some (.int r))) σ' args s) w zLm (zA w zLm σ) 8 σ_23 133 [(0, .ref (w.2.2 0)), (1, .int p1), (2, .int p2), (3, .int p3), (4, .int x4_21), (5, .int x5_29), (6, .int x6_30)] [.int j_33] := by
          refine z_iload C 5 dX6_odds_133 rfl ?_
          obtain ⟨g_34, hf⟩ := gd_ hf
          refine z_idiv C dX6_odds_135 g_34 ?_
          obtain ⟨rfl, rfl⟩ := fin_ hf
          exact z_iret C rfl dX6_odds_136
        replace hf := ej_33
        refine z_if_ne C 131 dX6_odds_123 (by decide) (fun c_35 => ?_) (fun c_35 => ?_)
        · replace hf := ifp_f c_35 hf
          refine z_bipush C 20 dX6_odds_131 (by decide) ?_
          subst hf
          exact hjj_33
        · replace hf := ifp_t c_35 hf
          refine z_iload C 4 dX6_odds_126 rfl ?_
          refine z_goto C 133 dX6_odds_128 (by decide) ?_
          subst hf
          exact hjj_33
      · replace hf := if_t c_9 hf
        refine z_aload_n C 0 dX6_odds_24 rfl rfl ?_
        refine z_ldc C dX6_odds_25 q1484 ?_
        obtain ⟨r_36, σ_38, e_37, hf⟩ := bd_ hf
        refine z_calli C (rest := []) (av := (.ref (w.2.2 0) :: [.int (-1000000001)])) (zPay.of q1488 q83) (fun H ls hH h2 => zInv_V C (As := [.int (-1000000001)]) (rest := []) (ci := 6) (T := TX6) (N := 24) rfl (zSee.fix ly_m0) hH q1485 q1487 qs32 (Or.inl rfl) q1488 mh_X6 np_X6_finding dX6_odds_27) (tX6_finding l w e_37) (Nat.le_of_ble_eq_true rfl) (Nat.le_of_ble_eq_true rfl) ?_
        obtain ⟨rfl, rfl⟩ := fin_ hf
        exact z_iret C rfl dX6_odds_30
def fX6_hours (σ : ZS) (p1 : Int32) : Option (Int32 × ZS) := if (fX6_within p1 1 60) = 0 then (bd (fX6_finding σ (-1000000001)) (fun r_11 σ_13 => some (r_11, σ_13))) else (if ((σ.1 1 (0 : Int32).toNatClampNeg) + p1) ≤ 9999 then (bd (fX6_hoursGo σ p1) (fun _ σ_5 => bo (fX6_manyIn σ_5) (fun r_6 => some (r_6, σ_5)))) else (bd (fX6_finding σ (-1000000003)) (fun r_8 σ_10 => some (r_8, σ_10))))
set_option maxHeartbeats 4000000 in
set_option maxRecDepth 100000 in
theorem tX6_hours (l : Launch) (w : ZW) {σ σ' : ZS} {p1 : Int32} {r : Int32} (hf : fX6_hours σ p1 = some (r, σ')) : zC l w zLm yX6_hours (ws_ yX6_hours cX6_hours 2 (some .int)) 10 154 [.ref (w.2.2 0), .int p1] σ (.returned (some (.int r))) σ' := by
  refine zC.of (plainFor_of_name (by decide)) (Nat.le_of_ble_eq_true rfl) ?_
  intro p e s m args below meth c C hnm
  show Z p l e _ s m args below meth c _ w _ _ 2 σ 0 [(0, .ref (w.2.2 0)), (1, .int p1)] []
  unfold fX6_hours at hf
  refine z_iload_n C 1 dX6_hours_0 rfl rfl ?_
  refine z_iconst C 1 dX6_hours_1 (by decide) ?_
  refine z_bipush C 60 dX6_hours_2 (by decide) ?_
  refine z_calli C (rest := []) (av := [.int p1, .int 1, .int 60]) (zPay.of q1483 q83) (fun H ls hH h2 => zInv_S C (As := [.int p1, .int 1, .int 60]) (rest := []) q1481 q1482 q83 (Or.inl rfl) q1483 mh_X6 np_X6_within dX6_hours_4) (tX6_within l w zLm σ p1 1 60) (Nat.le_of_ble_eq_true rfl) (Nat.le_of_ble_eq_true rfl) ?_
  refine z_if_ne C 17 dX6_hours_7 (by decide) (fun c_1 => ?_) (fun c_1 => ?_)
  · replace hf := if_f c_1 hf
    refine z_aload_n C 0 dX6_hours_17 rfl rfl ?_
    refine z_getR C ly_m0 (Cn := RX6) (T := TX6) (N := 24) rfl in_X6 0 (by decide) q1404 (Or.inl rfl) rfl dX6_hours_18 ?_
    refine z_iconst C 0 dX6_hours_21 (by decide) ?_
    refine z_ialoadF C ly_m1 (by decide) dX6_hours_22 ?_
    refine z_iload_n C 1 dX6_hours_23 rfl rfl ?_
    refine z_iadd C dX6_hours_24 ?_
    refine z_sipush C 9999 dX6_hours_25 (by decide) ?_
    refine z_icmp_le C 38 dX6_hours_28 (by decide) (fun c_2 => ?_) (fun c_2 => ?_)
    · replace hf := if_t c_2 hf
      refine z_aload_n C 0 dX6_hours_38 rfl rfl ?_
      refine z_iload_n C 1 dX6_hours_39 rfl rfl ?_
      obtain ⟨⟨⟩, σ_5, e_4, hf⟩ := bd_ hf
      refine z_callv C (rest := []) (av := (.ref (w.2.2 0) :: [.int p1])) (zPay.of q1695 q83) (fun H ls hH h2 => zInv_V C (As := [.int p1]) (rest := []) (ci := 6) (T := TX6) (N := 24) rfl (zSee.fix ly_m0) hH q1692 q1694 qs57 (Or.inl rfl) q1695 mh_X6 np_X6_hoursGo dX6_hours_40) (tX6_hoursGo l w e_4) (Nat.le_of_ble_eq_true rfl) (Nat.le_of_ble_eq_true rfl) ?_
      refine z_aload_n C 0 dX6_hours_43 rfl rfl ?_
      obtain ⟨r_6, e_7, hf⟩ := bo_ hf
      refine z_calli C (rest := []) (av := (.ref (w.2.2 0) :: [])) (zPay.of q1707 q83) (fun H ls hH h2 => zInv_V C (As := []) (rest := []) (ci := 6) (T := TX6) (N := 24) rfl (zSee.fix ly_m0) hH q1704 q1706 qs60 (Or.inl rfl) q1707 mh_X6 np_X6_manyIn dX6_hours_44) (tX6_manyIn l w e_7) (Nat.le_of_ble_eq_true rfl) (Nat.le_of_ble_eq_true rfl) ?_
      obtain ⟨rfl, rfl⟩ := fin_ hf
      exact z_iret C rfl dX6_hours_47
    · replace hf := if_f c_2 hf
      refine z_aload_n C 0 dX6_hours_31 rfl rfl ?_
      refine z_ldc C dX6_hours_32 q1585 ?_
      obtain ⟨r_8, σ_10, e_9, hf⟩ := bd_ hf
      refine z_calli C (rest := []) (av := (.ref (w.2.2 0) :: [.int (-1000000003)])) (zPay.of q1488 q83) (fun H ls hH h2 => zInv_V C (As := [.int (-1000000003)]) (rest := []) (ci := 6) (T := TX6) (N := 24) rfl (zSee.fix ly_m0) hH q1485 q1487 qs32 (Or.inl rfl) q1488 mh_X6 np_X6_finding dX6_hours_34) (tX6_finding l w e_9) (Nat.le_of_ble_eq_true rfl) (Nat.le_of_ble_eq_true rfl) ?_
      obtain ⟨rfl, rfl⟩ := fin_ hf
      exact z_iret C rfl dX6_hours_37
  · replace hf := if_t c_1 hf
    refine z_aload_n C 0 dX6_hours_10 rfl rfl ?_
    refine z_ldc C dX6_hours_11 q1484 ?_
    obtain ⟨r_11, σ_13, e_12, hf⟩ := bd_ hf
    refine z_calli C (rest := []) (av := (.ref (w.2.2 0) :: [.int (-1000000001)])) (zPay.of q1488 q83) (fun H ls hH h2 => zInv_V C (As := [.int (-1000000001)]) (rest := []) (ci := 6) (T := TX6) (N := 24) rfl (zSee.fix ly_m0) hH q1485 q1487 qs32 (Or.inl rfl) q1488 mh_X6 np_X6_finding dX6_hours_13) (tX6_finding l w e_12) (Nat.le_of_ble_eq_true rfl) (Nat.le_of_ble_eq_true rfl) ?_
    obtain ⟨rfl, rfl⟩ := fin_ hf
    exact z_iret C rfl dX6_hours_16
def fX6_setting_L51 (y1 : Int32) (y2 : Int32) : Nat → Int32 → Int32 → ZS → Option ((Int32 × Int32) × ZS)
  | 0, _, _, _ => none
  | n + 1, y3, y4, σ => if 99 < y4 then (some ((y3, y4), σ)) else (if 0 ≤ y3 then (some ((y3, y4), σ)) else (bd (fX6_inBehind (sI σ 1 ((4 : Int32).toNatClampNeg) y4) y2) (fun r_11 σ_13 => nm (if (y1 &&& (r_11 ^^^ (-1))) = 0 then y4 else (-1)) (fun (j_14 : Int32) => nm (y4 + 1) (fun (x4_15 : Int32) => fX6_setting_L51 y1 y2 n j_14 x4_15 σ_13)))))
def fX6_setting (σ : ZS) (p1 : Int32) (p2 : Int32) : Option (Int32 × ZS) := if (fX6_within p1 0 ((1 <<< ((σ.1 1 (2 : Int32).toNatClampNeg) &&& 31)) - 1)) = 0 then (bd (fX6_finding σ (-1000000001)) (fun r_2 σ_4 => some (r_2, σ_4))) else (if (fX6_within p2 0 20) = 0 then (bd (fX6_finding σ (-1000000001)) (fun r_28 σ_30 => some (r_28, σ_30))) else (bd (fX6_copy σ 1 3) (fun _ σ_8 => bd (fX6_setting_L51 p1 p2 10000 (-1) 0 σ_8) (fun uu19 σ_19 => bd (if 0 ≤ (uu19.1) then (some ((uu19.1), σ_19)) else (bd (fX6_finding σ_19 (-1000000002)) (fun r_25 σ_27 => some (r_25, σ_27)))) (fun (j_21 : Int32) σ_22 => some (j_21, σ_22))))))
set_option maxHeartbeats 4000000 in
set_option maxRecDepth 100000 in
theorem lfX6_setting_L51 {p : Program} {l : Launch} {e : Env} {R : Room} {s : State} {m : MethodId} {args : Array Value} {below : List Frame} {meth : Method} {c : Code} {Q : State → Prop} {w : ZW} {A : Nat → Prop} {ret : Option FieldType} {hh : List (Nat × Nat × Nat × Nat)} (C : zCx p s m args meth c w zLm A 5 cX6_setting RX6 ret hh) (hfr : 11 ≤ R.frames) (hlo : 168 ≤ R.locals) (y1 : Int32) (y2 : Int32) {z3 : Int32} {z4 : Int32} {σ' : ZS} (hk : Z p l e R s m args below meth c Q w zLm A 5 σ' 95 [(0, .ref (w.2.2 0)), (1, .int y1), (2, .int y2), (3, .int z3), (4, .int z4)] []) : ∀ (n : Nat) (y3 : Int32) (y4 : Int32) (σ : ZS), fX6_setting_L51 y1 y2 n y3 y4 σ = some ((z3, z4), σ') → Z p l e R s m args below meth c Q w zLm A 5 σ 51 [(0, .ref (w.2.2 0)), (1, .int y1), (2, .int y2), (3, .int y3), (4, .int y4)] [] := by
  intro n
  induction n with
  | zero => intro y3 y4 σ hf; exact none_ hf
  | succ n ih =>
    intro y3 y4 σ hf
    rw [fX6_setting_L51] at hf
    refine z_iload C 4 dX6_setting_51 rfl ?_
    refine z_bipush C 99 dX6_setting_53 (by decide) ?_
    refine z_icmp_gt C 95 dX6_setting_55 (by decide) (fun c_9 => ?_) (fun c_9 => ?_)
    · replace hf := if_t c_9 hf
      obtain ⟨hf1, rfl⟩ := fin_ hf
      simp only [Prod.mk.injEq] at hf1
      obtain ⟨rfl, rfl⟩ := hf1
      exact hk
    · replace hf := if_f c_9 hf
      refine z_iload_n C 3 dX6_setting_58 rfl rfl ?_
      refine z_if_ge C 95 dX6_setting_59 (by decide) (fun c_10 => ?_) (fun c_10 => ?_)
      · replace hf := if_t c_10 hf
        obtain ⟨hf1, rfl⟩ := fin_ hf
        simp only [Prod.mk.injEq] at hf1
        obtain ⟨rfl, rfl⟩ := hf1
        exact hk
      · replace hf := if_f c_10 hf
        refine z_aload_n C 0 dX6_setting_62 rfl rfl ?_
        refine z_getR C ly_m0 (Cn := RX6) (T := TX6) (N := 24) rfl in_X6 0 (by decide) q1404 (Or.inl rfl) rfl dX6_setting_63 ?_
        refine z_iconst C 4 dX6_setting_66 (by decide) ?_
        refine z_iload C 4 dX6_setting_67 rfl ?_
        refine z_iastore C ly_m1 (by decide) dX6_setting_69 ?_
        refine z_iload_n C 1 dX6_setting_70 rfl rfl ?_
        refine z_aload_n C 0 dX6_setting_71 rfl rfl ?_
        refine z_iload_n C 2 dX6_setting_72 rfl rfl ?_
        obtain ⟨r_11, σ_13, e_12, hf⟩ := bd_ hf
        refine z_calli C (rest := [.int y1]) (av := (.ref (w.2.2 0) :: [.int y2])) (zPay.of q1750 q83) (fun H ls hH h2 => zInv_V C (As := [.int y2]) (rest := [.int y1]) (ci := 6) (T := TX6) (N := 24) rfl (zSee.fix ly_m0) hH q1747 q1749 qs64 (Or.inl rfl) q1750 mh_X6 np_X6_inBehind dX6_setting_73) (tX6_inBehind l w e_12) (Nat.le_trans (Nat.le_of_ble_eq_true rfl) hfr) (Nat.le_trans (Nat.le_of_ble_eq_true rfl) hlo) ?_
        refine z_iconst C (-1) dX6_setting_76 (by decide) ?_
        refine z_ixor C dX6_setting_77 ?_
        refine z_iand C dX6_setting_78 ?_
        obtain ⟨j_14, ej_14, hf⟩ := nmo_ hf
        have hjj_14 : Z p l e R s m args below meth c Q w zLm A 5 σ_13 88 [(0, .ref (w.2.2 0)), (1, .int y1), (2, .int y2), (3, .int y3), (4, .int y4)] [.int j_14] := by
          refine z_istore_n C dX6_setting_88 rfl (by decide) rfl (lv' := [(3, .int j_14), (0, .ref (w.2.2 0)), (1, .int y1), (2, .int y2), (4, .int y4)]) ?_
          obtain ⟨x4_15, ex4_15, hf⟩ := nmo_ hf
          refine z_iinc C x4_15 4 dX6_setting_89 rfl (by rw [ex4_15]; rfl) (by decide) rfl (lv' := [(4, .int x4_15), (3, .int j_14), (0, .ref (w.2.2 0)), (1, .int y1), (2, .int y2)]) ?_
          refine z_goto C 51 dX6_setting_92 (by decide) ?_
          exact z_lv [2, 3, 4, 1, 0] rfl (ih _ _ _ hf)
        replace hf := ej_14
        refine z_if_ne C 87 dX6_setting_79 (by decide) (fun c_16 => ?_) (fun c_16 => ?_)
        · replace hf := ifp_f c_16 hf
          refine z_iconst C (-1) dX6_setting_87 (by decide) ?_
          subst hf
          exact hjj_14
        · replace hf := ifp_t c_16 hf
          refine z_iload C 4 dX6_setting_82 rfl ?_
          refine z_goto C 88 dX6_setting_84 (by decide) ?_
          subst hf
          exact hjj_14
set_option maxHeartbeats 4000000 in
set_option maxRecDepth 100000 in
theorem tX6_setting (l : Launch) (w : ZW) {σ σ' : ZS} {p1 : Int32} {p2 : Int32} {r : Int32} (hf : fX6_setting σ p1 p2 = some (r, σ')) : zC l w zLm yX6_setting (ws_ yX6_setting cX6_setting 5 (some .int)) 11 168 [.ref (w.2.2 0), .int p1, .int p2] σ (.returned (some (.int r))) σ' := by
  refine zC.of (plainFor_of_name (by decide)) (Nat.le_of_ble_eq_true rfl) ?_
  intro p e s m args below meth c C hnm
  show Z p l e _ s m args below meth c _ w _ _ 5 σ 0 [(0, .ref (w.2.2 0)), (1, .int p1), (2, .int p2)] []
  unfold fX6_setting at hf
  refine z_iload_n C 1 dX6_setting_0 rfl rfl ?_
  refine z_iconst C 0 dX6_setting_1 (by decide) ?_
  refine z_iconst C 1 dX6_setting_2 (by decide) ?_
  refine z_aload_n C 0 dX6_setting_3 rfl rfl ?_
  refine z_getR C ly_m0 (Cn := RX6) (T := TX6) (N := 24) rfl in_X6 0 (by decide) q1404 (Or.inl rfl) rfl dX6_setting_4 ?_
  refine z_iconst C 2 dX6_setting_7 (by decide) ?_
  refine z_ialoadF C ly_m1 (by decide) dX6_setting_8 ?_
  refine z_ishl C dX6_setting_9 ?_
  refine z_iconst C 1 dX6_setting_10 (by decide) ?_
  refine z_isub C dX6_setting_11 ?_
  refine z_calli C (rest := []) (av := [.int p1, .int 0, .int ((1 <<< ((σ.1 1 (2 : Int32).toNatClampNeg) &&& 31)) - 1)]) (zPay.of q1483 q83) (fun H ls hH h2 => zInv_S C (As := [.int p1, .int 0, .int ((1 <<< ((σ.1 1 (2 : Int32).toNatClampNeg) &&& 31)) - 1)]) (rest := []) q1481 q1482 q83 (Or.inl rfl) q1483 mh_X6 np_X6_within dX6_setting_12) (tX6_within l w zLm σ p1 0 ((1 <<< ((σ.1 1 (2 : Int32).toNatClampNeg) &&& 31)) - 1)) (Nat.le_of_ble_eq_true rfl) (Nat.le_of_ble_eq_true rfl) ?_
  refine z_if_eq C 28 dX6_setting_15 (by decide) (fun c_1 => ?_) (fun c_1 => ?_)
  · replace hf := if_t c_1 hf
    refine z_aload_n C 0 dX6_setting_28 rfl rfl ?_
    refine z_ldc C dX6_setting_29 q1484 ?_
    obtain ⟨r_2, σ_4, e_3, hf⟩ := bd_ hf
    refine z_calli C (rest := []) (av := (.ref (w.2.2 0) :: [.int (-1000000001)])) (zPay.of q1488 q83) (fun H ls hH h2 => zInv_V C (As := [.int (-1000000001)]) (rest := []) (ci := 6) (T := TX6) (N := 24) rfl (zSee.fix ly_m0) hH q1485 q1487 qs32 (Or.inl rfl) q1488 mh_X6 np_X6_finding dX6_setting_31) (tX6_finding l w e_3) (Nat.le_of_ble_eq_true rfl) (Nat.le_of_ble_eq_true rfl) ?_
    obtain ⟨rfl, rfl⟩ := fin_ hf
    exact z_iret C rfl dX6_setting_34
  · replace hf := if_f c_1 hf
    refine z_iload_n C 2 dX6_setting_18 rfl rfl ?_
    refine z_iconst C 0 dX6_setting_19 (by decide) ?_
    refine z_bipush C 20 dX6_setting_20 (by decide) ?_
    refine z_calli C (rest := []) (av := [.int p2, .int 0, .int 20]) (zPay.of q1483 q83) (fun H ls hH h2 => zInv_S C (As := [.int p2, .int 0, .int 20]) (rest := []) q1481 q1482 q83 (Or.inl rfl) q1483 mh_X6 np_X6_within dX6_setting_22) (tX6_within l w zLm σ p2 0 20) (Nat.le_of_ble_eq_true rfl) (Nat.le_of_ble_eq_true rfl) ?_
    refine z_if_ne C 35 dX6_setting_25 (by decide) (fun c_5 => ?_) (fun c_5 => ?_)
    · replace hf := if_f c_5 hf
      refine z_aload_n C 0 dX6_setting_35 rfl rfl ?_
      refine z_getR C ly_m0 (Cn := RX6) (T := TX6) (N := 24) rfl in_X6 0 (by decide) q1404 (Or.inl rfl) rfl dX6_setting_36 ?_
      refine z_aload_n C 0 dX6_setting_39 rfl rfl ?_
      refine z_getR C ly_m0 (Cn := RX6) (T := TX6) (N := 24) rfl in_X6 2 (by decide) q1406 (Or.inl rfl) rfl dX6_setting_40 ?_
      obtain ⟨⟨⟩, σ_8, e_7, hf⟩ := bd_ hf
      refine z_callv C (rest := []) (av := [.ref (w.2.2 1), .ref (w.2.2 3)]) (zPay.of q1729 q83) (fun H ls hH h2 => zInv_S C (As := [.ref (w.2.2 1), .ref (w.2.2 3)]) (rest := []) q1727 q1728 q83 (Or.inl rfl) q1729 mh_X6 np_X6_copy dX6_setting_43) (tX6_copy l w ly_m1 ly_m3 e_7) (Nat.le_of_ble_eq_true rfl) (Nat.le_of_ble_eq_true rfl) ?_
      refine z_iconst C (-1) dX6_setting_46 (by decide) ?_
      refine z_istore_n C dX6_setting_47 rfl (by decide) rfl (lv' := [(3, .int (-1)), (0, .ref (w.2.2 0)), (1, .int p1), (2, .int p2)]) ?_
      refine z_iconst C 0 dX6_setting_48 (by decide) ?_
      refine z_istore C dX6_setting_49 (by decide) rfl (lv' := [(4, .int 0), (3, .int (-1)), (0, .ref (w.2.2 0)), (1, .int p1), (2, .int p2)]) ?_
      obtain ⟨⟨x3_17, x4_18⟩, σ_19, e_20, hf⟩ := bd_ hf
      try dsimp only at hf
      refine z_lv (lv' := [(0, .ref (w.2.2 0)), (1, .int p1), (2, .int p2), (3, .int (-1)), (4, .int 0)]) [2, 3, 4, 1, 0] rfl ?_
      refine lfX6_setting_L51 C (Nat.le_of_ble_eq_true rfl) (Nat.le_of_ble_eq_true rfl) p1 p2 ?_ _ _ _ _ e_20
      refine z_iload_n C 3 dX6_setting_95 rfl rfl ?_
      obtain ⟨j_21, σ_22, e_23, hf⟩ := bd_ hf
      have hje_23 : Z p l e (zRm 11 168 σ) s m args below meth c (zQ below w zLm σ (.returned (some (.int r))) σ' args s) w zLm (zA w zLm σ) 5 σ_22 110 [(0, .ref (w.2.2 0)), (1, .int p1), (2, .int p2), (3, .int x3_17), (4, .int x4_18)] [.int j_21] := by
        obtain ⟨rfl, rfl⟩ := fin_ hf
        exact z_iret C rfl dX6_setting_110
      replace hf := e_23
      refine z_if_ge C 109 dX6_setting_96 (by decide) (fun c_24 => ?_) (fun c_24 => ?_)
      · replace hf := if_t c_24 hf
        refine z_iload_n C 3 dX6_setting_109 rfl rfl ?_
        obtain ⟨rfl, rfl⟩ := fin_ hf
        exact hje_23
      · replace hf := if_f c_24 hf
        refine z_aload_n C 0 dX6_setting_99 rfl rfl ?_
        refine z_ldc_w C dX6_setting_100 q1742 ?_
        obtain ⟨r_25, σ_27, e_26, hf⟩ := bd_ hf
        refine z_calli C (rest := []) (av := (.ref (w.2.2 0) :: [.int (-1000000002)])) (zPay.of q1488 q83) (fun H ls hH h2 => zInv_V C (As := [.int (-1000000002)]) (rest := []) (ci := 6) (T := TX6) (N := 24) rfl (zSee.fix ly_m0) hH q1485 q1487 qs32 (Or.inl rfl) q1488 mh_X6 np_X6_finding dX6_setting_103) (tX6_finding l w e_26) (Nat.le_of_ble_eq_true rfl) (Nat.le_of_ble_eq_true rfl) ?_
        refine z_goto C 110 dX6_setting_106 (by decide) ?_
        obtain ⟨rfl, rfl⟩ := fin_ hf
        exact hje_23
    · replace hf := if_t c_5 hf
      refine z_aload_n C 0 dX6_setting_28 rfl rfl ?_
      refine z_ldc C dX6_setting_29 q1484 ?_
      obtain ⟨r_28, σ_30, e_29, hf⟩ := bd_ hf
      refine z_calli C (rest := []) (av := (.ref (w.2.2 0) :: [.int (-1000000001)])) (zPay.of q1488 q83) (fun H ls hH h2 => zInv_V C (As := [.int (-1000000001)]) (rest := []) (ci := 6) (T := TX6) (N := 24) rfl (zSee.fix ly_m0) hH q1485 q1487 qs32 (Or.inl rfl) q1488 mh_X6 np_X6_finding dX6_setting_31) (tX6_finding l w e_29) (Nat.le_of_ble_eq_true rfl) (Nat.le_of_ble_eq_true rfl) ?_
      obtain ⟨rfl, rfl⟩ := fin_ hf
      exact z_iret C rfl dX6_setting_34
def zRecM (l : Launch) (w : ZW) (rc : Nat → ZS → Option (Unit × ZS)) (fr lo : Nat) : Prop :=
  (∀ σ σ', rc 0 σ = some ((), σ') → zC l w zLm yX6_either (ws_ yX6_either cX6_either 1 none) fr lo [.ref (w.2.2 0)] σ (.returned none) σ') ∧
  (∀ σ σ', rc 1 σ = some ((), σ') → zC l w zLm yX6_both (ws_ yX6_both cX6_both 1 none) fr lo [.ref (w.2.2 0)] σ (.returned none) σ') ∧
  (∀ σ σ', rc 2 σ = some ((), σ') → zC l w zLm yX6_compared (ws_ yX6_compared cX6_compared 2 none) fr lo [.ref (w.2.2 0)] σ (.returned none) σ') ∧
  (∀ σ σ', rc 3 σ = some ((), σ') → zC l w zLm yX6_sum (ws_ yX6_sum cX6_sum 2 none) fr lo [.ref (w.2.2 0)] σ (.returned none) σ') ∧
  (∀ σ σ', rc 4 σ = some ((), σ') → zC l w zLm yX6_product (ws_ yX6_product cX6_product 2 none) fr lo [.ref (w.2.2 0)] σ (.returned none) σ') ∧
  (∀ σ σ', rc 5 σ = some ((), σ') → zC l w zLm yX6_one (ws_ yX6_one cX6_one 4 none) fr lo [.ref (w.2.2 0)] σ (.returned none) σ')
theorem zle12 {R : Room} {k fr : Nat} (h : k ≤ fr + 12) (hR : R.frames = fr + 12 := by rfl) : k ≤ R.frames := by rw [hR]; exact h
theorem zle100 {R : Room} {k lo : Nat} (h : k ≤ lo + 100) (hR : R.locals = lo + 100 := by rfl) : k ≤ R.locals := by rw [hR]; exact h
def fX6_either_L4 (rc : Nat → ZS → Option (Unit × ZS)) : Nat → ZS → Option ((Unit) × ZS)
  | 0, _ => none
  | n + 1, σ => bd (fX6_takes σ 124) (fun r_4 σ_6 => if r_4 = 0 then (some ((), σ_6)) else (bd (rc 1 σ_6) (fun _ σ_10 => bd (fX6_codes σ_10 20000) (fun _ σ_13 => fX6_either_L4 rc n σ_13))))
def fX6_either (rc : Nat → ZS → Option (Unit × ZS)) (σ : ZS) : Option (Unit × ZS) := bd (rc 1 σ) (fun _ σ_3 => bd (fX6_either_L4 rc 10000 σ_3) (fun _ σ_14 => some ((), σ_14)))
set_option maxHeartbeats 4000000 in
set_option maxRecDepth 100000 in
theorem lfX6_either_L4 {p : Program} {l : Launch} {e : Env} {R : Room} {s : State} {m : MethodId} {args : Array Value} {below : List Frame} {meth : Method} {c : Code} {Q : State → Prop} {w : ZW} {A : Nat → Prop} {ret : Option FieldType} {hh : List (Nat × Nat × Nat × Nat)} (C : zCx p s m args meth c w zLm A 1 cX6_either RX6 ret hh) {rc : Nat → ZS → Option (Unit × ZS)} {fr lo : Nat} (hfr : fr + 12 ≤ R.frames) (hlo : lo + 100 ≤ R.locals) (hrc : zRecM l w rc fr lo)  {σ' : ZS} (hk : Z p l e R s m args below meth c Q w zLm A 1 σ' 27 [(0, .ref (w.2.2 0))] []) : ∀ (n : Nat) (σ : ZS), fX6_either_L4 rc n σ = some ((), σ') → Z p l e R s m args below meth c Q w zLm A 1 σ 4 [(0, .ref (w.2.2 0))] [] := by
  intro n
  induction n with
  | zero => intro σ hf; exact none_ hf
  | succ n ih =>
    intro σ hf
    rw [fX6_either_L4] at hf
    refine z_aload_n C 0 dX6_either_4 rfl rfl ?_
    refine z_bipush C 124 dX6_either_5 (by decide) ?_
    obtain ⟨r_4, σ_6, e_5, hf⟩ := bd_ hf
    refine z_calli C (rest := []) (av := (.ref (w.2.2 0) :: [.int 124])) (zPay.of q1531 q83) (fun H ls hH h2 => zInv_V C (As := [.int 124]) (rest := []) (ci := 6) (T := TX6) (N := 24) rfl (zSee.fix ly_m0) hH q1528 q1530 qs41 (Or.inl rfl) q1531 mh_X6 np_X6_takes dX6_either_7) (tX6_takes l w e_5) (Nat.le_trans (by show 1 + 1 ≤ fr + 12; omega) hfr) (Nat.le_trans (by show 0 + (3 + 11) + 12 ≤ lo + 100; omega) hlo) ?_
    refine z_if_eq C 27 dX6_either_10 (by decide) (fun c_7 => ?_) (fun c_7 => ?_)
    · replace hf := if_t c_7 hf
      obtain ⟨-, rfl⟩ := fin_ hf
      exact hk
    · replace hf := if_f c_7 hf
      refine z_aload_n C 0 dX6_either_13 rfl rfl ?_
      obtain ⟨⟨⟩, σ_10, e_9, hf⟩ := bd_ hf
      refine z_callv C (rest := []) (av := (.ref (w.2.2 0) :: [])) (zPay.of q1503 q83) (fun H ls hH h2 => zInv_V C (As := []) (rest := []) (ci := 6) (T := TX6) (N := 24) rfl (zSee.fix ly_m0) hH q1500 q1502 qs34 (Or.inl rfl) q1503 mh_X6 np_X6_both dX6_either_14) (hrc.2.1 _ _ e_9) (Nat.le_trans (by show fr + 1 ≤ fr + 12; omega) hfr) (Nat.le_trans (by show 0 + (1 + 11) + lo ≤ lo + 100; omega) hlo) ?_
      refine z_aload_n C 0 dX6_either_17 rfl rfl ?_
      refine z_sipush C 20000 dX6_either_18 (by decide) ?_
      obtain ⟨⟨⟩, σ_13, e_12, hf⟩ := bd_ hf
      refine z_callv C (rest := []) (av := (.ref (w.2.2 0) :: [.int 20000])) (zPay.of q1527 q83) (fun H ls hH h2 => zInv_V C (As := [.int 20000]) (rest := []) (ci := 6) (T := TX6) (N := 24) rfl (zSee.fix ly_m0) hH q1524 q1526 qs40 (Or.inl rfl) q1527 mh_X6 np_X6_codes dX6_either_21) (tX6_codes l w e_12) (Nat.le_trans (by show 0 + 1 ≤ fr + 12; omega) hfr) (Nat.le_trans (by show 0 + (2 + 11) + 0 ≤ lo + 100; omega) hlo) ?_
      refine z_goto C 4 dX6_either_24 (by decide) ?_
      exact ih  _ hf
set_option maxHeartbeats 4000000 in
set_option maxRecDepth 100000 in
theorem tX6_either (l : Launch) (w : ZW) {σ σ' : ZS} {rc : Nat → ZS → Option (Unit × ZS)} {fr lo : Nat} (hrc : zRecM l w rc fr lo) (hf : fX6_either rc σ = some ((), σ')) : zC l w zLm yX6_either (ws_ yX6_either cX6_either 1 none) (fr + 12) (lo + 100) [.ref (w.2.2 0)] σ (.returned none) σ' := by
  refine zC.of (plainFor_of_name (by decide)) (Nat.le_of_ble_eq_true rfl) ?_
  intro p e s m args below meth c C hnm
  show Z p l e _ s m args below meth c _ w _ _ 1 σ 0 [(0, .ref (w.2.2 0))] []
  unfold fX6_either at hf
  refine z_aload_n C 0 dX6_either_0 rfl rfl ?_
  obtain ⟨⟨⟩, σ_3, e_2, hf⟩ := bd_ hf
  refine z_callv C (rest := []) (av := (.ref (w.2.2 0) :: [])) (zPay.of q1503 q83) (fun H ls hH h2 => zInv_V C (As := []) (rest := []) (ci := 6) (T := TX6) (N := 24) rfl (zSee.fix ly_m0) hH q1500 q1502 qs34 (Or.inl rfl) q1503 mh_X6 np_X6_both dX6_either_1) (hrc.2.1 _ _ e_2) (by show fr + 1 ≤ fr + 12; omega) (by show 0 + (1 + 11) + lo ≤ lo + 100; omega) ?_
  obtain ⟨⟨⟩, σ_14, e_15, hf⟩ := bd_ hf
  refine lfX6_either_L4 C (by show fr + 12 ≤ fr + 12; omega) (by show lo + 100 ≤ lo + 100; omega) hrc ?_ _  _ e_15
  obtain ⟨-, rfl⟩ := fin_ hf
  exact z_vret C dX6_either_27
def fX6_both_L4 (rc : Nat → ZS → Option (Unit × ZS)) : Nat → ZS → Option ((Unit) × ZS)
  | 0, _ => none
  | n + 1, σ => bd (fX6_takes σ 38) (fun r_4 σ_6 => if r_4 = 0 then (some ((), σ_6)) else (bd (rc 2 σ_6) (fun _ σ_10 => bd (fX6_codes σ_10 20001) (fun _ σ_13 => fX6_both_L4 rc n σ_13))))
def fX6_both (rc : Nat → ZS → Option (Unit × ZS)) (σ : ZS) : Option (Unit × ZS) := bd (rc 2 σ) (fun _ σ_3 => bd (fX6_both_L4 rc 10000 σ_3) (fun _ σ_14 => some ((), σ_14)))
set_option maxHeartbeats 4000000 in
set_option maxRecDepth 100000 in
theorem lfX6_both_L4 {p : Program} {l : Launch} {e : Env} {R : Room} {s : State} {m : MethodId} {args : Array Value} {below : List Frame} {meth : Method} {c : Code} {Q : State → Prop} {w : ZW} {A : Nat → Prop} {ret : Option FieldType} {hh : List (Nat × Nat × Nat × Nat)} (C : zCx p s m args meth c w zLm A 1 cX6_both RX6 ret hh) {rc : Nat → ZS → Option (Unit × ZS)} {fr lo : Nat} (hfr : fr + 12 ≤ R.frames) (hlo : lo + 100 ≤ R.locals) (hrc : zRecM l w rc fr lo)  {σ' : ZS} (hk : Z p l e R s m args below meth c Q w zLm A 1 σ' 27 [(0, .ref (w.2.2 0))] []) : ∀ (n : Nat) (σ : ZS), fX6_both_L4 rc n σ = some ((), σ') → Z p l e R s m args below meth c Q w zLm A 1 σ 4 [(0, .ref (w.2.2 0))] [] := by
  intro n
  induction n with
  | zero => intro σ hf; exact none_ hf
  | succ n ih =>
    intro σ hf
    rw [fX6_both_L4] at hf
    refine z_aload_n C 0 dX6_both_4 rfl rfl ?_
    refine z_bipush C 38 dX6_both_5 (by decide) ?_
    obtain ⟨r_4, σ_6, e_5, hf⟩ := bd_ hf
    refine z_calli C (rest := []) (av := (.ref (w.2.2 0) :: [.int 38])) (zPay.of q1531 q83) (fun H ls hH h2 => zInv_V C (As := [.int 38]) (rest := []) (ci := 6) (T := TX6) (N := 24) rfl (zSee.fix ly_m0) hH q1528 q1530 qs41 (Or.inl rfl) q1531 mh_X6 np_X6_takes dX6_both_7) (tX6_takes l w e_5) (Nat.le_trans (by show 1 + 1 ≤ fr + 12; omega) hfr) (Nat.le_trans (by show 0 + (3 + 11) + 12 ≤ lo + 100; omega) hlo) ?_
    refine z_if_eq C 27 dX6_both_10 (by decide) (fun c_7 => ?_) (fun c_7 => ?_)
    · replace hf := if_t c_7 hf
      obtain ⟨-, rfl⟩ := fin_ hf
      exact hk
    · replace hf := if_f c_7 hf
      refine z_aload_n C 0 dX6_both_13 rfl rfl ?_
      obtain ⟨⟨⟩, σ_10, e_9, hf⟩ := bd_ hf
      refine z_callv C (rest := []) (av := (.ref (w.2.2 0) :: [])) (zPay.of q1507 q83) (fun H ls hH h2 => zInv_V C (As := []) (rest := []) (ci := 6) (T := TX6) (N := 24) rfl (zSee.fix ly_m0) hH q1504 q1506 qs35 (Or.inl rfl) q1507 mh_X6 np_X6_compared dX6_both_14) (hrc.2.2.1 _ _ e_9) (Nat.le_trans (by show fr + 1 ≤ fr + 12; omega) hfr) (Nat.le_trans (by show 0 + (2 + 11) + lo ≤ lo + 100; omega) hlo) ?_
      refine z_aload_n C 0 dX6_both_17 rfl rfl ?_
      refine z_sipush C 20001 dX6_both_18 (by decide) ?_
      obtain ⟨⟨⟩, σ_13, e_12, hf⟩ := bd_ hf
      refine z_callv C (rest := []) (av := (.ref (w.2.2 0) :: [.int 20001])) (zPay.of q1527 q83) (fun H ls hH h2 => zInv_V C (As := [.int 20001]) (rest := []) (ci := 6) (T := TX6) (N := 24) rfl (zSee.fix ly_m0) hH q1524 q1526 qs40 (Or.inl rfl) q1527 mh_X6 np_X6_codes dX6_both_21) (tX6_codes l w e_12) (Nat.le_trans (by show 0 + 1 ≤ fr + 12; omega) hfr) (Nat.le_trans (by show 0 + (2 + 11) + 0 ≤ lo + 100; omega) hlo) ?_
      refine z_goto C 4 dX6_both_24 (by decide) ?_
      exact ih  _ hf
set_option maxHeartbeats 4000000 in
set_option maxRecDepth 100000 in
theorem tX6_both (l : Launch) (w : ZW) {σ σ' : ZS} {rc : Nat → ZS → Option (Unit × ZS)} {fr lo : Nat} (hrc : zRecM l w rc fr lo) (hf : fX6_both rc σ = some ((), σ')) : zC l w zLm yX6_both (ws_ yX6_both cX6_both 1 none) (fr + 12) (lo + 100) [.ref (w.2.2 0)] σ (.returned none) σ' := by
  refine zC.of (plainFor_of_name (by decide)) (Nat.le_of_ble_eq_true rfl) ?_
  intro p e s m args below meth c C hnm
  show Z p l e _ s m args below meth c _ w _ _ 1 σ 0 [(0, .ref (w.2.2 0))] []
  unfold fX6_both at hf
  refine z_aload_n C 0 dX6_both_0 rfl rfl ?_
  obtain ⟨⟨⟩, σ_3, e_2, hf⟩ := bd_ hf
  refine z_callv C (rest := []) (av := (.ref (w.2.2 0) :: [])) (zPay.of q1507 q83) (fun H ls hH h2 => zInv_V C (As := []) (rest := []) (ci := 6) (T := TX6) (N := 24) rfl (zSee.fix ly_m0) hH q1504 q1506 qs35 (Or.inl rfl) q1507 mh_X6 np_X6_compared dX6_both_1) (hrc.2.2.1 _ _ e_2) (by show fr + 1 ≤ fr + 12; omega) (by show 0 + (2 + 11) + lo ≤ lo + 100; omega) ?_
  obtain ⟨⟨⟩, σ_14, e_15, hf⟩ := bd_ hf
  refine lfX6_both_L4 C (by show fr + 12 ≤ fr + 12; omega) (by show lo + 100 ≤ lo + 100; omega) hrc ?_ _  _ e_15
  obtain ⟨-, rfl⟩ := fin_ hf
  exact z_vret C dX6_both_27
def fX6_compared (rc : Nat → ZS → Option (Unit × ZS)) (σ : ZS) : Option (Unit × ZS) := bd (rc 3 σ) (fun _ σ_3 => bd (fX6_takes σ_3 60) (fun r_4 σ_6 => bd (if r_4 = 0 then (bd (fX6_takes σ_6 61) (fun r_20 σ_22 => if r_20 = 0 then (bd (fX6_takes σ_22 62) (fun r_24 σ_26 => if r_24 = 0 then (some (0, σ_26)) else (some (20004, σ_26)))) else (some (20003, σ_22)))) else (some (20002, σ_6))) (fun (j_7 : Int32) σ_8 => bd (if j_7 ≤ 0 then (some ((), σ_8)) else (bd (rc 3 σ_8) (fun _ σ_15 => bd (fX6_codes σ_15 j_7) (fun _ σ_18 => some ((), σ_18))))) (fun (_ : Unit) σ_10 => some ((), σ_10)))))
set_option maxHeartbeats 4000000 in
set_option maxRecDepth 100000 in
theorem tX6_compared (l : Launch) (w : ZW) {σ σ' : ZS} {rc : Nat → ZS → Option (Unit × ZS)} {fr lo : Nat} (hrc : zRecM l w rc fr lo) (hf : fX6_compared rc σ = some ((), σ')) : zC l w zLm yX6_compared (ws_ yX6_compared cX6_compared 2 none) (fr + 12) (lo + 100) [.ref (w.2.2 0)] σ (.returned none) σ' := by
  refine zC.of (plainFor_of_name (by decide)) (Nat.le_of_ble_eq_true rfl) ?_
  intro p e s m args below meth c C hnm
  show Z p l e _ s m args below meth c _ w _ _ 2 σ 0 [(0, .ref (w.2.2 0))] []
  unfold fX6_compared at hf
  refine z_aload_n C 0 dX6_compared_0 rfl rfl ?_
  obtain ⟨⟨⟩, σ_3, e_2, hf⟩ := bd_ hf
  refine z_callv C (rest := []) (av := (.ref (w.2.2 0) :: [])) (zPay.of q1511 q83) (fun H ls hH h2 => zInv_V C (As := []) (rest := []) (ci := 6) (T := TX6) (N := 24) rfl (zSee.fix ly_m0) hH q1508 q1510 qs36 (Or.inl rfl) q1511 mh_X6 np_X6_sum dX6_compared_1) (hrc.2.2.2.1 _ _ e_2) (by show fr + 1 ≤ fr + 12; omega) (by show 0 + (2 + 11) + lo ≤ lo + 100; omega) ?_
  refine z_aload_n C 0 dX6_compared_4 rfl rfl ?_
  refine z_bipush C 60 dX6_compared_5 (by decide) ?_
  obtain ⟨r_4, σ_6, e_5, hf⟩ := bd_ hf
  refine z_calli C (rest := []) (av := (.ref (w.2.2 0) :: [.int 60])) (zPay.of q1531 q83) (fun H ls hH h2 => zInv_V C (As := [.int 60]) (rest := []) (ci := 6) (T := TX6) (N := 24) rfl (zSee.fix ly_m0) hH q1528 q1530 qs41 (Or.inl rfl) q1531 mh_X6 np_X6_takes dX6_compared_7) (tX6_takes l w e_5) (by show 1 + 1 ≤ fr + 12; omega) (by show 0 + (3 + 11) + 12 ≤ lo + 100; omega) ?_
  obtain ⟨j_7, σ_8, e_9, hf⟩ := bd_ hf
  have hje_9 : Z p l e (zRm (fr + 12) (lo + 100) σ) s m args below meth c (zQ below w zLm σ (.returned none) σ' args s) w zLm (zA w zLm σ) 2 σ_8 50 [(0, .ref (w.2.2 0))] [.int j_7] := by
    refine z_istore_n C dX6_compared_50 rfl (by decide) rfl (lv' := [(1, .int j_7), (0, .ref (w.2.2 0))]) ?_
    refine z_iload_n C 0 dX6_compared_51 rfl rfl ?_
    obtain ⟨⟨⟩, σ_10, e_11, hf⟩ := bd_ hf
    have hje_11 : Z p l e (zRm (fr + 12) (lo + 100) σ) s m args below meth c (zQ below w zLm σ (.returned none) σ' args s) w zLm (zA w zLm σ) 2 σ_10 64 [(0, .ref (w.2.2 0)), (1, .int j_7)] [] := by
      obtain ⟨-, rfl⟩ := fin_ hf
      exact z_vret C dX6_compared_64
    replace hf := e_11
    refine z_if_le C 64 dX6_compared_52 (by decide) (fun c_12 => ?_) (fun c_12 => ?_)
    · replace hf := if_t c_12 hf
      obtain ⟨-, rfl⟩ := fin_ hf
      exact z_lv [1, 0] rfl hje_11
    · replace hf := if_f c_12 hf
      refine z_aload_n C 1 dX6_compared_55 rfl rfl ?_
      obtain ⟨⟨⟩, σ_15, e_14, hf⟩ := bd_ hf
      refine z_callv C (rest := []) (av := (.ref (w.2.2 0) :: [])) (zPay.of q1511 q83) (fun H ls hH h2 => zInv_V C (As := []) (rest := []) (ci := 6) (T := TX6) (N := 24) rfl (zSee.fix ly_m0) hH q1508 q1510 qs36 (Or.inl rfl) q1511 mh_X6 np_X6_sum dX6_compared_56) (hrc.2.2.2.1 _ _ e_14) (by show fr + 1 ≤ fr + 12; omega) (by show 0 + (2 + 11) + lo ≤ lo + 100; omega) ?_
      refine z_aload_n C 1 dX6_compared_59 rfl rfl ?_
      refine z_iload_n C 0 dX6_compared_60 rfl rfl ?_
      obtain ⟨⟨⟩, σ_18, e_17, hf⟩ := bd_ hf
      refine z_callv C (rest := []) (av := (.ref (w.2.2 0) :: [.int j_7])) (zPay.of q1527 q83) (fun H ls hH h2 => zInv_V C (As := [.int j_7]) (rest := []) (ci := 6) (T := TX6) (N := 24) rfl (zSee.fix ly_m0) hH q1524 q1526 qs40 (Or.inl rfl) q1527 mh_X6 np_X6_codes dX6_compared_61) (tX6_codes l w e_17) (by show 0 + 1 ≤ fr + 12; omega) (by show 0 + (2 + 11) + 0 ≤ lo + 100; omega) ?_
      obtain ⟨-, rfl⟩ := fin_ hf
      exact z_lv [1, 0] rfl hje_11
  replace hf := e_9
  refine z_if_eq C 19 dX6_compared_10 (by decide) (fun c_19 => ?_) (fun c_19 => ?_)
  · replace hf := if_t c_19 hf
    refine z_aload_n C 0 dX6_compared_19 rfl rfl ?_
    refine z_bipush C 61 dX6_compared_20 (by decide) ?_
    obtain ⟨r_20, σ_22, e_21, hf⟩ := bd_ hf
    refine z_calli C (rest := []) (av := (.ref (w.2.2 0) :: [.int 61])) (zPay.of q1531 q83) (fun H ls hH h2 => zInv_V C (As := [.int 61]) (rest := []) (ci := 6) (T := TX6) (N := 24) rfl (zSee.fix ly_m0) hH q1528 q1530 qs41 (Or.inl rfl) q1531 mh_X6 np_X6_takes dX6_compared_22) (tX6_takes l w e_21) (by show 1 + 1 ≤ fr + 12; omega) (by show 0 + (3 + 11) + 12 ≤ lo + 100; omega) ?_
    refine z_if_eq C 34 dX6_compared_25 (by decide) (fun c_23 => ?_) (fun c_23 => ?_)
    · replace hf := if_t c_23 hf
      refine z_aload_n C 0 dX6_compared_34 rfl rfl ?_
      refine z_bipush C 62 dX6_compared_35 (by decide) ?_
      obtain ⟨r_24, σ_26, e_25, hf⟩ := bd_ hf
      refine z_calli C (rest := []) (av := (.ref (w.2.2 0) :: [.int 62])) (zPay.of q1531 q83) (fun H ls hH h2 => zInv_V C (As := [.int 62]) (rest := []) (ci := 6) (T := TX6) (N := 24) rfl (zSee.fix ly_m0) hH q1528 q1530 qs41 (Or.inl rfl) q1531 mh_X6 np_X6_takes dX6_compared_37) (tX6_takes l w e_25) (by show 1 + 1 ≤ fr + 12; omega) (by show 0 + (3 + 11) + 12 ≤ lo + 100; omega) ?_
      refine z_if_eq C 49 dX6_compared_40 (by decide) (fun c_27 => ?_) (fun c_27 => ?_)
      · replace hf := if_t c_27 hf
        refine z_iconst C 0 dX6_compared_49 (by decide) ?_
        obtain ⟨rfl, rfl⟩ := fin_ hf
        exact hje_9
      · replace hf := if_f c_27 hf
        refine z_sipush C 20004 dX6_compared_43 (by decide) ?_
        refine z_goto C 50 dX6_compared_46 (by decide) ?_
        obtain ⟨rfl, rfl⟩ := fin_ hf
        exact hje_9
    · replace hf := if_f c_23 hf
      refine z_sipush C 20003 dX6_compared_28 (by decide) ?_
      refine z_goto C 50 dX6_compared_31 (by decide) ?_
      obtain ⟨rfl, rfl⟩ := fin_ hf
      exact hje_9
  · replace hf := if_f c_19 hf
    refine z_sipush C 20002 dX6_compared_13 (by decide) ?_
    refine z_goto C 50 dX6_compared_16 (by decide) ?_
    obtain ⟨rfl, rfl⟩ := fin_ hf
    exact hje_9
def fX6_sum_L36 (rc : Nat → ZS → Option (Unit × ZS)) : Nat → Int32 → ZS → Option ((Int32) × ZS)
  | 0, _, _ => none
  | n + 1, y1, σ => if y1 ≤ 0 then (some (y1, σ)) else (bd (rc 4 σ) (fun _ σ_13 => bd (fX6_codes σ_13 y1) (fun _ σ_16 => bd (fX6_takes σ_16 43) (fun r_17 σ_19 => bd (if r_17 = 0 then (bd (fX6_takes σ_19 45) (fun r_24 σ_26 => if r_24 = 0 then (some (0, σ_26)) else (some (20006, σ_26)))) else (some (20005, σ_19))) (fun (j_20 : Int32) σ_21 => fX6_sum_L36 rc n j_20 σ_21)))))
def fX6_sum (rc : Nat → ZS → Option (Unit × ZS)) (σ : ZS) : Option (Unit × ZS) := bd (rc 4 σ) (fun _ σ_3 => bd (fX6_takes σ_3 43) (fun r_4 σ_6 => bd (if r_4 = 0 then (bd (fX6_takes σ_6 45) (fun r_32 σ_34 => if r_32 = 0 then (some (0, σ_34)) else (some (20006, σ_34)))) else (some (20005, σ_6))) (fun (j_7 : Int32) σ_8 => bd (fX6_sum_L36 rc 10000 j_7 σ_8) (fun x1_28 σ_29 => some ((), σ_29)))))
set_option maxHeartbeats 4000000 in
set_option maxRecDepth 100000 in
theorem lfX6_sum_L36 {p : Program} {l : Launch} {e : Env} {R : Room} {s : State} {m : MethodId} {args : Array Value} {below : List Frame} {meth : Method} {c : Code} {Q : State → Prop} {w : ZW} {A : Nat → Prop} {ret : Option FieldType} {hh : List (Nat × Nat × Nat × Nat)} (C : zCx p s m args meth c w zLm A 2 cX6_sum RX6 ret hh) {rc : Nat → ZS → Option (Unit × ZS)} {fr lo : Nat} (hfr : fr + 12 ≤ R.frames) (hlo : lo + 100 ≤ R.locals) (hrc : zRecM l w rc fr lo)  {z1 : Int32} {σ' : ZS} (hk : Z p l e R s m args below meth c Q w zLm A 2 σ' 84 [(0, .ref (w.2.2 0)), (1, .int z1)] []) : ∀ (n : Nat) (y1 : Int32) (σ : ZS), fX6_sum_L36 rc n y1 σ = some (z1, σ') → Z p l e R s m args below meth c Q w zLm A 2 σ 36 [(0, .ref (w.2.2 0)), (1, .int y1)] [] := by
  intro n
  induction n with
  | zero => intro y1 σ hf; exact none_ hf
  | succ n ih =>
    intro y1 σ hf
    rw [fX6_sum_L36] at hf
    refine z_iload_n C 1 dX6_sum_36 rfl rfl ?_
    refine z_if_le C 84 dX6_sum_37 (by decide) (fun c_10 => ?_) (fun c_10 => ?_)
    · replace hf := if_t c_10 hf
      obtain ⟨rfl, rfl⟩ := fin_ hf
      exact hk
    · replace hf := if_f c_10 hf
      refine z_aload_n C 0 dX6_sum_40 rfl rfl ?_
      obtain ⟨⟨⟩, σ_13, e_12, hf⟩ := bd_ hf
      refine z_callv C (rest := []) (av := (.ref (w.2.2 0) :: [])) (zPay.of q1515 q83) (fun H ls hH h2 => zInv_V C (As := []) (rest := []) (ci := 6) (T := TX6) (N := 24) rfl (zSee.fix ly_m0) hH q1512 q1514 qs37 (Or.inl rfl) q1515 mh_X6 np_X6_product dX6_sum_41) (hrc.2.2.2.2.1 _ _ e_12) (Nat.le_trans (by show fr + 1 ≤ fr + 12; omega) hfr) (Nat.le_trans (by show 0 + (2 + 11) + lo ≤ lo + 100; omega) hlo) ?_
      refine z_aload_n C 0 dX6_sum_44 rfl rfl ?_
      refine z_iload_n C 1 dX6_sum_45 rfl rfl ?_
      obtain ⟨⟨⟩, σ_16, e_15, hf⟩ := bd_ hf
      refine z_callv C (rest := []) (av := (.ref (w.2.2 0) :: [.int y1])) (zPay.of q1527 q83) (fun H ls hH h2 => zInv_V C (As := [.int y1]) (rest := []) (ci := 6) (T := TX6) (N := 24) rfl (zSee.fix ly_m0) hH q1524 q1526 qs40 (Or.inl rfl) q1527 mh_X6 np_X6_codes dX6_sum_46) (tX6_codes l w e_15) (Nat.le_trans (by show 0 + 1 ≤ fr + 12; omega) hfr) (Nat.le_trans (by show 0 + (2 + 11) + 0 ≤ lo + 100; omega) hlo) ?_
      refine z_aload_n C 0 dX6_sum_49 rfl rfl ?_
      refine z_bipush C 43 dX6_sum_50 (by decide) ?_
      obtain ⟨r_17, σ_19, e_18, hf⟩ := bd_ hf
      refine z_calli C (rest := []) (av := (.ref (w.2.2 0) :: [.int 43])) (zPay.of q1531 q83) (fun H ls hH h2 => zInv_V C (As := [.int 43]) (rest := []) (ci := 6) (T := TX6) (N := 24) rfl (zSee.fix ly_m0) hH q1528 q1530 qs41 (Or.inl rfl) q1531 mh_X6 np_X6_takes dX6_sum_52) (tX6_takes l w e_18) (Nat.le_trans (by show 1 + 1 ≤ fr + 12; omega) hfr) (Nat.le_trans (by show 0 + (3 + 11) + 12 ≤ lo + 100; omega) hlo) ?_
      obtain ⟨j_20, σ_21, e_22, hf⟩ := bd_ hf
      have hje_22 : Z p l e R s m args below meth c Q w zLm A 2 σ_21 80 [(0, .ref (w.2.2 0)), (1, .int y1)] [.int j_20] := by
        refine z_istore_n C dX6_sum_80 rfl (by decide) rfl (lv' := [(1, .int j_20), (0, .ref (w.2.2 0))]) ?_
        refine z_goto C 36 dX6_sum_81 (by decide) ?_
        exact z_lv [1, 0] rfl (ih _ _ hf)
      replace hf := e_22
      refine z_if_eq C 64 dX6_sum_55 (by decide) (fun c_23 => ?_) (fun c_23 => ?_)
      · replace hf := if_t c_23 hf
        refine z_aload_n C 0 dX6_sum_64 rfl rfl ?_
        refine z_bipush C 45 dX6_sum_65 (by decide) ?_
        obtain ⟨r_24, σ_26, e_25, hf⟩ := bd_ hf
        refine z_calli C (rest := []) (av := (.ref (w.2.2 0) :: [.int 45])) (zPay.of q1531 q83) (fun H ls hH h2 => zInv_V C (As := [.int 45]) (rest := []) (ci := 6) (T := TX6) (N := 24) rfl (zSee.fix ly_m0) hH q1528 q1530 qs41 (Or.inl rfl) q1531 mh_X6 np_X6_takes dX6_sum_67) (tX6_takes l w e_25) (Nat.le_trans (by show 1 + 1 ≤ fr + 12; omega) hfr) (Nat.le_trans (by show 0 + (3 + 11) + 12 ≤ lo + 100; omega) hlo) ?_
        refine z_if_eq C 79 dX6_sum_70 (by decide) (fun c_27 => ?_) (fun c_27 => ?_)
        · replace hf := if_t c_27 hf
          refine z_iconst C 0 dX6_sum_79 (by decide) ?_
          obtain ⟨rfl, rfl⟩ := fin_ hf
          exact hje_22
        · replace hf := if_f c_27 hf
          refine z_sipush C 20006 dX6_sum_73 (by decide) ?_
          refine z_goto C 80 dX6_sum_76 (by decide) ?_
          obtain ⟨rfl, rfl⟩ := fin_ hf
          exact hje_22
      · replace hf := if_f c_23 hf
        refine z_sipush C 20005 dX6_sum_58 (by decide) ?_
        refine z_goto C 80 dX6_sum_61 (by decide) ?_
        obtain ⟨rfl, rfl⟩ := fin_ hf
        exact hje_22
set_option maxHeartbeats 4000000 in
set_option maxRecDepth 100000 in
theorem tX6_sum (l : Launch) (w : ZW) {σ σ' : ZS} {rc : Nat → ZS → Option (Unit × ZS)} {fr lo : Nat} (hrc : zRecM l w rc fr lo) (hf : fX6_sum rc σ = some ((), σ')) : zC l w zLm yX6_sum (ws_ yX6_sum cX6_sum 2 none) (fr + 12) (lo + 100) [.ref (w.2.2 0)] σ (.returned none) σ' := by
  refine zC.of (plainFor_of_name (by decide)) (Nat.le_of_ble_eq_true rfl) ?_
  intro p e s m args below meth c C hnm
  show Z p l e _ s m args below meth c _ w _ _ 2 σ 0 [(0, .ref (w.2.2 0))] []
  unfold fX6_sum at hf
  refine z_aload_n C 0 dX6_sum_0 rfl rfl ?_
  obtain ⟨⟨⟩, σ_3, e_2, hf⟩ := bd_ hf
  refine z_callv C (rest := []) (av := (.ref (w.2.2 0) :: [])) (zPay.of q1515 q83) (fun H ls hH h2 => zInv_V C (As := []) (rest := []) (ci := 6) (T := TX6) (N := 24) rfl (zSee.fix ly_m0) hH q1512 q1514 qs37 (Or.inl rfl) q1515 mh_X6 np_X6_product dX6_sum_1) (hrc.2.2.2.2.1 _ _ e_2) (by show fr + 1 ≤ fr + 12; omega) (by show 0 + (2 + 11) + lo ≤ lo + 100; omega) ?_
  refine z_aload_n C 0 dX6_sum_4 rfl rfl ?_
  refine z_bipush C 43 dX6_sum_5 (by decide) ?_
  obtain ⟨r_4, σ_6, e_5, hf⟩ := bd_ hf
  refine z_calli C (rest := []) (av := (.ref (w.2.2 0) :: [.int 43])) (zPay.of q1531 q83) (fun H ls hH h2 => zInv_V C (As := [.int 43]) (rest := []) (ci := 6) (T := TX6) (N := 24) rfl (zSee.fix ly_m0) hH q1528 q1530 qs41 (Or.inl rfl) q1531 mh_X6 np_X6_takes dX6_sum_7) (tX6_takes l w e_5) (by show 1 + 1 ≤ fr + 12; omega) (by show 0 + (3 + 11) + 12 ≤ lo + 100; omega) ?_
  obtain ⟨j_7, σ_8, e_9, hf⟩ := bd_ hf
  have hje_9 : Z p l e (zRm (fr + 12) (lo + 100) σ) s m args below meth c (zQ below w zLm σ (.returned none) σ' args s) w zLm (zA w zLm σ) 2 σ_8 35 [(0, .ref (w.2.2 0))] [.int j_7] := by
    refine z_istore_n C dX6_sum_35 rfl (by decide) rfl (lv' := [(1, .int j_7), (0, .ref (w.2.2 0))]) ?_
    obtain ⟨x1_28, σ_29, e_30, hf⟩ := bd_ hf
    refine z_lv (lv' := [(0, .ref (w.2.2 0)), (1, .int j_7)]) [1, 0] rfl ?_
    refine lfX6_sum_L36 C (by show fr + 12 ≤ fr + 12; omega) (by show lo + 100 ≤ lo + 100; omega) hrc ?_ _ _ _ e_30
    obtain ⟨-, rfl⟩ := fin_ hf
    exact z_vret C dX6_sum_84
  replace hf := e_9
  refine z_if_eq C 19 dX6_sum_10 (by decide) (fun c_31 => ?_) (fun c_31 => ?_)
  · replace hf := if_t c_31 hf
    refine z_aload_n C 0 dX6_sum_19 rfl rfl ?_
    refine z_bipush C 45 dX6_sum_20 (by decide) ?_
    obtain ⟨r_32, σ_34, e_33, hf⟩ := bd_ hf
    refine z_calli C (rest := []) (av := (.ref (w.2.2 0) :: [.int 45])) (zPay.of q1531 q83) (fun H ls hH h2 => zInv_V C (As := [.int 45]) (rest := []) (ci := 6) (T := TX6) (N := 24) rfl (zSee.fix ly_m0) hH q1528 q1530 qs41 (Or.inl rfl) q1531 mh_X6 np_X6_takes dX6_sum_22) (tX6_takes l w e_33) (by show 1 + 1 ≤ fr + 12; omega) (by show 0 + (3 + 11) + 12 ≤ lo + 100; omega) ?_
    refine z_if_eq C 34 dX6_sum_25 (by decide) (fun c_35 => ?_) (fun c_35 => ?_)
    · replace hf := if_t c_35 hf
      refine z_iconst C 0 dX6_sum_34 (by decide) ?_
      obtain ⟨rfl, rfl⟩ := fin_ hf
      exact hje_9
    · replace hf := if_f c_35 hf
      refine z_sipush C 20006 dX6_sum_28 (by decide) ?_
      refine z_goto C 35 dX6_sum_31 (by decide) ?_
      obtain ⟨rfl, rfl⟩ := fin_ hf
      exact hje_9
  · replace hf := if_f c_31 hf
    refine z_sipush C 20005 dX6_sum_13 (by decide) ?_
    refine z_goto C 35 dX6_sum_16 (by decide) ?_
    obtain ⟨rfl, rfl⟩ := fin_ hf
    exact hje_9
def fX6_product_L51 (rc : Nat → ZS → Option (Unit × ZS)) : Nat → Int32 → ZS → Option ((Int32) × ZS)
  | 0, _, _ => none
  | n + 1, y1, σ => if y1 ≤ 0 then (some (y1, σ)) else (bd (rc 5 σ) (fun _ σ_13 => bd (fX6_codes σ_13 y1) (fun _ σ_16 => bd (fX6_takes σ_16 42) (fun r_17 σ_19 => bd (if r_17 = 0 then (bd (fX6_takes σ_19 47) (fun r_24 σ_26 => if r_24 = 0 then (bd (fX6_takes σ_26 37) (fun r_28 σ_30 => if r_28 = 0 then (some (0, σ_30)) else (some (20009, σ_30)))) else (some (20008, σ_26)))) else (some (20007, σ_19))) (fun (j_20 : Int32) σ_21 => fX6_product_L51 rc n j_20 σ_21)))))
def fX6_product (rc : Nat → ZS → Option (Unit × ZS)) (σ : ZS) : Option (Unit × ZS) := bd (rc 5 σ) (fun _ σ_3 => bd (fX6_takes σ_3 42) (fun r_4 σ_6 => bd (if r_4 = 0 then (bd (fX6_takes σ_6 47) (fun r_36 σ_38 => if r_36 = 0 then (bd (fX6_takes σ_38 37) (fun r_40 σ_42 => if r_40 = 0 then (some (0, σ_42)) else (some (20009, σ_42)))) else (some (20008, σ_38)))) else (some (20007, σ_6))) (fun (j_7 : Int32) σ_8 => bd (fX6_product_L51 rc 10000 j_7 σ_8) (fun x1_32 σ_33 => some ((), σ_33)))))
set_option maxHeartbeats 4000000 in
set_option maxRecDepth 100000 in
theorem lfX6_product_L51 {p : Program} {l : Launch} {e : Env} {R : Room} {s : State} {m : MethodId} {args : Array Value} {below : List Frame} {meth : Method} {c : Code} {Q : State → Prop} {w : ZW} {A : Nat → Prop} {ret : Option FieldType} {hh : List (Nat × Nat × Nat × Nat)} (C : zCx p s m args meth c w zLm A 2 cX6_product RX6 ret hh) {rc : Nat → ZS → Option (Unit × ZS)} {fr lo : Nat} (hfr : fr + 12 ≤ R.frames) (hlo : lo + 100 ≤ R.locals) (hrc : zRecM l w rc fr lo)  {z1 : Int32} {σ' : ZS} (hk : Z p l e R s m args below meth c Q w zLm A 2 σ' 114 [(0, .ref (w.2.2 0)), (1, .int z1)] []) : ∀ (n : Nat) (y1 : Int32) (σ : ZS), fX6_product_L51 rc n y1 σ = some (z1, σ') → Z p l e R s m args below meth c Q w zLm A 2 σ 51 [(0, .ref (w.2.2 0)), (1, .int y1)] [] := by
  intro n
  induction n with
  | zero => intro y1 σ hf; exact none_ hf
  | succ n ih =>
    intro y1 σ hf
    rw [fX6_product_L51] at hf
    refine z_iload_n C 1 dX6_product_51 rfl rfl ?_
    refine z_if_le C 114 dX6_product_52 (by decide) (fun c_10 => ?_) (fun c_10 => ?_)
    · replace hf := if_t c_10 hf
      obtain ⟨rfl, rfl⟩ := fin_ hf
      exact hk
    · replace hf := if_f c_10 hf
      refine z_aload_n C 0 dX6_product_55 rfl rfl ?_
      obtain ⟨⟨⟩, σ_13, e_12, hf⟩ := bd_ hf
      refine z_callv C (rest := []) (av := (.ref (w.2.2 0) :: [])) (zPay.of q1519 q83) (fun H ls hH h2 => zInv_V C (As := []) (rest := []) (ci := 6) (T := TX6) (N := 24) rfl (zSee.fix ly_m0) hH q1516 q1518 qs38 (Or.inl rfl) q1519 mh_X6 np_X6_one dX6_product_56) (hrc.2.2.2.2.2 _ _ e_12) (Nat.le_trans (by show fr + 1 ≤ fr + 12; omega) hfr) (Nat.le_trans (by show 0 + (4 + 11) + lo ≤ lo + 100; omega) hlo) ?_
      refine z_aload_n C 0 dX6_product_59 rfl rfl ?_
      refine z_iload_n C 1 dX6_product_60 rfl rfl ?_
      obtain ⟨⟨⟩, σ_16, e_15, hf⟩ := bd_ hf
      refine z_callv C (rest := []) (av := (.ref (w.2.2 0) :: [.int y1])) (zPay.of q1527 q83) (fun H ls hH h2 => zInv_V C (As := [.int y1]) (rest := []) (ci := 6) (T := TX6) (N := 24) rfl (zSee.fix ly_m0) hH q1524 q1526 qs40 (Or.inl rfl) q1527 mh_X6 np_X6_codes dX6_product_61) (tX6_codes l w e_15) (Nat.le_trans (by show 0 + 1 ≤ fr + 12; omega) hfr) (Nat.le_trans (by show 0 + (2 + 11) + 0 ≤ lo + 100; omega) hlo) ?_
      refine z_aload_n C 0 dX6_product_64 rfl rfl ?_
      refine z_bipush C 42 dX6_product_65 (by decide) ?_
      obtain ⟨r_17, σ_19, e_18, hf⟩ := bd_ hf
      refine z_calli C (rest := []) (av := (.ref (w.2.2 0) :: [.int 42])) (zPay.of q1531 q83) (fun H ls hH h2 => zInv_V C (As := [.int 42]) (rest := []) (ci := 6) (T := TX6) (N := 24) rfl (zSee.fix ly_m0) hH q1528 q1530 qs41 (Or.inl rfl) q1531 mh_X6 np_X6_takes dX6_product_67) (tX6_takes l w e_18) (Nat.le_trans (by show 1 + 1 ≤ fr + 12; omega) hfr) (Nat.le_trans (by show 0 + (3 + 11) + 12 ≤ lo + 100; omega) hlo) ?_
      obtain ⟨j_20, σ_21, e_22, hf⟩ := bd_ hf
      have hje_22 : Z p l e R s m args below meth c Q w zLm A 2 σ_21 110 [(0, .ref (w.2.2 0)), (1, .int y1)] [.int j_20] := by
        refine z_istore_n C dX6_product_110 rfl (by decide) rfl (lv' := [(1, .int j_20), (0, .ref (w.2.2 0))]) ?_
        refine z_goto C 51 dX6_product_111 (by decide) ?_
        exact z_lv [1, 0] rfl (ih _ _ hf)
      replace hf := e_22
      refine z_if_eq C 79 dX6_product_70 (by decide) (fun c_23 => ?_) (fun c_23 => ?_)
      · replace hf := if_t c_23 hf
        refine z_aload_n C 0 dX6_product_79 rfl rfl ?_
        refine z_bipush C 47 dX6_product_80 (by decide) ?_
        obtain ⟨r_24, σ_26, e_25, hf⟩ := bd_ hf
        refine z_calli C (rest := []) (av := (.ref (w.2.2 0) :: [.int 47])) (zPay.of q1531 q83) (fun H ls hH h2 => zInv_V C (As := [.int 47]) (rest := []) (ci := 6) (T := TX6) (N := 24) rfl (zSee.fix ly_m0) hH q1528 q1530 qs41 (Or.inl rfl) q1531 mh_X6 np_X6_takes dX6_product_82) (tX6_takes l w e_25) (Nat.le_trans (by show 1 + 1 ≤ fr + 12; omega) hfr) (Nat.le_trans (by show 0 + (3 + 11) + 12 ≤ lo + 100; omega) hlo) ?_
        refine z_if_eq C 94 dX6_product_85 (by decide) (fun c_27 => ?_) (fun c_27 => ?_)
        · replace hf := if_t c_27 hf
          refine z_aload_n C 0 dX6_product_94 rfl rfl ?_
          refine z_bipush C 37 dX6_product_95 (by decide) ?_
          obtain ⟨r_28, σ_30, e_29, hf⟩ := bd_ hf
          refine z_calli C (rest := []) (av := (.ref (w.2.2 0) :: [.int 37])) (zPay.of q1531 q83) (fun H ls hH h2 => zInv_V C (As := [.int 37]) (rest := []) (ci := 6) (T := TX6) (N := 24) rfl (zSee.fix ly_m0) hH q1528 q1530 qs41 (Or.inl rfl) q1531 mh_X6 np_X6_takes dX6_product_97) (tX6_takes l w e_29) (Nat.le_trans (by show 1 + 1 ≤ fr + 12; omega) hfr) (Nat.le_trans (by show 0 + (3 + 11) + 12 ≤ lo + 100; omega) hlo) ?_
          refine z_if_eq C 109 dX6_product_100 (by decide) (fun c_31 => ?_) (fun c_31 => ?_)
          · replace hf := if_t c_31 hf
            refine z_iconst C 0 dX6_product_109 (by decide) ?_
            obtain ⟨rfl, rfl⟩ := fin_ hf
            exact hje_22
          · replace hf := if_f c_31 hf
            refine z_sipush C 20009 dX6_product_103 (by decide) ?_
            refine z_goto C 110 dX6_product_106 (by decide) ?_
            obtain ⟨rfl, rfl⟩ := fin_ hf
            exact hje_22
        · replace hf := if_f c_27 hf
          refine z_sipush C 20008 dX6_product_88 (by decide) ?_
          refine z_goto C 110 dX6_product_91 (by decide) ?_
          obtain ⟨rfl, rfl⟩ := fin_ hf
          exact hje_22
      · replace hf := if_f c_23 hf
        refine z_sipush C 20007 dX6_product_73 (by decide) ?_
        refine z_goto C 110 dX6_product_76 (by decide) ?_
        obtain ⟨rfl, rfl⟩ := fin_ hf
        exact hje_22
set_option maxHeartbeats 4000000 in
set_option maxRecDepth 100000 in
theorem tX6_product (l : Launch) (w : ZW) {σ σ' : ZS} {rc : Nat → ZS → Option (Unit × ZS)} {fr lo : Nat} (hrc : zRecM l w rc fr lo) (hf : fX6_product rc σ = some ((), σ')) : zC l w zLm yX6_product (ws_ yX6_product cX6_product 2 none) (fr + 12) (lo + 100) [.ref (w.2.2 0)] σ (.returned none) σ' := by
  refine zC.of (plainFor_of_name (by decide)) (Nat.le_of_ble_eq_true rfl) ?_
  intro p e s m args below meth c C hnm
  show Z p l e _ s m args below meth c _ w _ _ 2 σ 0 [(0, .ref (w.2.2 0))] []
  unfold fX6_product at hf
  refine z_aload_n C 0 dX6_product_0 rfl rfl ?_
  obtain ⟨⟨⟩, σ_3, e_2, hf⟩ := bd_ hf
  refine z_callv C (rest := []) (av := (.ref (w.2.2 0) :: [])) (zPay.of q1519 q83) (fun H ls hH h2 => zInv_V C (As := []) (rest := []) (ci := 6) (T := TX6) (N := 24) rfl (zSee.fix ly_m0) hH q1516 q1518 qs38 (Or.inl rfl) q1519 mh_X6 np_X6_one dX6_product_1) (hrc.2.2.2.2.2 _ _ e_2) (by show fr + 1 ≤ fr + 12; omega) (by show 0 + (4 + 11) + lo ≤ lo + 100; omega) ?_
  refine z_aload_n C 0 dX6_product_4 rfl rfl ?_
  refine z_bipush C 42 dX6_product_5 (by decide) ?_
  obtain ⟨r_4, σ_6, e_5, hf⟩ := bd_ hf
  refine z_calli C (rest := []) (av := (.ref (w.2.2 0) :: [.int 42])) (zPay.of q1531 q83) (fun H ls hH h2 => zInv_V C (As := [.int 42]) (rest := []) (ci := 6) (T := TX6) (N := 24) rfl (zSee.fix ly_m0) hH q1528 q1530 qs41 (Or.inl rfl) q1531 mh_X6 np_X6_takes dX6_product_7) (tX6_takes l w e_5) (by show 1 + 1 ≤ fr + 12; omega) (by show 0 + (3 + 11) + 12 ≤ lo + 100; omega) ?_
  obtain ⟨j_7, σ_8, e_9, hf⟩ := bd_ hf
  have hje_9 : Z p l e (zRm (fr + 12) (lo + 100) σ) s m args below meth c (zQ below w zLm σ (.returned none) σ' args s) w zLm (zA w zLm σ) 2 σ_8 50 [(0, .ref (w.2.2 0))] [.int j_7] := by
    refine z_istore_n C dX6_product_50 rfl (by decide) rfl (lv' := [(1, .int j_7), (0, .ref (w.2.2 0))]) ?_
    obtain ⟨x1_32, σ_33, e_34, hf⟩ := bd_ hf
    refine z_lv (lv' := [(0, .ref (w.2.2 0)), (1, .int j_7)]) [1, 0] rfl ?_
    refine lfX6_product_L51 C (by show fr + 12 ≤ fr + 12; omega) (by show lo + 100 ≤ lo + 100; omega) hrc ?_ _ _ _ e_34
    obtain ⟨-, rfl⟩ := fin_ hf
    exact z_vret C dX6_product_114
  replace hf := e_9
  refine z_if_eq C 19 dX6_product_10 (by decide) (fun c_35 => ?_) (fun c_35 => ?_)
  · replace hf := if_t c_35 hf
    refine z_aload_n C 0 dX6_product_19 rfl rfl ?_
    refine z_bipush C 47 dX6_product_20 (by decide) ?_
    obtain ⟨r_36, σ_38, e_37, hf⟩ := bd_ hf
    refine z_calli C (rest := []) (av := (.ref (w.2.2 0) :: [.int 47])) (zPay.of q1531 q83) (fun H ls hH h2 => zInv_V C (As := [.int 47]) (rest := []) (ci := 6) (T := TX6) (N := 24) rfl (zSee.fix ly_m0) hH q1528 q1530 qs41 (Or.inl rfl) q1531 mh_X6 np_X6_takes dX6_product_22) (tX6_takes l w e_37) (by show 1 + 1 ≤ fr + 12; omega) (by show 0 + (3 + 11) + 12 ≤ lo + 100; omega) ?_
    refine z_if_eq C 34 dX6_product_25 (by decide) (fun c_39 => ?_) (fun c_39 => ?_)
    · replace hf := if_t c_39 hf
      refine z_aload_n C 0 dX6_product_34 rfl rfl ?_
      refine z_bipush C 37 dX6_product_35 (by decide) ?_
      obtain ⟨r_40, σ_42, e_41, hf⟩ := bd_ hf
      refine z_calli C (rest := []) (av := (.ref (w.2.2 0) :: [.int 37])) (zPay.of q1531 q83) (fun H ls hH h2 => zInv_V C (As := [.int 37]) (rest := []) (ci := 6) (T := TX6) (N := 24) rfl (zSee.fix ly_m0) hH q1528 q1530 qs41 (Or.inl rfl) q1531 mh_X6 np_X6_takes dX6_product_37) (tX6_takes l w e_41) (by show 1 + 1 ≤ fr + 12; omega) (by show 0 + (3 + 11) + 12 ≤ lo + 100; omega) ?_
      refine z_if_eq C 49 dX6_product_40 (by decide) (fun c_43 => ?_) (fun c_43 => ?_)
      · replace hf := if_t c_43 hf
        refine z_iconst C 0 dX6_product_49 (by decide) ?_
        obtain ⟨rfl, rfl⟩ := fin_ hf
        exact hje_9
      · replace hf := if_f c_43 hf
        refine z_sipush C 20009 dX6_product_43 (by decide) ?_
        refine z_goto C 50 dX6_product_46 (by decide) ?_
        obtain ⟨rfl, rfl⟩ := fin_ hf
        exact hje_9
    · replace hf := if_f c_39 hf
      refine z_sipush C 20008 dX6_product_28 (by decide) ?_
      refine z_goto C 50 dX6_product_31 (by decide) ?_
      obtain ⟨rfl, rfl⟩ := fin_ hf
      exact hje_9
  · replace hf := if_f c_35 hf
    refine z_sipush C 20007 dX6_product_13 (by decide) ?_
    refine z_goto C 50 dX6_product_16 (by decide) ?_
    obtain ⟨rfl, rfl⟩ := fin_ hf
    exact hje_9
def fX6_one_L131 (rc : Nat → ZS → Option (Unit × ZS)) (y1 : Int32) : Nat → Int32 → Int32 → ZS → Option ((Int32 × Int32) × ZS)
  | 0, _, _, _ => none
  | n + 1, y2, y3, σ => if 4 ≤ y3 then (some ((y2, y3), σ)) else (bo (fX6_here σ) (fun r_44 => if (fX6_within r_44 48 57) = 0 then (some ((y2, y3), σ)) else (bo (fX6_here σ) (fun r_47 => nm (((10 * y2) + r_47) - 48) (fun (x2_49 : Int32) => nm ((σ.1 0 7) + 1) (fun (f_50 : Int32) => nm (y3 + 1) (fun (x3_51 : Int32) => fX6_one_L131 rc y1 n x2_49 x3_51 (sI σ 0 7 f_50))))))))
def fX6_one (rc : Nat → ZS → Option (Unit × ZS)) (σ : ZS) : Option (Unit × ZS) := bo (fX6_here σ) (fun r_1 => bd (if r_1 = 33 then (nm (if (σ.1 0 8) = 5 then 1 else 0) (fun (j_6 : Int32) => if ((sI σ 0 10 j_6).1 0 10) = 0 then (nm (((sI σ 0 10 j_6).1 0 8) + 1) (fun (f_8 : Int32) => nm (((sI (sI σ 0 10 j_6) 0 8 f_8).1 0 7) + 1) (fun (f_9 : Int32) => bd (if r_1 = 33 then (bd (rc 5 (sI (sI (sI σ 0 10 j_6) 0 8 f_8) 0 7 f_9)) (fun _ σ_24 => bd (fX6_codes σ_24 20010) (fun _ σ_27 => some ((), σ_27)))) else (bd (rc 0 (sI (sI (sI σ 0 10 j_6) 0 8 f_8) 0 7 f_9)) (fun _ σ_16 => bd (fX6_takes σ_16 41) (fun r_17 σ_19 => nm (if r_17 = 0 then 1 else 0) (fun (j_20 : Int32) => some ((), sI σ_19 0 10 j_20)))))) (fun (_ : Unit) σ_10 => nm ((σ_10.1 0 8) - 1) (fun (f_12 : Int32) => some ((), sI σ_10 0 8 f_12)))))) else (some ((), sI σ 0 10 j_6)))) else (if r_1 = 40 then (nm (if (σ.1 0 8) = 5 then 1 else 0) (fun (j_52 : Int32) => if ((sI σ 0 10 j_52).1 0 10) = 0 then (nm (((sI σ 0 10 j_52).1 0 8) + 1) (fun (f_54 : Int32) => nm (((sI (sI σ 0 10 j_52) 0 8 f_54).1 0 7) + 1) (fun (f_55 : Int32) => bd (if r_1 = 33 then (bd (rc 5 (sI (sI (sI σ 0 10 j_52) 0 8 f_54) 0 7 f_55)) (fun _ σ_70 => bd (fX6_codes σ_70 20010) (fun _ σ_73 => some ((), σ_73)))) else (bd (rc 0 (sI (sI (sI σ 0 10 j_52) 0 8 f_54) 0 7 f_55)) (fun _ σ_62 => bd (fX6_takes σ_62 41) (fun r_63 σ_65 => nm (if r_63 = 0 then 1 else 0) (fun (j_66 : Int32) => some ((), sI σ_65 0 10 j_66)))))) (fun (_ : Unit) σ_56 => nm ((σ_56.1 0 8) - 1) (fun (f_58 : Int32) => some ((), sI σ_56 0 8 f_58)))))) else (some ((), sI σ 0 10 j_52)))) else (if (fX6_within r_1 48 57) = 0 then (bo (if 0 ≤ r_1 then (bo (fX6_nameOf σ r_1) (fun r_43 => some r_43)) else (some (-1))) (fun (j_31 : Int32) => nm (if (σ.1 0 10) = 0 then (if 0 ≤ j_31 then 0 else 1) else 1) (fun (j_34 : Int32) => if ((sI σ 0 10 j_34).1 0 10) = 0 then (bd (fX6_codes (sI σ 0 10 j_34) (10000 + j_31)) (fun _ σ_38 => nm ((σ_38.1 0 7) + 1) (fun (f_39 : Int32) => some ((), sI σ_38 0 7 f_39)))) else (some ((), sI σ 0 10 j_34))))) else (bd (fX6_one_L131 rc r_1 10000 0 0 σ) (fun uu47 σ_47 => bd (fX6_codes σ_47 (uu47.1)) (fun _ σ_51 => some ((), σ_51))))))) (fun (_ : Unit) σ_3 => some ((), σ_3)))
set_option maxHeartbeats 4000000 in
set_option maxRecDepth 100000 in
theorem lfX6_one_L131 {p : Program} {l : Launch} {e : Env} {R : Room} {s : State} {m : MethodId} {args : Array Value} {below : List Frame} {meth : Method} {c : Code} {Q : State → Prop} {w : ZW} {A : Nat → Prop} {ret : Option FieldType} {hh : List (Nat × Nat × Nat × Nat)} (C : zCx p s m args meth c w zLm A 4 cX6_one RX6 ret hh) {rc : Nat → ZS → Option (Unit × ZS)} {fr lo : Nat} (hfr : fr + 12 ≤ R.frames) (hlo : lo + 100 ≤ R.locals) (hrc : zRecM l w rc fr lo)  (y1 : Int32) {z2 : Int32} {z3 : Int32} {σ' : ZS} (hk : Z p l e R s m args below meth c Q w zLm A 4 σ' 179 [(0, .ref (w.2.2 0)), (1, .int y1), (2, .int z2), (3, .int z3)] []) : ∀ (n : Nat) (y2 : Int32) (y3 : Int32) (σ : ZS), fX6_one_L131 rc y1 n y2 y3 σ = some ((z2, z3), σ') → Z p l e R s m args below meth c Q w zLm A 4 σ 131 [(0, .ref (w.2.2 0)), (1, .int y1), (2, .int y2), (3, .int y3)] [] := by
  intro n
  induction n with
  | zero => intro y2 y3 σ hf; exact none_ hf
  | succ n ih =>
    intro y2 y3 σ hf
    rw [fX6_one_L131] at hf
    refine z_iload_n C 3 dX6_one_131 rfl rfl ?_
    refine z_iconst C 4 dX6_one_132 (by decide) ?_
    refine z_icmp_ge C 179 dX6_one_133 (by decide) (fun c_43 => ?_) (fun c_43 => ?_)
    · replace hf := if_t c_43 hf
      obtain ⟨hf1, rfl⟩ := fin_ hf
      simp only [Prod.mk.injEq] at hf1
      obtain ⟨rfl, rfl⟩ := hf1
      exact hk
    · replace hf := if_f c_43 hf
      refine z_aload_n C 0 dX6_one_136 rfl rfl ?_
      obtain ⟨r_44, e_45, hf⟩ := bo_ hf
      refine z_calli C (rest := []) (av := (.ref (w.2.2 0) :: [])) (zPay.of q1523 q83) (fun H ls hH h2 => zInv_V C (As := []) (rest := []) (ci := 6) (T := TX6) (N := 24) rfl (zSee.fix ly_m0) hH q1520 q1522 qs39 (Or.inl rfl) q1523 mh_X6 np_X6_here dX6_one_137) (tX6_here l w e_45) (Nat.le_trans (by show 0 + 1 ≤ fr + 12; omega) hfr) (Nat.le_trans (by show 0 + (1 + 11) + 0 ≤ lo + 100; omega) hlo) ?_
      refine z_bipush C 48 dX6_one_140 (by decide) ?_
      refine z_bipush C 57 dX6_one_142 (by decide) ?_
      refine z_calli C (rest := []) (av := [.int r_44, .int 48, .int 57]) (zPay.of q1483 q83) (fun H ls hH h2 => zInv_S C (As := [.int r_44, .int 48, .int 57]) (rest := []) q1481 q1482 q83 (Or.inl rfl) q1483 mh_X6 np_X6_within dX6_one_144) (tX6_within l w zLm σ r_44 48 57) (Nat.le_trans (by show 0 + 1 ≤ fr + 12; omega) hfr) (Nat.le_trans (by show 0 + (3 + 11) + 0 ≤ lo + 100; omega) hlo) ?_
      refine z_if_eq C 179 dX6_one_147 (by decide) (fun c_46 => ?_) (fun c_46 => ?_)
      · replace hf := if_t c_46 hf
        obtain ⟨hf1, rfl⟩ := fin_ hf
        simp only [Prod.mk.injEq] at hf1
        obtain ⟨rfl, rfl⟩ := hf1
        exact hk
      · replace hf := if_f c_46 hf
        refine z_bipush C 10 dX6_one_150 (by decide) ?_
        refine z_iload_n C 2 dX6_one_152 rfl rfl ?_
        refine z_imul C dX6_one_153 ?_
        refine z_aload_n C 0 dX6_one_154 rfl rfl ?_
        obtain ⟨r_47, e_48, hf⟩ := bo_ hf
        refine z_calli C (rest := [.int (10 * y2)]) (av := (.ref (w.2.2 0) :: [])) (zPay.of q1523 q83) (fun H ls hH h2 => zInv_V C (As := []) (rest := [.int (10 * y2)]) (ci := 6) (T := TX6) (N := 24) rfl (zSee.fix ly_m0) hH q1520 q1522 qs39 (Or.inl rfl) q1523 mh_X6 np_X6_here dX6_one_155) (tX6_here l w e_48) (Nat.le_trans (by show 0 + 1 ≤ fr + 12; omega) hfr) (Nat.le_trans (by show 1 + (1 + 11) + 0 ≤ lo + 100; omega) hlo) ?_
        refine z_iadd C dX6_one_158 ?_
        refine z_bipush C 48 dX6_one_159 (by decide) ?_
        refine z_isub C dX6_one_161 ?_
        obtain ⟨x2_49, ex2_49, hf⟩ := nmo_ hf
        refine z_top ex2_49 ?_
        refine z_istore_n C dX6_one_162 rfl (by decide) rfl (lv' := [(2, .int x2_49), (0, .ref (w.2.2 0)), (1, .int y1), (3, .int y3)]) ?_
        refine z_aload_n C 1 dX6_one_163 rfl rfl ?_
        refine z_dup C dX6_one_164 rfl ?_
        refine z_getI C ly_m0 (Cn := RX6) (T := TX6) (N := 24) rfl in_X6 7 (by decide) q1411 (Or.inl rfl) rfl dX6_one_165 ?_
        refine z_iconst C 1 dX6_one_168 (by decide) ?_
        refine z_iadd C dX6_one_169 ?_
        obtain ⟨f_50, ef_50, hf⟩ := nmo_ hf
        refine z_top ef_50 ?_
        refine z_putI C ly_m0 (k := 7) rfl (zPut C (Cn := RX6) (T := TX6) (N := 24) rfl in_X6 tyX6 tyX6_ok nmX6 7 (by decide) q1411 (Or.inl rfl) rfl rfl rfl (zFs_lt (Nat.le_of_ble_eq_true rfl)) dX6_one_170) ?_
        obtain ⟨x3_51, ex3_51, hf⟩ := nmo_ hf
        refine z_iinc C x3_51 3 dX6_one_173 rfl (by rw [ex3_51]; rfl) (by decide) rfl (lv' := [(3, .int x3_51), (2, .int x2_49), (0, .ref (w.2.2 0)), (1, .int y1)]) ?_
        refine z_goto C 131 dX6_one_176 (by decide) ?_
        exact z_lv [2, 3, 1, 0] rfl (ih _ _ _ hf)
set_option maxHeartbeats 4000000 in
set_option maxRecDepth 100000 in
theorem tX6_one (l : Launch) (w : ZW) {σ σ' : ZS} {rc : Nat → ZS → Option (Unit × ZS)} {fr lo : Nat} (hrc : zRecM l w rc fr lo) (hf : fX6_one rc σ = some ((), σ')) : zC l w zLm yX6_one (ws_ yX6_one cX6_one 4 none) (fr + 12) (lo + 100) [.ref (w.2.2 0)] σ (.returned none) σ' := by
  refine zC.of (plainFor_of_name (by decide)) (Nat.le_of_ble_eq_true rfl) ?_
  intro p e s m args below meth c C hnm
  show Z p l e _ s m args below meth c _ w _ _ 4 σ 0 [(0, .ref (w.2.2 0))] []
  unfold fX6_one at hf
  refine z_aload_n C 0 dX6_one_0 rfl rfl ?_
  obtain ⟨r_1, e_2, hf⟩ := bo_ hf
  refine z_calli C (rest := []) (av := (.ref (w.2.2 0) :: [])) (zPay.of q1523 q83) (fun H ls hH h2 => zInv_V C (As := []) (rest := []) (ci := 6) (T := TX6) (N := 24) rfl (zSee.fix ly_m0) hH q1520 q1522 qs39 (Or.inl rfl) q1523 mh_X6 np_X6_here dX6_one_1) (tX6_here l w e_2) (by show 0 + 1 ≤ fr + 12; omega) (by show 0 + (1 + 11) + 0 ≤ lo + 100; omega) ?_
  refine z_istore_n C dX6_one_4 rfl (by decide) rfl (lv' := [(1, .int r_1), (0, .ref (w.2.2 0))]) ?_
  refine z_iload_n C 0 dX6_one_5 rfl rfl ?_
  refine z_bipush C 33 dX6_one_6 (by decide) ?_
  obtain ⟨⟨⟩, σ_3, e_4, hf⟩ := bd_ hf
  have hje_4 : Z p l e (zRm (fr + 12) (lo + 100) σ) s m args below meth c (zQ below w zLm σ (.returned none) σ' args s) w zLm (zA w zLm σ) 4 σ_3 247 [(0, .ref (w.2.2 0)), (1, .int r_1)] [] := by
    obtain ⟨-, rfl⟩ := fin_ hf
    exact z_vret C dX6_one_247
  replace hf := e_4
  refine z_icmp_eq C 17 dX6_one_8 (by decide) (fun c_5 => ?_) (fun c_5 => ?_)
  · replace hf := if_t c_5 hf
    refine z_aload_n C 1 dX6_one_17 rfl rfl ?_
    refine z_aload_n C 1 dX6_one_18 rfl rfl ?_
    refine z_getI C ly_m0 (Cn := RX6) (T := TX6) (N := 24) rfl in_X6 8 (by decide) q1412 (Or.inl rfl) rfl dX6_one_19 ?_
    refine z_iconst C 5 dX6_one_22 (by decide) ?_
    obtain ⟨j_6, ej_6, hf⟩ := nmo_ hf
    have hj_6 : j_6 = 0 ∨ j_6 = 1 := by rw [ej_6]; (repeat' split) <;> first | exact Or.inl rfl | exact Or.inr rfl
    have hjj_6 : Z p l e (zRm (fr + 12) (lo + 100) σ) s m args below meth c (zQ below w zLm σ (.returned none) σ' args s) w zLm (zA w zLm σ) 4 σ 31 [(0, .ref (w.2.2 0)), (1, .int r_1)] [.int j_6, .ref (w.2.2 0)] := by
      refine z_putI C ly_m0 (k := 10) rfl (zPut C (Cn := RX6) (T := TX6) (N := 24) rfl in_X6 tyX6 tyX6_ok nmX6 10 (by decide) q1414 (Or.inl rfl) rfl (b01 hj_6) (f01 hj_6) (zFs_lt (Nat.le_of_ble_eq_true rfl)) dX6_one_31) ?_
      refine z_aload_n C 0 dX6_one_34 rfl rfl ?_
      refine z_getI C ly_m0 (Cn := RX6) (T := TX6) (N := 24) rfl in_X6 10 (by decide) q1414 (Or.inl rfl) rfl dX6_one_35 ?_
      refine z_if_ne C 247 dX6_one_38 (by decide) (fun c_7 => ?_) (fun c_7 => ?_)
      · replace hf := if_f c_7 hf
        obtain ⟨-, rfl⟩ := fin_ hf
        exact hje_4
      · replace hf := if_t c_7 hf
        refine z_aload_n C 0 dX6_one_41 rfl rfl ?_
        refine z_dup C dX6_one_42 rfl ?_
        refine z_getI C ly_m0 (Cn := RX6) (T := TX6) (N := 24) rfl in_X6 8 (by decide) q1412 (Or.inl rfl) rfl dX6_one_43 ?_
        refine z_iconst C 1 dX6_one_46 (by decide) ?_
        refine z_iadd C dX6_one_47 ?_
        obtain ⟨f_8, ef_8, hf⟩ := nmo_ hf
        refine z_top ef_8 ?_
        refine z_putI C ly_m0 (k := 8) rfl (zPut C (Cn := RX6) (T := TX6) (N := 24) rfl in_X6 tyX6 tyX6_ok nmX6 8 (by decide) q1412 (Or.inl rfl) rfl rfl rfl (zFs_lt (Nat.le_of_ble_eq_true rfl)) dX6_one_48) ?_
        refine z_aload_n C 0 dX6_one_51 rfl rfl ?_
        refine z_dup C dX6_one_52 rfl ?_
        refine z_getI C ly_m0 (Cn := RX6) (T := TX6) (N := 24) rfl in_X6 7 (by decide) q1411 (Or.inl rfl) rfl dX6_one_53 ?_
        refine z_iconst C 1 dX6_one_56 (by decide) ?_
        refine z_iadd C dX6_one_57 ?_
        obtain ⟨f_9, ef_9, hf⟩ := nmo_ hf
        refine z_top ef_9 ?_
        refine z_putI C ly_m0 (k := 7) rfl (zPut C (Cn := RX6) (T := TX6) (N := 24) rfl in_X6 tyX6 tyX6_ok nmX6 7 (by decide) q1411 (Or.inl rfl) rfl rfl rfl (zFs_lt (Nat.le_of_ble_eq_true rfl)) dX6_one_58) ?_
        refine z_iload_n C 1 dX6_one_61 rfl rfl ?_
        refine z_bipush C 33 dX6_one_62 (by decide) ?_
        obtain ⟨⟨⟩, σ_10, e_11, hf⟩ := bd_ hf
        have hje_11 : Z p l e (zRm (fr + 12) (lo + 100) σ) s m args below meth c (zQ below w zLm σ (.returned none) σ' args s) w zLm (zA w zLm σ) 4 σ_10 103 [(0, .ref (w.2.2 0)), (1, .int r_1)] [] := by
          refine z_aload_n C 0 dX6_one_103 rfl rfl ?_
          refine z_dup C dX6_one_104 rfl ?_
          refine z_getI C ly_m0 (Cn := RX6) (T := TX6) (N := 24) rfl in_X6 8 (by decide) q1412 (Or.inl rfl) rfl dX6_one_105 ?_
          refine z_iconst C 1 dX6_one_108 (by decide) ?_
          refine z_isub C dX6_one_109 ?_
          obtain ⟨f_12, ef_12, hf⟩ := nmo_ hf
          refine z_top ef_12 ?_
          refine z_putI C ly_m0 (k := 8) rfl (zPut C (Cn := RX6) (T := TX6) (N := 24) rfl in_X6 tyX6 tyX6_ok nmX6 8 (by decide) q1412 (Or.inl rfl) rfl rfl rfl (zFs_lt (Nat.le_of_ble_eq_true rfl)) dX6_one_110) ?_
          refine z_goto C 247 dX6_one_113 (by decide) ?_
          obtain ⟨-, rfl⟩ := fin_ hf
          exact hje_4
        replace hf := e_11
        refine z_icmp_ne C 81 dX6_one_64 (by decide) (fun c_13 => ?_) (fun c_13 => ?_)
        · replace hf := if_f c_13 hf
          refine z_aload_n C 0 dX6_one_81 rfl rfl ?_
          obtain ⟨⟨⟩, σ_16, e_15, hf⟩ := bd_ hf
          refine z_callv C (rest := []) (av := (.ref (w.2.2 0) :: [])) (zPay.of q1499 q83) (fun H ls hH h2 => zInv_V C (As := []) (rest := []) (ci := 6) (T := TX6) (N := 24) rfl (zSee.fix ly_m0) hH q1496 q1498 qs33 (Or.inl rfl) q1499 mh_X6 np_X6_either dX6_one_82) (hrc.1 _ _ e_15) (by show fr + 1 ≤ fr + 12; omega) (by show 0 + (1 + 11) + lo ≤ lo + 100; omega) ?_
          refine z_aload_n C 0 dX6_one_85 rfl rfl ?_
          refine z_aload_n C 0 dX6_one_86 rfl rfl ?_
          refine z_bipush C 41 dX6_one_87 (by decide) ?_
          obtain ⟨r_17, σ_19, e_18, hf⟩ := bd_ hf
          refine z_calli C (rest := [.ref (w.2.2 0)]) (av := (.ref (w.2.2 0) :: [.int 41])) (zPay.of q1531 q83) (fun H ls hH h2 => zInv_V C (As := [.int 41]) (rest := [.ref (w.2.2 0)]) (ci := 6) (T := TX6) (N := 24) rfl (zSee.fix ly_m0) hH q1528 q1530 qs41 (Or.inl rfl) q1531 mh_X6 np_X6_takes dX6_one_89) (tX6_takes l w e_18) (by show 1 + 1 ≤ fr + 12; omega) (by show 1 + (3 + 11) + 12 ≤ lo + 100; omega) ?_
          obtain ⟨j_20, ej_20, hf⟩ := nmo_ hf
          have hj_20 : j_20 = 0 ∨ j_20 = 1 := by rw [ej_20]; (repeat' split) <;> first | exact Or.inl rfl | exact Or.inr rfl
          have hjj_20 : Z p l e (zRm (fr + 12) (lo + 100) σ) s m args below meth c (zQ below w zLm σ (.returned none) σ' args s) w zLm (zA w zLm σ) 4 σ_19 100 [(0, .ref (w.2.2 0)), (1, .int r_1)] [.int j_20, .ref (w.2.2 0)] := by
            refine z_putI C ly_m0 (k := 10) rfl (zPut C (Cn := RX6) (T := TX6) (N := 24) rfl in_X6 tyX6 tyX6_ok nmX6 10 (by decide) q1414 (Or.inl rfl) rfl (b01 hj_20) (f01 hj_20) (zFs_lt (Nat.le_of_ble_eq_true rfl)) dX6_one_100) ?_
            obtain ⟨-, rfl⟩ := fin_ hf
            exact hje_11
          replace hf := ej_20
          refine z_if_ne C 99 dX6_one_92 (by decide) (fun c_21 => ?_) (fun c_21 => ?_)
          · replace hf := ifp_f c_21 hf
            refine z_iconst C 0 dX6_one_99 (by decide) ?_
            subst hf
            exact hjj_20
          · replace hf := ifp_t c_21 hf
            refine z_iconst C 1 dX6_one_95 (by decide) ?_
            refine z_goto C 100 dX6_one_96 (by decide) ?_
            subst hf
            exact hjj_20
        · replace hf := if_t c_13 hf
          refine z_aload_n C 0 dX6_one_67 rfl rfl ?_
          obtain ⟨⟨⟩, σ_24, e_23, hf⟩ := bd_ hf
          refine z_callv C (rest := []) (av := (.ref (w.2.2 0) :: [])) (zPay.of q1519 q83) (fun H ls hH h2 => zInv_V C (As := []) (rest := []) (ci := 6) (T := TX6) (N := 24) rfl (zSee.fix ly_m0) hH q1516 q1518 qs38 (Or.inl rfl) q1519 mh_X6 np_X6_one dX6_one_68) (hrc.2.2.2.2.2 _ _ e_23) (by show fr + 1 ≤ fr + 12; omega) (by show 0 + (4 + 11) + lo ≤ lo + 100; omega) ?_
          refine z_aload_n C 0 dX6_one_71 rfl rfl ?_
          refine z_sipush C 20010 dX6_one_72 (by decide) ?_
          obtain ⟨⟨⟩, σ_27, e_26, hf⟩ := bd_ hf
          refine z_callv C (rest := []) (av := (.ref (w.2.2 0) :: [.int 20010])) (zPay.of q1527 q83) (fun H ls hH h2 => zInv_V C (As := [.int 20010]) (rest := []) (ci := 6) (T := TX6) (N := 24) rfl (zSee.fix ly_m0) hH q1524 q1526 qs40 (Or.inl rfl) q1527 mh_X6 np_X6_codes dX6_one_75) (tX6_codes l w e_26) (by show 0 + 1 ≤ fr + 12; omega) (by show 0 + (2 + 11) + 0 ≤ lo + 100; omega) ?_
          refine z_goto C 103 dX6_one_78 (by decide) ?_
          obtain ⟨-, rfl⟩ := fin_ hf
          exact hje_11
    replace hf := ej_6
    refine z_icmp_ne C 30 dX6_one_23 (by decide) (fun c_28 => ?_) (fun c_28 => ?_)
    · replace hf := ifp_f c_28 hf
      refine z_iconst C 0 dX6_one_30 (by decide) ?_
      subst hf
      exact z_lv [1, 0] rfl hjj_6
    · replace hf := ifp_t c_28 hf
      refine z_iconst C 1 dX6_one_26 (by decide) ?_
      refine z_goto C 31 dX6_one_27 (by decide) ?_
      subst hf
      exact z_lv [1, 0] rfl hjj_6
  · replace hf := if_f c_5 hf
    refine z_iload_n C 0 dX6_one_11 rfl rfl ?_
    refine z_bipush C 40 dX6_one_12 (by decide) ?_
    refine z_icmp_ne C 116 dX6_one_14 (by decide) (fun c_29 => ?_) (fun c_29 => ?_)
    · replace hf := if_f c_29 hf
      refine z_iload_n C 0 dX6_one_116 rfl rfl ?_
      refine z_bipush C 48 dX6_one_117 (by decide) ?_
      refine z_bipush C 57 dX6_one_119 (by decide) ?_
      refine z_calli C (rest := []) (av := [.int r_1, .int 48, .int 57]) (zPay.of q1483 q83) (fun H ls hH h2 => zInv_S C (As := [.int r_1, .int 48, .int 57]) (rest := []) q1481 q1482 q83 (Or.inl rfl) q1483 mh_X6 np_X6_within dX6_one_121) (tX6_within l w zLm σ r_1 48 57) (by show 0 + 1 ≤ fr + 12; omega) (by show 0 + (3 + 11) + 0 ≤ lo + 100; omega) ?_
      refine z_if_eq C 187 dX6_one_124 (by decide) (fun c_30 => ?_) (fun c_30 => ?_)
      · replace hf := if_t c_30 hf
        refine z_iload_n C 0 dX6_one_187 rfl rfl ?_
        obtain ⟨j_31, e_33, hf⟩ := bo_ hf
        have hje_33 : Z p l e (zRm (fr + 12) (lo + 100) σ) s m args below meth c (zQ below w zLm σ (.returned none) σ' args s) w zLm (zA w zLm σ) 4 σ 200 [(0, .ref (w.2.2 0)), (1, .int r_1)] [.int j_31] := by
          refine z_istore_n C dX6_one_200 rfl (by decide) rfl (lv' := [(2, .int j_31), (0, .ref (w.2.2 0)), (1, .int r_1)]) ?_
          refine z_aload_n C 1 dX6_one_201 rfl rfl ?_
          refine z_aload_n C 1 dX6_one_202 rfl rfl ?_
          refine z_getI C ly_m0 (Cn := RX6) (T := TX6) (N := 24) rfl in_X6 10 (by decide) q1414 (Or.inl rfl) rfl dX6_one_203 ?_
          obtain ⟨j_34, ej_34, hf⟩ := nmo_ hf
          have hj_34 : j_34 = 0 ∨ j_34 = 1 := by rw [ej_34]; (repeat' split) <;> first | exact Or.inl rfl | exact Or.inr rfl
          have hjj_34 : Z p l e (zRm (fr + 12) (lo + 100) σ) s m args below meth c (zQ below w zLm σ (.returned none) σ' args s) w zLm (zA w zLm σ) 4 σ 218 [(0, .ref (w.2.2 0)), (1, .int r_1), (2, .int j_31)] [.int j_34, .ref (w.2.2 0)] := by
            refine z_putI C ly_m0 (k := 10) rfl (zPut C (Cn := RX6) (T := TX6) (N := 24) rfl in_X6 tyX6 tyX6_ok nmX6 10 (by decide) q1414 (Or.inl rfl) rfl (b01 hj_34) (f01 hj_34) (zFs_lt (Nat.le_of_ble_eq_true rfl)) dX6_one_218) ?_
            refine z_aload_n C 0 dX6_one_221 rfl rfl ?_
            refine z_getI C ly_m0 (Cn := RX6) (T := TX6) (N := 24) rfl in_X6 10 (by decide) q1414 (Or.inl rfl) rfl dX6_one_222 ?_
            refine z_if_ne C 247 dX6_one_225 (by decide) (fun c_35 => ?_) (fun c_35 => ?_)
            · replace hf := if_f c_35 hf
              obtain ⟨-, rfl⟩ := fin_ hf
              exact z_lv [0, 1] rfl hje_4
            · replace hf := if_t c_35 hf
              refine z_aload_n C 0 dX6_one_228 rfl rfl ?_
              refine z_sipush C 10000 dX6_one_229 (by decide) ?_
              refine z_iload_n C 2 dX6_one_232 rfl rfl ?_
              refine z_iadd C dX6_one_233 ?_
              obtain ⟨⟨⟩, σ_38, e_37, hf⟩ := bd_ hf
              refine z_callv C (rest := []) (av := (.ref (w.2.2 0) :: [.int (10000 + j_31)])) (zPay.of q1527 q83) (fun H ls hH h2 => zInv_V C (As := [.int (10000 + j_31)]) (rest := []) (ci := 6) (T := TX6) (N := 24) rfl (zSee.fix ly_m0) hH q1524 q1526 qs40 (Or.inl rfl) q1527 mh_X6 np_X6_codes dX6_one_234) (tX6_codes l w e_37) (by show 0 + 1 ≤ fr + 12; omega) (by show 0 + (2 + 11) + 0 ≤ lo + 100; omega) ?_
              refine z_aload_n C 0 dX6_one_237 rfl rfl ?_
              refine z_dup C dX6_one_238 rfl ?_
              refine z_getI C ly_m0 (Cn := RX6) (T := TX6) (N := 24) rfl in_X6 7 (by decide) q1411 (Or.inl rfl) rfl dX6_one_239 ?_
              refine z_iconst C 1 dX6_one_242 (by decide) ?_
              refine z_iadd C dX6_one_243 ?_
              obtain ⟨f_39, ef_39, hf⟩ := nmo_ hf
              refine z_top ef_39 ?_
              refine z_putI C ly_m0 (k := 7) rfl (zPut C (Cn := RX6) (T := TX6) (N := 24) rfl in_X6 tyX6 tyX6_ok nmX6 7 (by decide) q1411 (Or.inl rfl) rfl rfl rfl (zFs_lt (Nat.le_of_ble_eq_true rfl)) dX6_one_244) ?_
              obtain ⟨-, rfl⟩ := fin_ hf
              exact z_lv [0, 1] rfl hje_4
          replace hf := ej_34
          refine z_if_ne C 213 dX6_one_206 (by decide) (fun c_40 => ?_) (fun c_40 => ?_)
          · replace hf := ifp_f c_40 hf
            refine z_iconst C 1 dX6_one_213 (by decide) ?_
            refine z_goto C 218 dX6_one_214 (by decide) ?_
            subst hf
            exact z_lv [1, 2, 0] rfl hjj_34
          · replace hf := ifp_t c_40 hf
            refine z_iload_n C 0 dX6_one_209 rfl rfl ?_
            refine z_if_ge C 217 dX6_one_210 (by decide) (fun c_41 => ?_) (fun c_41 => ?_)
            · replace hf := ifp_t c_41 hf
              refine z_iconst C 0 dX6_one_217 (by decide) ?_
              subst hf
              exact z_lv [1, 2, 0] rfl hjj_34
            · replace hf := ifp_f c_41 hf
              refine z_iconst C 1 dX6_one_213 (by decide) ?_
              refine z_goto C 218 dX6_one_214 (by decide) ?_
              subst hf
              exact z_lv [1, 2, 0] rfl hjj_34
        replace hf := e_33
        refine z_if_ge C 195 dX6_one_188 (by decide) (fun c_42 => ?_) (fun c_42 => ?_)
        · replace hf := if_t c_42 hf
          refine z_aload_n C 1 dX6_one_195 rfl rfl ?_
          refine z_iload_n C 0 dX6_one_196 rfl rfl ?_
          obtain ⟨r_43, e_44, hf⟩ := bo_ hf
          refine z_calli C (rest := []) (av := (.ref (w.2.2 0) :: [.int r_1])) (zPay.of q1535 q83) (fun H ls hH h2 => zInv_V C (As := [.int r_1]) (rest := []) (ci := 6) (T := TX6) (N := 24) rfl (zSee.fix ly_m0) hH q1532 q1534 qs42 (Or.inl rfl) q1535 mh_X6 np_X6_nameOf dX6_one_197) (tX6_nameOf l w e_44) (by show 4 + 1 ≤ fr + 12; omega) (by show 0 + (4 + 11) + 53 ≤ lo + 100; omega) ?_
          obtain rfl := fino_ hf
          exact z_lv [1, 0] rfl hje_33
        · replace hf := if_f c_42 hf
          refine z_iconst C (-1) dX6_one_191 (by decide) ?_
          refine z_goto C 200 dX6_one_192 (by decide) ?_
          obtain rfl := fino_ hf
          exact z_lv [1, 0] rfl hje_33
      · replace hf := if_f c_30 hf
        refine z_iconst C 0 dX6_one_127 (by decide) ?_
        refine z_istore_n C dX6_one_128 rfl (by decide) rfl (lv' := [(2, .int 0), (1, .int r_1), (0, .ref (w.2.2 0))]) ?_
        refine z_iconst C 0 dX6_one_129 (by decide) ?_
        refine z_istore_n C dX6_one_130 rfl (by decide) rfl (lv' := [(3, .int 0), (2, .int 0), (1, .int r_1), (0, .ref (w.2.2 0))]) ?_
        obtain ⟨⟨x2_45, x3_46⟩, σ_47, e_48, hf⟩ := bd_ hf
        try dsimp only at hf
        refine z_lv (lv' := [(0, .ref (w.2.2 0)), (1, .int r_1), (2, .int 0), (3, .int 0)]) [3, 2, 1, 0] rfl ?_
        refine lfX6_one_L131 C (by show fr + 12 ≤ fr + 12; omega) (by show lo + 100 ≤ lo + 100; omega) hrc r_1 ?_ _ _ _ _ e_48
        refine z_aload_n C 0 dX6_one_179 rfl rfl ?_
        refine z_iload_n C 2 dX6_one_180 rfl rfl ?_
        obtain ⟨⟨⟩, σ_51, e_50, hf⟩ := bd_ hf
        refine z_callv C (rest := []) (av := (.ref (w.2.2 0) :: [.int x2_45])) (zPay.of q1527 q83) (fun H ls hH h2 => zInv_V C (As := [.int x2_45]) (rest := []) (ci := 6) (T := TX6) (N := 24) rfl (zSee.fix ly_m0) hH q1524 q1526 qs40 (Or.inl rfl) q1527 mh_X6 np_X6_codes dX6_one_181) (tX6_codes l w e_50) (by show 0 + 1 ≤ fr + 12; omega) (by show 0 + (2 + 11) + 0 ≤ lo + 100; omega) ?_
        refine z_goto C 247 dX6_one_184 (by decide) ?_
        obtain ⟨-, rfl⟩ := fin_ hf
        exact z_lv [0, 1] rfl hje_4
    · replace hf := if_t c_29 hf
      refine z_aload_n C 1 dX6_one_17 rfl rfl ?_
      refine z_aload_n C 1 dX6_one_18 rfl rfl ?_
      refine z_getI C ly_m0 (Cn := RX6) (T := TX6) (N := 24) rfl in_X6 8 (by decide) q1412 (Or.inl rfl) rfl dX6_one_19 ?_
      refine z_iconst C 5 dX6_one_22 (by decide) ?_
      obtain ⟨j_52, ej_52, hf⟩ := nmo_ hf
      have hj_52 : j_52 = 0 ∨ j_52 = 1 := by rw [ej_52]; (repeat' split) <;> first | exact Or.inl rfl | exact Or.inr rfl
      have hjj_52 : Z p l e (zRm (fr + 12) (lo + 100) σ) s m args below meth c (zQ below w zLm σ (.returned none) σ' args s) w zLm (zA w zLm σ) 4 σ 31 [(0, .ref (w.2.2 0)), (1, .int r_1)] [.int j_52, .ref (w.2.2 0)] := by
        refine z_putI C ly_m0 (k := 10) rfl (zPut C (Cn := RX6) (T := TX6) (N := 24) rfl in_X6 tyX6 tyX6_ok nmX6 10 (by decide) q1414 (Or.inl rfl) rfl (b01 hj_52) (f01 hj_52) (zFs_lt (Nat.le_of_ble_eq_true rfl)) dX6_one_31) ?_
        refine z_aload_n C 0 dX6_one_34 rfl rfl ?_
        refine z_getI C ly_m0 (Cn := RX6) (T := TX6) (N := 24) rfl in_X6 10 (by decide) q1414 (Or.inl rfl) rfl dX6_one_35 ?_
        refine z_if_ne C 247 dX6_one_38 (by decide) (fun c_53 => ?_) (fun c_53 => ?_)
        · replace hf := if_f c_53 hf
          obtain ⟨-, rfl⟩ := fin_ hf
          exact hje_4
        · replace hf := if_t c_53 hf
          refine z_aload_n C 0 dX6_one_41 rfl rfl ?_
          refine z_dup C dX6_one_42 rfl ?_
          refine z_getI C ly_m0 (Cn := RX6) (T := TX6) (N := 24) rfl in_X6 8 (by decide) q1412 (Or.inl rfl) rfl dX6_one_43 ?_
          refine z_iconst C 1 dX6_one_46 (by decide) ?_
          refine z_iadd C dX6_one_47 ?_
          obtain ⟨f_54, ef_54, hf⟩ := nmo_ hf
          refine z_top ef_54 ?_
          refine z_putI C ly_m0 (k := 8) rfl (zPut C (Cn := RX6) (T := TX6) (N := 24) rfl in_X6 tyX6 tyX6_ok nmX6 8 (by decide) q1412 (Or.inl rfl) rfl rfl rfl (zFs_lt (Nat.le_of_ble_eq_true rfl)) dX6_one_48) ?_
          refine z_aload_n C 0 dX6_one_51 rfl rfl ?_
          refine z_dup C dX6_one_52 rfl ?_
          refine z_getI C ly_m0 (Cn := RX6) (T := TX6) (N := 24) rfl in_X6 7 (by decide) q1411 (Or.inl rfl) rfl dX6_one_53 ?_
          refine z_iconst C 1 dX6_one_56 (by decide) ?_
          refine z_iadd C dX6_one_57 ?_
          obtain ⟨f_55, ef_55, hf⟩ := nmo_ hf
          refine z_top ef_55 ?_
          refine z_putI C ly_m0 (k := 7) rfl (zPut C (Cn := RX6) (T := TX6) (N := 24) rfl in_X6 tyX6 tyX6_ok nmX6 7 (by decide) q1411 (Or.inl rfl) rfl rfl rfl (zFs_lt (Nat.le_of_ble_eq_true rfl)) dX6_one_58) ?_
          refine z_iload_n C 1 dX6_one_61 rfl rfl ?_
          refine z_bipush C 33 dX6_one_62 (by decide) ?_
          obtain ⟨⟨⟩, σ_56, e_57, hf⟩ := bd_ hf
          have hje_57 : Z p l e (zRm (fr + 12) (lo + 100) σ) s m args below meth c (zQ below w zLm σ (.returned none) σ' args s) w zLm (zA w zLm σ) 4 σ_56 103 [(0, .ref (w.2.2 0)), (1, .int r_1)] [] := by
            refine z_aload_n C 0 dX6_one_103 rfl rfl ?_
            refine z_dup C dX6_one_104 rfl ?_
            refine z_getI C ly_m0 (Cn := RX6) (T := TX6) (N := 24) rfl in_X6 8 (by decide) q1412 (Or.inl rfl) rfl dX6_one_105 ?_
            refine z_iconst C 1 dX6_one_108 (by decide) ?_
            refine z_isub C dX6_one_109 ?_
            obtain ⟨f_58, ef_58, hf⟩ := nmo_ hf
            refine z_top ef_58 ?_
            refine z_putI C ly_m0 (k := 8) rfl (zPut C (Cn := RX6) (T := TX6) (N := 24) rfl in_X6 tyX6 tyX6_ok nmX6 8 (by decide) q1412 (Or.inl rfl) rfl rfl rfl (zFs_lt (Nat.le_of_ble_eq_true rfl)) dX6_one_110) ?_
            refine z_goto C 247 dX6_one_113 (by decide) ?_
            obtain ⟨-, rfl⟩ := fin_ hf
            exact hje_4
          replace hf := e_57
          refine z_icmp_ne C 81 dX6_one_64 (by decide) (fun c_59 => ?_) (fun c_59 => ?_)
          · replace hf := if_f c_59 hf
            refine z_aload_n C 0 dX6_one_81 rfl rfl ?_
            obtain ⟨⟨⟩, σ_62, e_61, hf⟩ := bd_ hf
            refine z_callv C (rest := []) (av := (.ref (w.2.2 0) :: [])) (zPay.of q1499 q83) (fun H ls hH h2 => zInv_V C (As := []) (rest := []) (ci := 6) (T := TX6) (N := 24) rfl (zSee.fix ly_m0) hH q1496 q1498 qs33 (Or.inl rfl) q1499 mh_X6 np_X6_either dX6_one_82) (hrc.1 _ _ e_61) (by show fr + 1 ≤ fr + 12; omega) (by show 0 + (1 + 11) + lo ≤ lo + 100; omega) ?_
            refine z_aload_n C 0 dX6_one_85 rfl rfl ?_
            refine z_aload_n C 0 dX6_one_86 rfl rfl ?_
            refine z_bipush C 41 dX6_one_87 (by decide) ?_
            obtain ⟨r_63, σ_65, e_64, hf⟩ := bd_ hf
            refine z_calli C (rest := [.ref (w.2.2 0)]) (av := (.ref (w.2.2 0) :: [.int 41])) (zPay.of q1531 q83) (fun H ls hH h2 => zInv_V C (As := [.int 41]) (rest := [.ref (w.2.2 0)]) (ci := 6) (T := TX6) (N := 24) rfl (zSee.fix ly_m0) hH q1528 q1530 qs41 (Or.inl rfl) q1531 mh_X6 np_X6_takes dX6_one_89) (tX6_takes l w e_64) (by show 1 + 1 ≤ fr + 12; omega) (by show 1 + (3 + 11) + 12 ≤ lo + 100; omega) ?_
            obtain ⟨j_66, ej_66, hf⟩ := nmo_ hf
            have hj_66 : j_66 = 0 ∨ j_66 = 1 := by rw [ej_66]; (repeat' split) <;> first | exact Or.inl rfl | exact Or.inr rfl
            have hjj_66 : Z p l e (zRm (fr + 12) (lo + 100) σ) s m args below meth c (zQ below w zLm σ (.returned none) σ' args s) w zLm (zA w zLm σ) 4 σ_65 100 [(0, .ref (w.2.2 0)), (1, .int r_1)] [.int j_66, .ref (w.2.2 0)] := by
              refine z_putI C ly_m0 (k := 10) rfl (zPut C (Cn := RX6) (T := TX6) (N := 24) rfl in_X6 tyX6 tyX6_ok nmX6 10 (by decide) q1414 (Or.inl rfl) rfl (b01 hj_66) (f01 hj_66) (zFs_lt (Nat.le_of_ble_eq_true rfl)) dX6_one_100) ?_
              obtain ⟨-, rfl⟩ := fin_ hf
              exact hje_57
            replace hf := ej_66
            refine z_if_ne C 99 dX6_one_92 (by decide) (fun c_67 => ?_) (fun c_67 => ?_)
            · replace hf := ifp_f c_67 hf
              refine z_iconst C 0 dX6_one_99 (by decide) ?_
              subst hf
              exact hjj_66
            · replace hf := ifp_t c_67 hf
              refine z_iconst C 1 dX6_one_95 (by decide) ?_
              refine z_goto C 100 dX6_one_96 (by decide) ?_
              subst hf
              exact hjj_66
          · replace hf := if_t c_59 hf
            refine z_aload_n C 0 dX6_one_67 rfl rfl ?_
            obtain ⟨⟨⟩, σ_70, e_69, hf⟩ := bd_ hf
            refine z_callv C (rest := []) (av := (.ref (w.2.2 0) :: [])) (zPay.of q1519 q83) (fun H ls hH h2 => zInv_V C (As := []) (rest := []) (ci := 6) (T := TX6) (N := 24) rfl (zSee.fix ly_m0) hH q1516 q1518 qs38 (Or.inl rfl) q1519 mh_X6 np_X6_one dX6_one_68) (hrc.2.2.2.2.2 _ _ e_69) (by show fr + 1 ≤ fr + 12; omega) (by show 0 + (4 + 11) + lo ≤ lo + 100; omega) ?_
            refine z_aload_n C 0 dX6_one_71 rfl rfl ?_
            refine z_sipush C 20010 dX6_one_72 (by decide) ?_
            obtain ⟨⟨⟩, σ_73, e_72, hf⟩ := bd_ hf
            refine z_callv C (rest := []) (av := (.ref (w.2.2 0) :: [.int 20010])) (zPay.of q1527 q83) (fun H ls hH h2 => zInv_V C (As := [.int 20010]) (rest := []) (ci := 6) (T := TX6) (N := 24) rfl (zSee.fix ly_m0) hH q1524 q1526 qs40 (Or.inl rfl) q1527 mh_X6 np_X6_codes dX6_one_75) (tX6_codes l w e_72) (by show 0 + 1 ≤ fr + 12; omega) (by show 0 + (2 + 11) + 0 ≤ lo + 100; omega) ?_
            refine z_goto C 103 dX6_one_78 (by decide) ?_
            obtain ⟨-, rfl⟩ := fin_ hf
            exact hje_57
      replace hf := ej_52
      refine z_icmp_ne C 30 dX6_one_23 (by decide) (fun c_74 => ?_) (fun c_74 => ?_)
      · replace hf := ifp_f c_74 hf
        refine z_iconst C 0 dX6_one_30 (by decide) ?_
        subst hf
        exact z_lv [1, 0] rfl hjj_52
      · replace hf := ifp_t c_74 hf
        refine z_iconst C 1 dX6_one_26 (by decide) ?_
        refine z_goto C 31 dX6_one_27 (by decide) ?_
        subst hf
        exact z_lv [1, 0] rfl hjj_52
