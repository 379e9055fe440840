/-! the class, walked (written by gen/main_x.py) -/
def fX0_set (σ : ZS) (p1 : Int32) (p2 : Int32) : Option (Int32 × ZS) := bo (if (fX0_in p1 0 2) = 0 then (some 0) else (bo (fX0_isOfBay σ p1 p2) (fun r_22 => if r_22 = 0 then (some 0) else (some 1)))) (fun (j_1 : Int32) => bd (fX0_need σ j_1 1) (fun r_4 σ_6 => sc r_4 (fun _ => nm (if p1 = 0 then (σ_6.1 100 4) else (if p1 = 1 then (σ_6.1 100 5) else (σ_6.1 100 6))) (fun (j_9 : Int32) => nm (if p1 = 0 then p2 else (σ_6.1 100 4)) (fun (j_10 : Int32) => nm (if p1 = 1 then p2 else ((sI σ_6 100 4 j_10).1 100 5)) (fun (j_11 : Int32) => nm (if p1 = 2 then p2 else ((sI (sI σ_6 100 4 j_10) 100 5 j_11).1 100 6)) (fun (j_12 : Int32) => some (j_9, sI (sI (sI σ_6 100 4 j_10) 100 5 j_11) 100 6 j_12)))))) (fun _ => bd (fX0_finds σ_6) (fun r_18 σ_20 => some (r_18, σ_20)))))
set_option maxHeartbeats 4000000 in
set_option maxRecDepth 100000 in
theorem tX0_set (l : Launch) (w : ZW) {σ σ' : ZS} {p1 : Int32} {p2 : Int32} {r : Int32} (hf : fX0_set σ p1 p2 = some (r, σ')) : zC l w zLx yX0_set (wsW_ yX0_set cX0_set 4 (some .int) [(0, 134, 135, 8)]) 3 42 [.ref (w.2.2 0), .int p1, .int p2] σ (.returned (some (.int r))) σ' := by
  refine zC.ofW (plainFor_of_name (by decide)) (Nat.le_of_ble_eq_true rfl) ?_
  intro p e s m args below meth c C hnm
  show Z p l e _ s m args below meth c _ w _ _ 4 σ 0 [(0, .ref (w.2.2 0)), (1, .int p1), (2, .int p2)] []
  unfold fX0_set at hf
  refine z_aload_n C 0 dX0_set_0 rfl rfl ?_
  refine z_iload_n C 1 dX0_set_1 rfl rfl ?_
  refine z_iconst C 0 dX0_set_2 (by decide) ?_
  refine z_iconst C 2 dX0_set_3 (by decide) ?_
  refine z_calli C (rest := [.ref (w.2.2 0)]) (av := [.int p1, .int 0, .int 2]) (zPay.of q350 q74) (fun H ls hH h2 => zInv_S C (As := [.int p1, .int 0, .int 2]) (rest := [.ref (w.2.2 0)]) q348 q349 q74 (Or.inl rfl) q350 mh_X0 np_X0_in dX0_set_4) (tX0_in l w zLx σ p1 0 2) (Nat.le_of_ble_eq_true rfl) (Nat.le_of_ble_eq_true rfl) ?_
  obtain ⟨j_1, e_3, hf⟩ := bo_ hf
  have hje_3 : Z p l e (zRm 3 42 σ) s m args below meth c (zQ below w zLx σ (.returned (some (.int r))) σ' args s) w zLx (zA w zLx σ) 4 σ 24 [(0, .ref (w.2.2 0)), (1, .int p1), (2, .int p2)] [.int j_1, .ref (w.2.2 0)] := by
    refine z_iconst C 1 dX0_set_24 (by decide) ?_
    obtain ⟨r_4, σ_6, e_5, hf⟩ := bd_ hf
    rcases r_4 with ⟨⟩ | ⟨⟩
    · dsimp only [sc] at hf
      refine z_callv C (rest := []) (av := (.ref (w.2.2 0) :: [.int j_1, .int 1])) (zPay.of q354 q74) (fun H ls hH h2 => zInv_V C (As := [.int j_1, .int 1]) (rest := []) (ci := 0) (T := TX0) (N := 8) rfl (zSee.fix ly_x0) hH q351 q353 qs1 (Or.inl rfl) q354 mh_X0 np_X0_need dX0_set_25) (tX0_need l w e_5) (Nat.le_of_ble_eq_true rfl) (Nat.le_of_ble_eq_true rfl) ?_
      refine z_iload_n C 1 dX0_set_28 rfl rfl ?_
      obtain ⟨j_9, ej_9, hf⟩ := nmo_ hf
      have hjj_9 : Z p l e (zRm 3 42 σ) s m args below meth c (zQ below w zLx σ (.returned (some (.int r))) σ' args s) w zLx (zA w zLx σ) 4 σ_6 64 [(0, .ref (w.2.2 0)), (1, .int p1), (2, .int p2)] [.int j_9] := by
        refine z_istore_n C dX0_set_64 rfl (by decide) rfl (lv' := [(3, .int j_9), (0, .ref (w.2.2 0)), (1, .int p1), (2, .int p2)]) ?_
        refine z_aload_n C 1 dX0_set_65 rfl rfl ?_
        refine z_getR C ly_x0 (Cn := RX0) (T := TX0) (N := 8) rfl in_X0 1 (by decide) q320 (Or.inl rfl) rfl dX0_set_66 ?_
        refine z_iload_n C 2 dX0_set_69 rfl rfl ?_
        obtain ⟨j_10, ej_10, hf⟩ := nmo_ hf
        have hjj_10 : Z p l e (zRm 3 42 σ) s m args below meth c (zQ below w zLx σ (.returned (some (.int r))) σ' args s) w zLx (zA w zLx σ) 4 σ_6 84 [(0, .ref (w.2.2 0)), (1, .int p1), (2, .int p2), (3, .int j_9)] [.int j_10, .ref (w.2.2 100)] := by
          refine z_putI C (ly_b0 zb100) (k := 4) rfl (zPutN C (Cn := RX2) (T := TX2) (N := 20) rfl in_X2 tyX2 tyX2_ok nmX2 4 (by decide) q219 (Or.inl rfl) rfl rfl rfl (zFs_lt (Nat.le_of_ble_eq_true rfl)) dX0_set_84) ?_
          refine z_aload_n C 0 dX0_set_87 rfl rfl ?_
          refine z_getR C ly_x0 (Cn := RX0) (T := TX0) (N := 8) rfl in_X0 1 (by decide) q320 (Or.inl rfl) rfl dX0_set_88 ?_
          refine z_iload_n C 1 dX0_set_91 rfl rfl ?_
          refine z_iconst C 1 dX0_set_92 (by decide) ?_
          obtain ⟨j_11, ej_11, hf⟩ := nmo_ hf
          have hjj_11 : Z p l e (zRm 3 42 σ) s m args below meth c (zQ below w zLx σ (.returned (some (.int r))) σ' args s) w zLx (zA w zLx σ) 4 (sI σ_6 100 4 j_10) 107 [(0, .ref (w.2.2 0)), (1, .int p1), (2, .int p2), (3, .int j_9)] [.int j_11, .ref (w.2.2 100)] := by
            refine z_putI C (ly_b0 zb100) (k := 5) rfl (zPutN C (Cn := RX2) (T := TX2) (N := 20) rfl in_X2 tyX2 tyX2_ok nmX2 5 (by decide) q224 (Or.inl rfl) rfl rfl rfl (zFs_lt (Nat.le_of_ble_eq_true rfl)) dX0_set_107) ?_
            refine z_aload_n C 0 dX0_set_110 rfl rfl ?_
            refine z_getR C ly_x0 (Cn := RX0) (T := TX0) (N := 8) rfl in_X0 1 (by decide) q320 (Or.inl rfl) rfl dX0_set_111 ?_
            refine z_iload_n C 1 dX0_set_114 rfl rfl ?_
            refine z_iconst C 2 dX0_set_115 (by decide) ?_
            obtain ⟨j_12, ej_12, hf⟩ := nmo_ hf
            have hjj_12 : Z p l e (zRm 3 42 σ) s m args below meth c (zQ below w zLx σ (.returned (some (.int r))) σ' args s) w zLx (zA w zLx σ) 4 (sI (sI σ_6 100 4 j_10) 100 5 j_11) 130 [(0, .ref (w.2.2 0)), (1, .int p1), (2, .int p2), (3, .int j_9)] [.int j_12, .ref (w.2.2 100)] := by
              refine z_putI C (ly_b0 zb100) (k := 6) rfl (zPutN C (Cn := RX2) (T := TX2) (N := 20) rfl in_X2 tyX2 tyX2_ok nmX2 6 (by decide) q226 (Or.inl rfl) rfl rfl rfl (zFs_lt (Nat.le_of_ble_eq_true rfl)) dX0_set_130) ?_
              refine z_iload_n C 3 dX0_set_133 rfl rfl ?_
              obtain ⟨rfl, rfl⟩ := fin_ hf
              exact z_iret C rfl dX0_set_134
            replace hf := ej_12
            refine z_icmp_ne C 123 dX0_set_116 (by decide) (fun c_13 => ?_) (fun c_13 => ?_)
            · replace hf := ifp_f c_13 hf
              refine z_aload_n C 0 dX0_set_123 rfl rfl ?_
              refine z_getR C ly_x0 (Cn := RX0) (T := TX0) (N := 8) rfl in_X0 1 (by decide) q320 (Or.inl rfl) rfl dX0_set_124 ?_
              refine z_getIN C (ly_b0 zb100) (Cn := RX2) (T := TX2) (N := 20) rfl in_X2 6 (by decide) q226 (Or.inl rfl) rfl dX0_set_127 ?_
              subst hf
              exact hjj_12
            · replace hf := ifp_t c_13 hf
              refine z_iload_n C 2 dX0_set_119 rfl rfl ?_
              refine z_goto C 130 dX0_set_120 (by decide) ?_
              subst hf
              exact hjj_12
          replace hf := ej_11
          refine z_icmp_ne C 100 dX0_set_93 (by decide) (fun c_14 => ?_) (fun c_14 => ?_)
          · replace hf := ifp_f c_14 hf
            refine z_aload_n C 0 dX0_set_100 rfl rfl ?_
            refine z_getR C ly_x0 (Cn := RX0) (T := TX0) (N := 8) rfl in_X0 1 (by decide) q320 (Or.inl rfl) rfl dX0_set_101 ?_
            refine z_getIN C (ly_b0 zb100) (Cn := RX2) (T := TX2) (N := 20) rfl in_X2 5 (by decide) q224 (Or.inl rfl) rfl dX0_set_104 ?_
            subst hf
            exact hjj_11
          · replace hf := ifp_t c_14 hf
            refine z_iload_n C 2 dX0_set_96 rfl rfl ?_
            refine z_goto C 107 dX0_set_97 (by decide) ?_
            subst hf
            exact hjj_11
        replace hf := ej_10
        refine z_if_ne C 77 dX0_set_70 (by decide) (fun c_15 => ?_) (fun c_15 => ?_)
        · replace hf := ifp_f c_15 hf
          refine z_aload_n C 1 dX0_set_77 rfl rfl ?_
          refine z_getR C ly_x0 (Cn := RX0) (T := TX0) (N := 8) rfl in_X0 1 (by decide) q320 (Or.inl rfl) rfl dX0_set_78 ?_
          refine z_getIN C (ly_b0 zb100) (Cn := RX2) (T := TX2) (N := 20) rfl in_X2 4 (by decide) q219 (Or.inl rfl) rfl dX0_set_81 ?_
          subst hf
          exact z_lv [1, 2, 3, 0] rfl hjj_10
        · replace hf := ifp_t c_15 hf
          refine z_iload_n C 3 dX0_set_73 rfl rfl ?_
          refine z_goto C 84 dX0_set_74 (by decide) ?_
          subst hf
          exact z_lv [1, 2, 3, 0] rfl hjj_10
      replace hf := ej_9
      refine z_if_ne C 42 dX0_set_29 (by decide) (fun c_16 => ?_) (fun c_16 => ?_)
      · replace hf := ifp_f c_16 hf
        refine z_iload_n C 1 dX0_set_42 rfl rfl ?_
        refine z_iconst C 1 dX0_set_43 (by decide) ?_
        refine z_icmp_ne C 57 dX0_set_44 (by decide) (fun c_17 => ?_) (fun c_17 => ?_)
        · replace hf := ifp_f c_17 hf
          refine z_aload_n C 0 dX0_set_57 rfl rfl ?_
          refine z_getR C ly_x0 (Cn := RX0) (T := TX0) (N := 8) rfl in_X0 1 (by decide) q320 (Or.inl rfl) rfl dX0_set_58 ?_
          refine z_getIN C (ly_b0 zb100) (Cn := RX2) (T := TX2) (N := 20) rfl in_X2 6 (by decide) q226 (Or.inl rfl) rfl dX0_set_61 ?_
          subst hf
          exact hjj_9
        · replace hf := ifp_t c_17 hf
          refine z_aload_n C 0 dX0_set_47 rfl rfl ?_
          refine z_getR C ly_x0 (Cn := RX0) (T := TX0) (N := 8) rfl in_X0 1 (by decide) q320 (Or.inl rfl) rfl dX0_set_48 ?_
          refine z_getIN C (ly_b0 zb100) (Cn := RX2) (T := TX2) (N := 20) rfl in_X2 5 (by decide) q224 (Or.inl rfl) rfl dX0_set_51 ?_
          refine z_goto C 64 dX0_set_54 (by decide) ?_
          subst hf
          exact hjj_9
      · replace hf := ifp_t c_16 hf
        refine z_aload_n C 0 dX0_set_32 rfl rfl ?_
        refine z_getR C ly_x0 (Cn := RX0) (T := TX0) (N := 8) rfl in_X0 1 (by decide) q320 (Or.inl rfl) rfl dX0_set_33 ?_
        refine z_getIN C (ly_b0 zb100) (Cn := RX2) (T := TX2) (N := 20) rfl in_X2 4 (by decide) q219 (Or.inl rfl) rfl dX0_set_36 ?_
        refine z_goto C 64 dX0_set_39 (by decide) ?_
        subst hf
        exact hjj_9
    · dsimp only [sc] at hf
      refine z_callt C (rest := []) (av := (.ref (w.2.2 0) :: [.int j_1, .int 1])) (zPay.of q354 q74) (fun H ls hH h2 => zInv_V C (As := [.int j_1, .int 1]) (rest := []) (ci := 0) (T := TX0) (N := 8) rfl (zSee.fix ly_x0) hH q351 q353 qs1 (Or.inl rfl) q354 mh_X0 np_X0_need dX0_set_25) (tX0_need l w e_5) (Nat.le_of_ble_eq_true rfl) (Nat.le_of_ble_eq_true rfl) ?_
      refine z_catch C [] 0 134 135 8 [] rfl (by decide) (by decide) (by decide) (ci := 1) (Cn := RX1) (T0 := TX1) (N := 7) rfl (zSee.fix ly_x1) q118 ?_
      refine z_astore_n C dX0_set_135 rfl (by decide) rfl (lv' := [(3, .ref (w.2.2 1)), (0, .ref (w.2.2 0)), (1, .int p1), (2, .int p2)]) ?_
      refine z_aload_n C 1 dX0_set_136 rfl rfl ?_
      refine z_aload_n C 0 dX0_set_137 rfl rfl ?_
      obtain ⟨r_18, σ_20, e_19, hf⟩ := bd_ hf
      refine z_calli C (rest := []) (av := (.ref (w.2.2 0) :: [.ref (w.2.2 1)])) (zPay.of q362 q74) (fun H ls hH h2 => zInv_V C (As := [.ref (w.2.2 1)]) (rest := []) (ci := 0) (T := TX0) (N := 8) rfl (zSee.fix ly_x0) hH q359 q361 qs2 (Or.inl rfl) q362 mh_X0 np_X0_finds dX0_set_138) (tX0_finds l w e_19) (Nat.le_of_ble_eq_true rfl) (Nat.le_of_ble_eq_true rfl) ?_
      obtain ⟨rfl, rfl⟩ := fin_ hf
      exact z_iret C rfl dX0_set_141
  replace hf := e_3
  refine z_if_eq C 23 dX0_set_7 (by decide) (fun c_21 => ?_) (fun c_21 => ?_)
  · replace hf := if_t c_21 hf
    refine z_iconst C 0 dX0_set_23 (by decide) ?_
    obtain rfl := fino_ hf
    exact hje_3
  · replace hf := if_f c_21 hf
    refine z_aload_n C 0 dX0_set_10 rfl rfl ?_
    refine z_iload_n C 1 dX0_set_11 rfl rfl ?_
    refine z_iload_n C 2 dX0_set_12 rfl rfl ?_
    obtain ⟨r_22, e_23, hf⟩ := bo_ hf
    refine z_calli C (rest := [.ref (w.2.2 0)]) (av := (.ref (w.2.2 0) :: [.int p1, .int p2])) (zPay.of q444 q74) (fun H ls hH h2 => zInv_V C (As := [.int p1, .int p2]) (rest := [.ref (w.2.2 0)]) (ci := 0) (T := TX0) (N := 8) rfl (zSee.fix ly_x0) hH q441 q443 qs5 (Or.inl rfl) q444 mh_X0 np_X0_isOfBay dX0_set_13) (tX0_isOfBay l w e_23) (Nat.le_of_ble_eq_true rfl) (Nat.le_of_ble_eq_true rfl) ?_
    refine z_if_eq C 23 dX0_set_16 (by decide) (fun c_24 => ?_) (fun c_24 => ?_)
    · replace hf := if_t c_24 hf
      refine z_iconst C 0 dX0_set_23 (by decide) ?_
      obtain rfl := fino_ hf
      exact hje_3
    · replace hf := if_f c_24 hf
      refine z_iconst C 1 dX0_set_19 (by decide) ?_
      refine z_goto C 24 dX0_set_20 (by decide) ?_
      obtain rfl := fino_ hf
      exact hje_3
def fX0_shipOf (w : ZW) (σ : ZS) (p1 : Int32) (p3 : Int32) (p4 : Int32) : Option (Nat × ZS) := if p1 = 1 then (gd (1 ≤ σ.2.2.2.2.1) (gd (3 ≤ σ.2.2.2.2.2) (nm (σ.2.2.2.1) (fun (a_5 : Nat) => nm (sN σ (.inr (9, [.null, .int 0, .int 0])) 3) (fun (σ_4 : ZS) => bd (fX10_init w σ_4 a_5 9 p3 p4) (fun _ σ_9 => some (a_5, σ_9))))))) else (if p1 = 2 then (gd (1 ≤ σ.2.2.2.2.1) (gd (3 ≤ σ.2.2.2.2.2) (nm (σ.2.2.2.1) (fun (a_14 : Nat) => nm (sN σ (.inr (10, [.null, .int 0, .int 0])) 3) (fun (σ_13 : ZS) => bd (fX11_init w σ_13 a_14 10 p3 p4) (fun _ σ_18 => some (a_14, σ_18))))))) else (if p1 = 3 then (gd (1 ≤ σ.2.2.2.2.1) (gd (3 ≤ σ.2.2.2.2.2) (nm (σ.2.2.2.1) (fun (a_23 : Nat) => nm (sN σ (.inr (11, [.null, .int 0, .int 0])) 3) (fun (σ_22 : ZS) => bd (fX12_init w σ_22 a_23 11 p3 p4) (fun _ σ_27 => some (a_23, σ_27))))))) else (if p1 = 4 then (gd (1 ≤ σ.2.2.2.2.1) (gd (3 ≤ σ.2.2.2.2.2) (nm (σ.2.2.2.1) (fun (a_32 : Nat) => nm (sN σ (.inr (12, [.null, .int 0, .int 0])) 3) (fun (σ_31 : ZS) => bd (fX13_init w σ_31 a_32 12 p3 p4) (fun _ σ_36 => some (a_32, σ_36))))))) else (if p1 = 5 then (gd (1 ≤ σ.2.2.2.2.1) (gd (3 ≤ σ.2.2.2.2.2) (nm (σ.2.2.2.1) (fun (a_41 : Nat) => nm (sN σ (.inr (13, [.null, .int 0, .int 0])) 3) (fun (σ_40 : ZS) => bd (fX14_init w σ_40 a_41 13 p3 p4) (fun _ σ_45 => some (a_41, σ_45))))))) else (if p1 = 6 then (gd (1 ≤ σ.2.2.2.2.1) (gd (3 ≤ σ.2.2.2.2.2) (nm (σ.2.2.2.1) (fun (a_50 : Nat) => nm (sN σ (.inr (14, [.null, .int 0, .int 0])) 3) (fun (σ_49 : ZS) => bd (fX15_init w σ_49 a_50 14 p3 p4) (fun _ σ_54 => some (a_50, σ_54))))))) else (gd (p1.toInt < 1 ∨ 6 < p1.toInt) (gd (1 ≤ σ.2.2.2.2.1) (gd (3 ≤ σ.2.2.2.2.2) (nm (σ.2.2.2.1) (fun (a_59 : Nat) => nm (sN σ (.inr (8, [.null, .int 0, .int 0])) 3) (fun (σ_58 : ZS) => bd (fX9_init w σ_58 a_59 8 p3 p4) (fun _ σ_63 => some (a_59, σ_63)))))))))))))
set_option maxHeartbeats 4000000 in
set_option maxRecDepth 100000 in
theorem tX0_shipOf (l : Launch) (w : ZW) {σ σ' : ZS} {p1 : Int32} {p3 : Int32} {p4 : Int32} {r : Nat} (hf : fX0_shipOf w σ p1 p3 p4 = some (r, σ')) : zC l w zLx yX0_shipOf (ws_ yX0_shipOf cX0_shipOf 4 (some (.object "OldLight$Ship"))) 4 58 [.int p1, .ref (w.2.2 4), .int p3, .int p4] σ (.returned (some (.ref r))) σ' := by
  refine zC.of (plainFor_of_name (by decide)) (Nat.le_of_ble_eq_true rfl) ?_
  intro p e s m args below meth c C hnm
  show Z p l e _ s m args below meth c _ w _ _ 4 σ 0 [(0, .int p1), (1, .ref (w.2.2 4)), (2, .int p3), (3, .int p4)] []
  unfold fX0_shipOf at hf
  refine z_iload_n C 0 dX0_shipOf_0 rfl rfl ?_
  by_cases c_1 : p1 = 1
  · replace hf := if_t c_1 hf
    refine z_top c_1.symm ?_
    refine z_tableIn (off := 39) C 40 dX0_shipOf_1 (by decide) (by decide) (by decide) (by decide) ?_
    obtain ⟨g_2, hf⟩ := gd_ hf
    obtain ⟨g_3, hf⟩ := gd_ hf
    refine z_new C (ci := 9) (Cn := RX10) (T := TX10) (N := 3) rfl in_X10 tyX10 tyX10_ok q456 q457 q88 [.null, .int 0, .int 0] (fun j hj => by rcases (show j = 0 ∨ j = 1 ∨ j = 2 by omega) with rfl | rfl | rfl <;> rfl) g_2 g_3 dX0_shipOf_40 ?_
    obtain ⟨a_5, ea_5, hf⟩ := nmo_ hf
    refine z_eq (congrArg Value.ref ea_5.symm) ?_
    obtain ⟨σ_4, eσ_4, hf⟩ := nmo_ hf
    refine z_w eσ_4.symm ?_
    have hP_6 : σ_4.2.2.1 a_5 = some (.inr (9, [.null, .int 0, .int 0])) := by rw [eσ_4, ea_5]; exact sN_self
    refine z_dup C dX0_shipOf_43 rfl ?_
    refine z_aload_n C 1 dX0_shipOf_44 rfl rfl ?_
    refine z_iload_n C 2 dX0_shipOf_45 rfl rfl ?_
    refine z_iload_n C 3 dX0_shipOf_46 rfl rfl ?_
    obtain ⟨⟨⟩, σ_9, e_8, hf⟩ := bd_ hf
    refine z_callv C (rest := [.ref a_5]) (av := (.ref a_5 :: [.ref (w.2.2 4), .int p3, .int p4])) (zPay.of q460 q88) (fun H ls hH h2 => zInv_I C (As := [.ref (w.2.2 4), .int p3, .int p4]) (rest := [.ref a_5]) q458 q459 q460 rfl mh_X10 np_X10_init dX0_shipOf_47) (tX10_init l w (by unfold zShipC; decide) hP_6 e_8) (Nat.le_of_ble_eq_true rfl) (Nat.le_of_ble_eq_true rfl) ?_
    obtain ⟨rfl, rfl⟩ := fin_ hf
    exact z_aret C (Or.inl ⟨_, rfl⟩) (Or.inr ⟨_, rfl⟩) dX0_shipOf_50
  replace hf := if_f c_1 hf
  by_cases c_10 : p1 = 2
  · replace hf := if_t c_10 hf
    refine z_top c_10.symm ?_
    refine z_tableIn (off := 50) C 51 dX0_shipOf_1 (by decide) (by decide) (by decide) (by decide) ?_
    obtain ⟨g_11, hf⟩ := gd_ hf
    obtain ⟨g_12, hf⟩ := gd_ hf
    refine z_new C (ci := 10) (Cn := RX11) (T := TX11) (N := 3) rfl in_X11 tyX11 tyX11_ok q493 q494 q89 [.null, .int 0, .int 0] (fun j hj => by rcases (show j = 0 ∨ j = 1 ∨ j = 2 by omega) with rfl | rfl | rfl <;> rfl) g_11 g_12 dX0_shipOf_51 ?_
    obtain ⟨a_14, ea_14, hf⟩ := nmo_ hf
    refine z_eq (congrArg Value.ref ea_14.symm) ?_
    obtain ⟨σ_13, eσ_13, hf⟩ := nmo_ hf
    refine z_w eσ_13.symm ?_
    have hP_15 : σ_13.2.2.1 a_14 = some (.inr (10, [.null, .int 0, .int 0])) := by rw [eσ_13, ea_14]; exact sN_self
    refine z_dup C dX0_shipOf_54 rfl ?_
    refine z_aload_n C 1 dX0_shipOf_55 rfl rfl ?_
    refine z_iload_n C 2 dX0_shipOf_56 rfl rfl ?_
    refine z_iload_n C 3 dX0_shipOf_57 rfl rfl ?_
    obtain ⟨⟨⟩, σ_18, e_17, hf⟩ := bd_ hf
    refine z_callv C (rest := [.ref a_14]) (av := (.ref a_14 :: [.ref (w.2.2 4), .int p3, .int p4])) (zPay.of q497 q89) (fun H ls hH h2 => zInv_I C (As := [.ref (w.2.2 4), .int p3, .int p4]) (rest := [.ref a_14]) q495 q496 q497 rfl mh_X11 np_X11_init dX0_shipOf_58) (tX11_init l w (by unfold zShipC; decide) hP_15 e_17) (Nat.le_of_ble_eq_true rfl) (Nat.le_of_ble_eq_true rfl) ?_
    obtain ⟨rfl, rfl⟩ := fin_ hf
    exact z_aret C (Or.inl ⟨_, rfl⟩) (Or.inr ⟨_, rfl⟩) dX0_shipOf_61
  replace hf := if_f c_10 hf
  by_cases c_19 : p1 = 3
  · replace hf := if_t c_19 hf
    refine z_top c_19.symm ?_
    refine z_tableIn (off := 61) C 62 dX0_shipOf_1 (by decide) (by decide) (by decide) (by decide) ?_
    obtain ⟨g_20, hf⟩ := gd_ hf
    obtain ⟨g_21, hf⟩ := gd_ hf
    refine z_new C (ci := 11) (Cn := RX12) (T := TX12) (N := 3) rfl in_X12 tyX12 tyX12_ok q503 q504 q90 [.null, .int 0, .int 0] (fun j hj => by rcases (show j = 0 ∨ j = 1 ∨ j = 2 by omega) with rfl | rfl | rfl <;> rfl) g_20 g_21 dX0_shipOf_62 ?_
    obtain ⟨a_23, ea_23, hf⟩ := nmo_ hf
    refine z_eq (congrArg Value.ref ea_23.symm) ?_
    obtain ⟨σ_22, eσ_22, hf⟩ := nmo_ hf
    refine z_w eσ_22.symm ?_
    have hP_24 : σ_22.2.2.1 a_23 = some (.inr (11, [.null, .int 0, .int 0])) := by rw [eσ_22, ea_23]; exact sN_self
    refine z_dup C dX0_shipOf_65 rfl ?_
    refine z_aload_n C 1 dX0_shipOf_66 rfl rfl ?_
    refine z_iload_n C 2 dX0_shipOf_67 rfl rfl ?_
    refine z_iload_n C 3 dX0_shipOf_68 rfl rfl ?_
    obtain ⟨⟨⟩, σ_27, e_26, hf⟩ := bd_ hf
    refine z_callv C (rest := [.ref a_23]) (av := (.ref a_23 :: [.ref (w.2.2 4), .int p3, .int p4])) (zPay.of q507 q90) (fun H ls hH h2 => zInv_I C (As := [.ref (w.2.2 4), .int p3, .int p4]) (rest := [.ref a_23]) q505 q506 q507 rfl mh_X12 np_X12_init dX0_shipOf_69) (tX12_init l w (by unfold zShipC; decide) hP_24 e_26) (Nat.le_of_ble_eq_true rfl) (Nat.le_of_ble_eq_true rfl) ?_
    obtain ⟨rfl, rfl⟩ := fin_ hf
    exact z_aret C (Or.inl ⟨_, rfl⟩) (Or.inr ⟨_, rfl⟩) dX0_shipOf_72
  replace hf := if_f c_19 hf
  by_cases c_28 : p1 = 4
  · replace hf := if_t c_28 hf
    refine z_top c_28.symm ?_
    refine z_tableIn (off := 72) C 73 dX0_shipOf_1 (by decide) (by decide) (by decide) (by decide) ?_
    obtain ⟨g_29, hf⟩ := gd_ hf
    obtain ⟨g_30, hf⟩ := gd_ hf
    refine z_new C (ci := 12) (Cn := RX13) (T := TX13) (N := 3) rfl in_X13 tyX13 tyX13_ok q513 q514 q91 [.null, .int 0, .int 0] (fun j hj => by rcases (show j = 0 ∨ j = 1 ∨ j = 2 by omega) with rfl | rfl | rfl <;> rfl) g_29 g_30 dX0_shipOf_73 ?_
    obtain ⟨a_32, ea_32, hf⟩ := nmo_ hf
    refine z_eq (congrArg Value.ref ea_32.symm) ?_
    obtain ⟨σ_31, eσ_31, hf⟩ := nmo_ hf
    refine z_w eσ_31.symm ?_
    have hP_33 : σ_31.2.2.1 a_32 = some (.inr (12, [.null, .int 0, .int 0])) := by rw [eσ_31, ea_32]; exact sN_self
    refine z_dup C dX0_shipOf_76 rfl ?_
    refine z_aload_n C 1 dX0_shipOf_77 rfl rfl ?_
    refine z_iload_n C 2 dX0_shipOf_78 rfl rfl ?_
    refine z_iload_n C 3 dX0_shipOf_79 rfl rfl ?_
    obtain ⟨⟨⟩, σ_36, e_35, hf⟩ := bd_ hf
    refine z_callv C (rest := [.ref a_32]) (av := (.ref a_32 :: [.ref (w.2.2 4), .int p3, .int p4])) (zPay.of q517 q91) (fun H ls hH h2 => zInv_I C (As := [.ref (w.2.2 4), .int p3, .int p4]) (rest := [.ref a_32]) q515 q516 q517 rfl mh_X13 np_X13_init dX0_shipOf_80) (tX13_init l w (by unfold zShipC; decide) hP_33 e_35) (Nat.le_of_ble_eq_true rfl) (Nat.le_of_ble_eq_true rfl) ?_
    obtain ⟨rfl, rfl⟩ := fin_ hf
    exact z_aret C (Or.inl ⟨_, rfl⟩) (Or.inr ⟨_, rfl⟩) dX0_shipOf_83
  replace hf := if_f c_28 hf
  by_cases c_37 : p1 = 5
  · replace hf := if_t c_37 hf
    refine z_top c_37.symm ?_
    refine z_tableIn (off := 83) C 84 dX0_shipOf_1 (by decide) (by decide) (by decide) (by decide) ?_
    obtain ⟨g_38, hf⟩ := gd_ hf
    obtain ⟨g_39, hf⟩ := gd_ hf
    refine z_new C (ci := 13) (Cn := RX14) (T := TX14) (N := 3) rfl in_X14 tyX14 tyX14_ok q523 q524 q92 [.null, .int 0, .int 0] (fun j hj => by rcases (show j = 0 ∨ j = 1 ∨ j = 2 by omega) with rfl | rfl | rfl <;> rfl) g_38 g_39 dX0_shipOf_84 ?_
    obtain ⟨a_41, ea_41, hf⟩ := nmo_ hf
    refine z_eq (congrArg Value.ref ea_41.symm) ?_
    obtain ⟨σ_40, eσ_40, hf⟩ := nmo_ hf
    refine z_w eσ_40.symm ?_
    have hP_42 : σ_40.2.2.1 a_41 = some (.inr (13, [.null, .int 0, .int 0])) := by rw [eσ_40, ea_41]; exact sN_self
    refine z_dup C dX0_shipOf_87 rfl ?_
    refine z_aload_n C 1 dX0_shipOf_88 rfl rfl ?_
    refine z_iload_n C 2 dX0_shipOf_89 rfl rfl ?_
    refine z_iload_n C 3 dX0_shipOf_90 rfl rfl ?_
    obtain ⟨⟨⟩, σ_45, e_44, hf⟩ := bd_ hf
    refine z_callv C (rest := [.ref a_41]) (av := (.ref a_41 :: [.ref (w.2.2 4), .int p3, .int p4])) (zPay.of q527 q92) (fun H ls hH h2 => zInv_I C (As := [.ref (w.2.2 4), .int p3, .int p4]) (rest := [.ref a_41]) q525 q526 q527 rfl mh_X14 np_X14_init dX0_shipOf_91) (tX14_init l w (by unfold zShipC; decide) hP_42 e_44) (Nat.le_of_ble_eq_true rfl) (Nat.le_of_ble_eq_true rfl) ?_
    obtain ⟨rfl, rfl⟩ := fin_ hf
    exact z_aret C (Or.inl ⟨_, rfl⟩) (Or.inr ⟨_, rfl⟩) dX0_shipOf_94
  replace hf := if_f c_37 hf
  by_cases c_46 : p1 = 6
  · replace hf := if_t c_46 hf
    refine z_top c_46.symm ?_
    refine z_tableIn (off := 94) C 95 dX0_shipOf_1 (by decide) (by decide) (by decide) (by decide) ?_
    obtain ⟨g_47, hf⟩ := gd_ hf
    obtain ⟨g_48, hf⟩ := gd_ hf
    refine z_new C (ci := 14) (Cn := RX15) (T := TX15) (N := 3) rfl in_X15 tyX15 tyX15_ok q533 q534 q93 [.null, .int 0, .int 0] (fun j hj => by rcases (show j = 0 ∨ j = 1 ∨ j = 2 by omega) with rfl | rfl | rfl <;> rfl) g_47 g_48 dX0_shipOf_95 ?_
    obtain ⟨a_50, ea_50, hf⟩ := nmo_ hf
    refine z_eq (congrArg Value.ref ea_50.symm) ?_
    obtain ⟨σ_49, eσ_49, hf⟩ := nmo_ hf
    refine z_w eσ_49.symm ?_
    have hP_51 : σ_49.2.2.1 a_50 = some (.inr (14, [.null, .int 0, .int 0])) := by rw [eσ_49, ea_50]; exact sN_self
    refine z_dup C dX0_shipOf_98 rfl ?_
    refine z_aload_n C 1 dX0_shipOf_99 rfl rfl ?_
    refine z_iload_n C 2 dX0_shipOf_100 rfl rfl ?_
    refine z_iload_n C 3 dX0_shipOf_101 rfl rfl ?_
    obtain ⟨⟨⟩, σ_54, e_53, hf⟩ := bd_ hf
    refine z_callv C (rest := [.ref a_50]) (av := (.ref a_50 :: [.ref (w.2.2 4), .int p3, .int p4])) (zPay.of q537 q93) (fun H ls hH h2 => zInv_I C (As := [.ref (w.2.2 4), .int p3, .int p4]) (rest := [.ref a_50]) q535 q536 q537 rfl mh_X15 np_X15_init dX0_shipOf_102) (tX15_init l w (by unfold zShipC; decide) hP_51 e_53) (Nat.le_of_ble_eq_true rfl) (Nat.le_of_ble_eq_true rfl) ?_
    obtain ⟨rfl, rfl⟩ := fin_ hf
    exact z_aret C (Or.inl ⟨_, rfl⟩) (Or.inr ⟨_, rfl⟩) dX0_shipOf_105
  replace hf := if_f c_46 hf
  obtain ⟨g_55, hf⟩ := gd_ hf
  refine z_tableOut C 106 dX0_shipOf_1 g_55 (by decide) ?_
  obtain ⟨g_56, hf⟩ := gd_ hf
  obtain ⟨g_57, hf⟩ := gd_ hf
  refine z_new C (ci := 8) (Cn := RX9) (T := TX9) (N := 3) rfl in_X9 tyX9 tyX9_ok q543 q544 q87 [.null, .int 0, .int 0] (fun j hj => by rcases (show j = 0 ∨ j = 1 ∨ j = 2 by omega) with rfl | rfl | rfl <;> rfl) g_56 g_57 dX0_shipOf_106 ?_
  obtain ⟨a_59, ea_59, hf⟩ := nmo_ hf
  refine z_eq (congrArg Value.ref ea_59.symm) ?_
  obtain ⟨σ_58, eσ_58, hf⟩ := nmo_ hf
  refine z_w eσ_58.symm ?_
  have hP_60 : σ_58.2.2.1 a_59 = some (.inr (8, [.null, .int 0, .int 0])) := by rw [eσ_58, ea_59]; exact sN_self
  refine z_dup C dX0_shipOf_109 rfl ?_
  refine z_aload_n C 1 dX0_shipOf_110 rfl rfl ?_
  refine z_iload_n C 2 dX0_shipOf_111 rfl rfl ?_
  refine z_iload_n C 3 dX0_shipOf_112 rfl rfl ?_
  obtain ⟨⟨⟩, σ_63, e_62, hf⟩ := bd_ hf
  refine z_callv C (rest := [.ref a_59]) (av := (.ref a_59 :: [.ref (w.2.2 4), .int p3, .int p4])) (zPay.of q463 q87) (fun H ls hH h2 => zInv_I C (As := [.ref (w.2.2 4), .int p3, .int p4]) (rest := [.ref a_59]) q545 q462 q463 rfl mh_X9 np_X9_init dX0_shipOf_113) (tX9_init l w (by unfold zShipC; decide) hP_60 e_62) (Nat.le_of_ble_eq_true rfl) (Nat.le_of_ble_eq_true rfl) ?_
  obtain ⟨rfl, rfl⟩ := fin_ hf
  exact z_aret C (Or.inl ⟨_, rfl⟩) (Or.inr ⟨_, rfl⟩) dX0_shipOf_116
def fX0_become (w : ZW) (σ : ZS) (p1 : Int32) (p2 : Int32) : Option (Int32 × ZS) := bd (fX0_shipAt σ p1 (fX0_in p2 0 69)) (fun r_1 σ_3 => sc r_1 (fun (r_4 : Nat) => bd (fX0_shipOf w σ_3 (p2 / 10) p1 (p2 - p2 / 10 * 10)) (fun r_6 σ_8 => bo (oShip w (σ_8.2.2.1 r_6)) (fun ss9 => gd (¬ (p1 < 0 ∨ 7 ≤ p1.toNatClampNeg)) (bo (oShip w (σ_8.2.2.1 r_4)) (fun ss16 => bo (fS_Ship_kind w (sG σ_8 (100 + 10) (p1.toNatClampNeg) (some r_6)) r_4 (ss16.1) (ss16.2.1) (ss16.2.2) ) (fun r_22 => some (r_22, sG σ_8 (100 + 10) (p1.toNatClampNeg) (some r_6)))))))) (fun _ => bd (fX0_finds σ_3) (fun r_24 σ_26 => some (r_24, σ_26))))
set_option maxHeartbeats 4000000 in
set_option maxRecDepth 100000 in
theorem tX0_become (l : Launch) (w : ZW) {σ σ' : ZS} {p1 : Int32} {p2 : Int32} {r : Int32} (hf : fX0_become w σ p1 p2 = some (r, σ')) : zC l w zLx yX0_become (wsW_ yX0_become cX0_become 4 (some .int) [(0, 42, 43, 8)]) 5 75 [.ref (w.2.2 0), .int p1, .int p2] σ (.returned (some (.int r))) σ' := by
  refine zC.ofW (plainFor_of_name (by decide)) (Nat.le_of_ble_eq_true rfl) ?_
  intro p e s m args below meth c C hnm
  show Z p l e _ s m args below meth c _ w _ _ 4 σ 0 [(0, .ref (w.2.2 0)), (1, .int p1), (2, .int p2)] []
  unfold fX0_become at hf
  refine z_aload_n C 0 dX0_become_0 rfl rfl ?_
  refine z_iload_n C 1 dX0_become_1 rfl rfl ?_
  refine z_iload_n C 2 dX0_become_2 rfl rfl ?_
  refine z_iconst C 0 dX0_become_3 (by decide) ?_
  refine z_bipush C 69 dX0_become_4 (by decide) ?_
  refine z_calli C (rest := [.int p1, .ref (w.2.2 0)]) (av := [.int p2, .int 0, .int 69]) (zPay.of q350 q74) (fun H ls hH h2 => zInv_S C (As := [.int p2, .int 0, .int 69]) (rest := [.int p1, .ref (w.2.2 0)]) q348 q349 q74 (Or.inl rfl) q350 mh_X0 np_X0_in dX0_become_6) (tX0_in l w zLx σ p2 0 69) (Nat.le_of_ble_eq_true rfl) (Nat.le_of_ble_eq_true rfl) ?_
  obtain ⟨r_1, σ_3, e_2, hf⟩ := bd_ hf
  rcases r_1 with r_4 | ⟨⟩
  · dsimp only [sc] at hf
    refine z_callr C (rest := []) (av := (.ref (w.2.2 0) :: [.int p1, .int (fX0_in p2 0 69)])) (zPay.of q557 q74) (fun H ls hH h2 => zInv_V C (As := [.int p1, .int (fX0_in p2 0 69)]) (rest := []) (ci := 0) (T := TX0) (N := 8) rfl (zSee.fix ly_x0) hH q554 q556 qs7 (Or.inl rfl) q557 mh_X0 np_X0_shipAt dX0_become_9) (tX0_shipAt l w e_2) (Nat.le_of_ble_eq_true rfl) (Nat.le_of_ble_eq_true rfl) ?_
    refine z_astore_n C dX0_become_12 rfl (by decide) rfl (lv' := [(3, .ref r_4), (0, .ref (w.2.2 0)), (1, .int p1), (2, .int p2)]) ?_
    refine z_aload_n C 1 dX0_become_13 rfl rfl ?_
    refine z_getR C ly_x0 (Cn := RX0) (T := TX0) (N := 8) rfl in_X0 1 (by decide) q320 (Or.inl rfl) rfl dX0_become_14 ?_
    refine z_getRN C (ly_b0 zb100) (Cn := RX2) (T := TX2) (N := 20) rfl in_X2 9 (by decide) q232 (Or.inl rfl) rfl dX0_become_17 ?_
    refine z_iload_n C 2 dX0_become_20 rfl rfl ?_
    refine z_iload_n C 3 dX0_become_21 rfl rfl ?_
    refine z_bipush C 10 dX0_become_22 (by decide) ?_
    refine z_idiv C dX0_become_24 (by decide) ?_
    refine z_aload_n C 1 dX0_become_25 rfl rfl ?_
    refine z_getR C ly_x0 (Cn := RX0) (T := TX0) (N := 8) rfl in_X0 5 (by decide) q324 (Or.inl rfl) rfl dX0_become_26 ?_
    refine z_iload_n C 2 dX0_become_29 rfl rfl ?_
    refine z_iload_n C 3 dX0_become_30 rfl rfl ?_
    refine z_bipush C 10 dX0_become_31 (by decide) ?_
    refine z_irem C dX0_become_33 (by decide) ?_
    obtain ⟨r_6, σ_8, e_7, hf⟩ := bd_ hf
    refine z_callr C (rest := [.int p1, .ref (w.2.2 (100 + 10))]) (av := [.int (p2 / 10), .ref (w.2.2 4), .int p1, .int (p2 - p2 / 10 * 10)]) (zPay.of q455 q74) (fun H ls hH h2 => zInv_S C (As := [.int (p2 / 10), .ref (w.2.2 4), .int p1, .int (p2 - p2 / 10 * 10)]) (rest := [.int p1, .ref (w.2.2 (100 + 10))]) q453 q454 q74 (Or.inl rfl) q455 mh_X0 np_X0_shipOf dX0_become_34) (tX0_shipOf l w e_7) (Nat.le_of_ble_eq_true rfl) (Nat.le_of_ble_eq_true rfl) ?_
    obtain ⟨⟨ci_9, n_10, k_11⟩, e_12, hf⟩ := bo_ hf
    try dsimp only at hf
    obtain ⟨hP_13, hci_14⟩ := oShip_ e_12
    obtain ⟨g_15, hf⟩ := gd_ hf
    refine z_aastoreS C hci_14 hP_13 (ly_b10 zb100) g_15 dX0_become_37 ?_
    refine z_aload_n C 0 dX0_become_38 rfl rfl ?_
    obtain ⟨⟨ci_16, n_17, k_18⟩, e_19, hf⟩ := bo_ hf
    try dsimp only at hf
    obtain ⟨hP_20, hci_21⟩ := oShip_ e_19
    obtain ⟨r_22, e_23, hf⟩ := bo_ hf
    refine z_S_Ship_kind C hci_21 hP_20 q562  e_23 dX0_become_39 (Nat.le_of_ble_eq_true rfl) (Nat.le_of_ble_eq_true rfl) ?_
    obtain ⟨rfl, rfl⟩ := fin_ hf
    exact z_iret C rfl dX0_become_42
  · dsimp only [sc] at hf
    refine z_callt C (rest := []) (av := (.ref (w.2.2 0) :: [.int p1, .int (fX0_in p2 0 69)])) (zPay.of q557 q74) (fun H ls hH h2 => zInv_V C (As := [.int p1, .int (fX0_in p2 0 69)]) (rest := []) (ci := 0) (T := TX0) (N := 8) rfl (zSee.fix ly_x0) hH q554 q556 qs7 (Or.inl rfl) q557 mh_X0 np_X0_shipAt dX0_become_9) (tX0_shipAt l w e_2) (Nat.le_of_ble_eq_true rfl) (Nat.le_of_ble_eq_true rfl) ?_
    refine z_catch C [] 0 42 43 8 [] rfl (by decide) (by decide) (by decide) (ci := 1) (Cn := RX1) (T0 := TX1) (N := 7) rfl (zSee.fix ly_x1) q118 ?_
    refine z_astore_n C dX0_become_43 rfl (by decide) rfl (lv' := [(3, .ref (w.2.2 1)), (0, .ref (w.2.2 0)), (1, .int p1), (2, .int p2)]) ?_
    refine z_aload_n C 1 dX0_become_44 rfl rfl ?_
    refine z_aload_n C 0 dX0_become_45 rfl rfl ?_
    obtain ⟨r_24, σ_26, e_25, hf⟩ := bd_ hf
    refine z_calli C (rest := []) (av := (.ref (w.2.2 0) :: [.ref (w.2.2 1)])) (zPay.of q362 q74) (fun H ls hH h2 => zInv_V C (As := [.ref (w.2.2 1)]) (rest := []) (ci := 0) (T := TX0) (N := 8) rfl (zSee.fix ly_x0) hH q359 q361 qs2 (Or.inl rfl) q362 mh_X0 np_X0_finds dX0_become_46) (tX0_finds l w e_25) (Nat.le_of_ble_eq_true rfl) (Nat.le_of_ble_eq_true rfl) ?_
    obtain ⟨rfl, rfl⟩ := fin_ hf
    exact z_iret C rfl dX0_become_49
def fX0_as (w : ZW) (σ : ZS) (p1 : Int32) (p2 : Int32) : Option (Int32 × ZS) := bd (fX0_shipAt σ p1 (fX0_in p2 0 6)) (fun r_1 σ_3 => sc r_1 (fun (r_4 : Nat) => bo (oShip w (σ_3.2.2.1 r_4)) (fun ss6 => bo (fS_Ship_isOf w σ_3 r_4 (ss6.1) (ss6.2.1) (ss6.2.2) p2) (fun r_12 => bd (fX0_need σ_3 r_12 5) (fun r_14 σ_16 => sc r_14 (fun _ => gd (oShip w (σ_16.2.2.1 r_4) = some ((ss6.1), (ss6.2.1), (ss6.2.2))) (some ((ss6.2.2), σ_16))) (fun _ => bd (fX0_finds σ_16) (fun r_21 σ_23 => some (r_21, σ_23))))))) (fun _ => bd (fX0_finds σ_3) (fun r_24 σ_26 => some (r_24, σ_26))))
set_option maxHeartbeats 4000000 in
set_option maxRecDepth 100000 in
theorem tX0_as (l : Launch) (w : ZW) {σ σ' : ZS} {p1 : Int32} {p2 : Int32} {r : Int32} (hf : fX0_as w σ p1 p2 = some (r, σ')) : zC l w zLx yX0_as (wsW_ yX0_as cX0_as 4 (some .int) [(0, 27, 28, 8)]) 3 42 [.ref (w.2.2 0), .int p1, .int p2] σ (.returned (some (.int r))) σ' := by
  refine zC.ofW (plainFor_of_name (by decide)) (Nat.le_of_ble_eq_true rfl) ?_
  intro p e s m args below meth c C hnm
  show Z p l e _ s m args below meth c _ w _ _ 4 σ 0 [(0, .ref (w.2.2 0)), (1, .int p1), (2, .int p2)] []
  unfold fX0_as at hf
  refine z_aload_n C 0 dX0_as_0 rfl rfl ?_
  refine z_iload_n C 1 dX0_as_1 rfl rfl ?_
  refine z_iload_n C 2 dX0_as_2 rfl rfl ?_
  refine z_iconst C 0 dX0_as_3 (by decide) ?_
  refine z_bipush C 6 dX0_as_4 (by decide) ?_
  refine z_calli C (rest := [.int p1, .ref (w.2.2 0)]) (av := [.int p2, .int 0, .int 6]) (zPay.of q350 q74) (fun H ls hH h2 => zInv_S C (As := [.int p2, .int 0, .int 6]) (rest := [.int p1, .ref (w.2.2 0)]) q348 q349 q74 (Or.inl rfl) q350 mh_X0 np_X0_in dX0_as_6) (tX0_in l w zLx σ p2 0 6) (Nat.le_of_ble_eq_true rfl) (Nat.le_of_ble_eq_true rfl) ?_
  obtain ⟨r_1, σ_3, e_2, hf⟩ := bd_ hf
  rcases r_1 with r_4 | ⟨⟩
  · dsimp only [sc] at hf
    refine z_callr C (rest := []) (av := (.ref (w.2.2 0) :: [.int p1, .int (fX0_in p2 0 6)])) (zPay.of q557 q74) (fun H ls hH h2 => zInv_V C (As := [.int p1, .int (fX0_in p2 0 6)]) (rest := []) (ci := 0) (T := TX0) (N := 8) rfl (zSee.fix ly_x0) hH q554 q556 qs7 (Or.inl rfl) q557 mh_X0 np_X0_shipAt dX0_as_9) (tX0_shipAt l w e_2) (Nat.le_of_ble_eq_true rfl) (Nat.le_of_ble_eq_true rfl) ?_
    refine z_astore_n C dX0_as_12 rfl (by decide) rfl (lv' := [(3, .ref r_4), (0, .ref (w.2.2 0)), (1, .int p1), (2, .int p2)]) ?_
    refine z_aload_n C 1 dX0_as_13 rfl rfl ?_
    refine z_aload_n C 0 dX0_as_14 rfl rfl ?_
    refine z_iload_n C 3 dX0_as_15 rfl rfl ?_
    obtain ⟨⟨ci_6, n_7, k_8⟩, e_9, hf⟩ := bo_ hf
    try dsimp only at hf
    obtain ⟨hP_10, hci_11⟩ := oShip_ e_9
    obtain ⟨r_12, e_13, hf⟩ := bo_ hf
    refine z_S_Ship_isOf C hci_11 hP_10 q641  e_13 dX0_as_16 (Nat.le_of_ble_eq_true rfl) (Nat.le_of_ble_eq_true rfl) ?_
    refine z_iconst C 5 dX0_as_19 (by decide) ?_
    obtain ⟨r_14, σ_16, e_15, hf⟩ := bd_ hf
    rcases r_14 with ⟨⟩ | ⟨⟩
    · dsimp only [sc] at hf
      refine z_callv C (rest := []) (av := (.ref (w.2.2 0) :: [.int r_12, .int 5])) (zPay.of q354 q74) (fun H ls hH h2 => zInv_V C (As := [.int r_12, .int 5]) (rest := []) (ci := 0) (T := TX0) (N := 8) rfl (zSee.fix ly_x0) hH q351 q353 qs1 (Or.inl rfl) q354 mh_X0 np_X0_need dX0_as_20) (tX0_need l w e_15) (Nat.le_of_ble_eq_true rfl) (Nat.le_of_ble_eq_true rfl) ?_
      refine z_aload_n C 0 dX0_as_23 rfl rfl ?_
      obtain ⟨g_19, hf⟩ := gd_ hf
      have hP_20 := (oShip_ g_19).1
      refine z_getS2 C hci_11 hP_20 q485 (Or.inl rfl) dX0_as_24 ?_
      obtain ⟨rfl, rfl⟩ := fin_ hf
      exact z_iret C rfl dX0_as_27
    · dsimp only [sc] at hf
      refine z_callt C (rest := []) (av := (.ref (w.2.2 0) :: [.int r_12, .int 5])) (zPay.of q354 q74) (fun H ls hH h2 => zInv_V C (As := [.int r_12, .int 5]) (rest := []) (ci := 0) (T := TX0) (N := 8) rfl (zSee.fix ly_x0) hH q351 q353 qs1 (Or.inl rfl) q354 mh_X0 np_X0_need dX0_as_20) (tX0_need l w e_15) (Nat.le_of_ble_eq_true rfl) (Nat.le_of_ble_eq_true rfl) ?_
      refine z_catch C [] 0 27 28 8 [] rfl (by decide) (by decide) (by decide) (ci := 1) (Cn := RX1) (T0 := TX1) (N := 7) rfl (zSee.fix ly_x1) q118 ?_
      refine z_astore_n C dX0_as_28 rfl (by decide) rfl (lv' := [(3, .ref (w.2.2 1)), (0, .ref (w.2.2 0)), (1, .int p1), (2, .int p2)]) ?_
      refine z_aload_n C 1 dX0_as_29 rfl rfl ?_
      refine z_aload_n C 0 dX0_as_30 rfl rfl ?_
      obtain ⟨r_21, σ_23, e_22, hf⟩ := bd_ hf
      refine z_calli C (rest := []) (av := (.ref (w.2.2 0) :: [.ref (w.2.2 1)])) (zPay.of q362 q74) (fun H ls hH h2 => zInv_V C (As := [.ref (w.2.2 1)]) (rest := []) (ci := 0) (T := TX0) (N := 8) rfl (zSee.fix ly_x0) hH q359 q361 qs2 (Or.inl rfl) q362 mh_X0 np_X0_finds dX0_as_31) (tX0_finds l w e_22) (Nat.le_of_ble_eq_true rfl) (Nat.le_of_ble_eq_true rfl) ?_
      obtain ⟨rfl, rfl⟩ := fin_ hf
      exact z_iret C rfl dX0_as_34
  · dsimp only [sc] at hf
    refine z_callt C (rest := []) (av := (.ref (w.2.2 0) :: [.int p1, .int (fX0_in p2 0 6)])) (zPay.of q557 q74) (fun H ls hH h2 => zInv_V C (As := [.int p1, .int (fX0_in p2 0 6)]) (rest := []) (ci := 0) (T := TX0) (N := 8) rfl (zSee.fix ly_x0) hH q554 q556 qs7 (Or.inl rfl) q557 mh_X0 np_X0_shipAt dX0_as_9) (tX0_shipAt l w e_2) (Nat.le_of_ble_eq_true rfl) (Nat.le_of_ble_eq_true rfl) ?_
    refine z_catch C [] 0 27 28 8 [] rfl (by decide) (by decide) (by decide) (ci := 1) (Cn := RX1) (T0 := TX1) (N := 7) rfl (zSee.fix ly_x1) q118 ?_
    refine z_astore_n C dX0_as_28 rfl (by decide) rfl (lv' := [(3, .ref (w.2.2 1)), (0, .ref (w.2.2 0)), (1, .int p1), (2, .int p2)]) ?_
    refine z_aload_n C 1 dX0_as_29 rfl rfl ?_
    refine z_aload_n C 0 dX0_as_30 rfl rfl ?_
    obtain ⟨r_24, σ_26, e_25, hf⟩ := bd_ hf
    refine z_calli C (rest := []) (av := (.ref (w.2.2 0) :: [.ref (w.2.2 1)])) (zPay.of q362 q74) (fun H ls hH h2 => zInv_V C (As := [.ref (w.2.2 1)]) (rest := []) (ci := 0) (T := TX0) (N := 8) rfl (zSee.fix ly_x0) hH q359 q361 qs2 (Or.inl rfl) q362 mh_X0 np_X0_finds dX0_as_31) (tX0_finds l w e_25) (Nat.le_of_ble_eq_true rfl) (Nat.le_of_ble_eq_true rfl) ?_
    obtain ⟨rfl, rfl⟩ := fin_ hf
    exact z_iret C rfl dX0_as_34
def fX0_law (σ : ZS) (p1 : Int32) (p2 : Int32) (p3 : Int32) (p4 : Int32) : Option (Int32 × ZS) := bd (fX0_need σ (fX0_in p1 0 1) 1) (fun r_1 σ_3 => sc r_1 (fun _ => bd (if p1 = 0 then (bd (fX2_depthBy σ_3 100 p2 p3 p4) (fun r_13 σ_15 => some (r_13, σ_15))) else (bd (fX2_elseBy σ_3 100 p2 p3 p4) (fun r_10 σ_12 => some (r_10, σ_12)))) (fun (j_6 : Int32) σ_7 => some (j_6, σ_7))) (fun _ => bd (fX0_finds σ_3) (fun r_16 σ_18 => some (r_16, σ_18))))
set_option maxHeartbeats 4000000 in
set_option maxRecDepth 100000 in
theorem tX0_law (l : Launch) (w : ZW) {σ σ' : ZS} {p1 : Int32} {p2 : Int32} {p3 : Int32} {p4 : Int32} {r : Int32} (hf : fX0_law σ p1 p2 p3 p4 = some (r, σ')) : zC l w zLx yX0_law (wsW_ yX0_law cX0_law 6 (some .int) [(0, 40, 41, 8)]) 722 6031 [.ref (w.2.2 0), .int p1, .int p2, .int p3, .int p4] σ (.returned (some (.int r))) σ' := by
  refine zC.ofW (plainFor_of_name (by decide)) (Nat.le_of_ble_eq_true rfl) ?_
  intro p e s m args below meth c C hnm
  show Z p l e _ s m args below meth c _ w _ _ 6 σ 0 [(0, .ref (w.2.2 0)), (1, .int p1), (2, .int p2), (3, .int p3), (4, .int p4)] []
  unfold fX0_law at hf
  refine z_aload_n C 0 dX0_law_0 rfl rfl ?_
  refine z_iload_n C 1 dX0_law_1 rfl rfl ?_
  refine z_iconst C 0 dX0_law_2 (by decide) ?_
  refine z_iconst C 1 dX0_law_3 (by decide) ?_
  refine z_calli C (rest := [.ref (w.2.2 0)]) (av := [.int p1, .int 0, .int 1]) (zPay.of q350 q74) (fun H ls hH h2 => zInv_S C (As := [.int p1, .int 0, .int 1]) (rest := [.ref (w.2.2 0)]) q348 q349 q74 (Or.inl rfl) q350 mh_X0 np_X0_in dX0_law_4) (tX0_in l w zLx σ p1 0 1) (Nat.le_of_ble_eq_true rfl) (Nat.le_of_ble_eq_true rfl) ?_
  refine z_iconst C 1 dX0_law_7 (by decide) ?_
  obtain ⟨r_1, σ_3, e_2, hf⟩ := bd_ hf
  rcases r_1 with ⟨⟩ | ⟨⟩
  · dsimp only [sc] at hf
    refine z_callv C (rest := []) (av := (.ref (w.2.2 0) :: [.int (fX0_in p1 0 1), .int 1])) (zPay.of q354 q74) (fun H ls hH h2 => zInv_V C (As := [.int (fX0_in p1 0 1), .int 1]) (rest := []) (ci := 0) (T := TX0) (N := 8) rfl (zSee.fix ly_x0) hH q351 q353 qs1 (Or.inl rfl) q354 mh_X0 np_X0_need dX0_law_8) (tX0_need l w e_2) (Nat.le_of_ble_eq_true rfl) (Nat.le_of_ble_eq_true rfl) ?_
    refine z_iload_n C 1 dX0_law_11 rfl rfl ?_
    obtain ⟨j_6, σ_7, e_8, hf⟩ := bd_ hf
    have hje_8 : Z p l e (zRm 722 6031 σ) s m args below meth c (zQ below w zLx σ (.returned (some (.int r))) σ' args s) w zLx (zA w zLx σ) 6 σ_7 40 [(0, .ref (w.2.2 0)), (1, .int p1), (2, .int p2), (3, .int p3), (4, .int p4)] [.int j_6] := by
      obtain ⟨rfl, rfl⟩ := fin_ hf
      exact z_iret C rfl dX0_law_40
    replace hf := e_8
    refine z_if_ne C 29 dX0_law_12 (by decide) (fun c_9 => ?_) (fun c_9 => ?_)
    · replace hf := if_f c_9 hf
      refine z_aload_n C 0 dX0_law_29 rfl rfl ?_
      refine z_getR C ly_x0 (Cn := RX0) (T := TX0) (N := 8) rfl in_X0 1 (by decide) q320 (Or.inl rfl) rfl dX0_law_30 ?_
      refine z_iload_n C 2 dX0_law_33 rfl rfl ?_
      refine z_iload_n C 3 dX0_law_34 rfl rfl ?_
      refine z_iload C 4 dX0_law_35 rfl ?_
      obtain ⟨r_10, σ_12, e_11, hf⟩ := bd_ hf
      refine z_calli C (rest := []) (av := (.ref (w.2.2 100) :: [.int p2, .int p3, .int p4])) (zPay.of q913 q79) (fun H ls hH h2 => zInv_V C (As := [.int p2, .int p3, .int p4]) (rest := []) (ci := 2) (T := TX2) (N := 20) rfl (zSee.fix (ly_b0 zb100)) hH q910 q911 q912 (Or.inl rfl) q913 mh_X2 np_X2_elseBy dX0_law_37) (tX2_elseBy l w zb100 e_11) (Nat.le_of_ble_eq_true rfl) (Nat.le_of_ble_eq_true rfl) ?_
      obtain ⟨rfl, rfl⟩ := fin_ hf
      exact hje_8
    · replace hf := if_t c_9 hf
      refine z_aload_n C 0 dX0_law_15 rfl rfl ?_
      refine z_getR C ly_x0 (Cn := RX0) (T := TX0) (N := 8) rfl in_X0 1 (by decide) q320 (Or.inl rfl) rfl dX0_law_16 ?_
      refine z_iload_n C 2 dX0_law_19 rfl rfl ?_
      refine z_iload_n C 3 dX0_law_20 rfl rfl ?_
      refine z_iload C 4 dX0_law_21 rfl ?_
      obtain ⟨r_13, σ_15, e_14, hf⟩ := bd_ hf
      refine z_calli C (rest := []) (av := (.ref (w.2.2 100) :: [.int p2, .int p3, .int p4])) (zPay.of q394 q79) (fun H ls hH h2 => zInv_V C (As := [.int p2, .int p3, .int p4]) (rest := []) (ci := 2) (T := TX2) (N := 20) rfl (zSee.fix (ly_b0 zb100)) hH q909 q392 q393 (Or.inl rfl) q394 mh_X2 np_X2_depthBy dX0_law_23) (tX2_depthBy l w zb100 e_14) (Nat.le_of_ble_eq_true rfl) (Nat.le_of_ble_eq_true rfl) ?_
      refine z_goto C 40 dX0_law_26 (by decide) ?_
      obtain ⟨rfl, rfl⟩ := fin_ hf
      exact hje_8
  · dsimp only [sc] at hf
    refine z_callt C (rest := []) (av := (.ref (w.2.2 0) :: [.int (fX0_in p1 0 1), .int 1])) (zPay.of q354 q74) (fun H ls hH h2 => zInv_V C (As := [.int (fX0_in p1 0 1), .int 1]) (rest := []) (ci := 0) (T := TX0) (N := 8) rfl (zSee.fix ly_x0) hH q351 q353 qs1 (Or.inl rfl) q354 mh_X0 np_X0_need dX0_law_8) (tX0_need l w e_2) (Nat.le_of_ble_eq_true rfl) (Nat.le_of_ble_eq_true rfl) ?_
    refine z_catch C [] 0 40 41 8 [] rfl (by decide) (by decide) (by decide) (ci := 1) (Cn := RX1) (T0 := TX1) (N := 7) rfl (zSee.fix ly_x1) q118 ?_
    refine z_astore C dX0_law_41 (by decide) rfl (lv' := [(5, .ref (w.2.2 1)), (0, .ref (w.2.2 0)), (1, .int p1), (2, .int p2), (3, .int p3), (4, .int p4)]) ?_
    refine z_aload_n C 1 dX0_law_43 rfl rfl ?_
    refine z_aload C 0 dX0_law_44 rfl ?_
    obtain ⟨r_16, σ_18, e_17, hf⟩ := bd_ hf
    refine z_calli C (rest := []) (av := (.ref (w.2.2 0) :: [.ref (w.2.2 1)])) (zPay.of q362 q74) (fun H ls hH h2 => zInv_V C (As := [.ref (w.2.2 1)]) (rest := []) (ci := 0) (T := TX0) (N := 8) rfl (zSee.fix ly_x0) hH q359 q361 qs2 (Or.inl rfl) q362 mh_X0 np_X0_finds dX0_law_46) (tX0_finds l w e_17) (Nat.le_of_ble_eq_true rfl) (Nat.le_of_ble_eq_true rfl) ?_
    obtain ⟨rfl, rfl⟩ := fin_ hf
    exact z_iret C rfl dX0_law_49
def fX0_move_L120 (w : ZW) (r_10 : Nat) (r_15 : Nat) (r_47 : Nat) (y1 : Int32) (y2 : Int32) (y3 : Int32) (y4 : Int32) (y5 : Int32) : Nat → Int32 → ZS → Option ((Int32) × ZS)
  | 0, _, _ => none
  | n + 1, y9, σ => if y5 ≤ y9 then (some (y9, σ)) else (bo (oRow w 0 (σ.2.2.1 r_47)) (fun rw51 => gd (¬ ((y2 + y9) < 0 ∨ (rw51.1) ≤ (y2 + y9).toNatClampNeg)) (bo (oSheet (σ.2.2.1 r_15)) (fun sh56 => bd (fS_Sheet_put w σ r_15 (sh56.1) (sh56.2) (y4 + y9) ((rw51.2) ((y2 + y9).toNatClampNeg))) (fun _ σ_63 => nm (y9 + 1) (fun (x9_64 : Int32) => fX0_move_L120 w r_10 r_15 r_47 y1 y2 y3 y4 y5 n x9_64 σ_63))))))
def fX0_move (w : ZW) (σ : ZS) (p1 : Int32) (p2 : Int32) (p3 : Int32) (p4 : Int32) (p5 : Int32) : Option (Int32 × ZS) := nm (if (fX0_isSheet p1) = 0 then 0 else (if (fX0_isSheet p3) = 0 then 0 else 1)) (fun (j_1 : Int32) => bd (fX0_need σ j_1 1) (fun r_2 σ_4 => sc r_2 (fun _ => bd (fX0_sheetAt σ_4 p1) (fun r_7 σ_9 => sc r_7 (fun (r_10 : Nat) => bd (fX0_sheetAt σ_9 p3) (fun r_12 σ_14 => sc r_12 (fun (r_15 : Nat) => bo (oSheet (σ_14.2.2.1 r_10)) (fun sh17 => bo (fS_Sheet_width w σ_14 r_10 (sh17.1) (sh17.2) ) (fun r_22 => bo (oSheet (σ_14.2.2.1 r_15)) (fun sh24 => bo (fS_Sheet_width w σ_14 r_15 (sh24.1) (sh24.2) ) (fun r_29 => nm (if r_22 = r_29 then 1 else 0) (fun (j_31 : Int32) => bd (fX0_need σ_14 j_31 5) (fun r_32 σ_34 => sc r_32 (fun _ => bo (if p5 < 0 then (some 0) else (if p2 < 0 then (some 0) else (if p4 < 0 then (some 0) else (gd (oSheet (σ_34.2.2.1 r_10) = some ((sh17.1), (sh17.2))) (bo (fS_Sheet_size w σ_34 r_10 (sh17.1) (sh17.2) ) (fun r_76 => if (r_76 - p5) < p2 then (some 0) else (gd (oSheet (σ_34.2.2.1 r_15) = some ((sh24.1), (sh24.2))) (bo (fS_Sheet_size w σ_34 r_15 (sh24.1) (sh24.2) ) (fun r_81 => if (r_81 - p5) < p4 then (some 0) else (some 1)))))))))) (fun (j_37 : Int32) => bd (fX0_need σ_34 j_37 1) (fun r_40 σ_42 => sc r_40 (fun _ => gd (oSheet (σ_42.2.2.1 r_10) = some ((sh17.1), (sh17.2))) (bd (fS_Sheet_row w σ_42 r_10 (sh17.1) (sh17.2) ) (fun r_47 σ_49 => bd (fX0_move_L120 w r_10 r_15 r_47 p1 p2 p3 p4 p5 10000 0 σ_49) (fun x9_65 σ_66 => some (p5, σ_66))))) (fun _ => bd (fX0_finds σ_42) (fun r_68 σ_70 => some (r_68, σ_70)))))) (fun _ => bd (fX0_finds σ_34) (fun r_84 σ_86 => some (r_84, σ_86)))))))))) (fun _ => bd (fX0_finds σ_14) (fun r_88 σ_90 => some (r_88, σ_90))))) (fun _ => bd (fX0_finds σ_9) (fun r_91 σ_93 => some (r_91, σ_93))))) (fun _ => bd (fX0_finds σ_4) (fun r_94 σ_96 => some (r_94, σ_96)))))
set_option maxHeartbeats 4000000 in
set_option maxRecDepth 100000 in
theorem lfX0_move_L120 {p : Program} {l : Launch} {e : Env} {R : Room} {s : State} {m : MethodId} {args : Array Value} {below : List Frame} {meth : Method} {c : Code} {Q : State → Prop} {w : ZW} {A : Nat → Prop} {ret : Option FieldType} {hh : List (Nat × Nat × Nat × Nat)} (C : zCx p s m args meth c w zLx A 10 cX0_move RX0 ret hh) (hfr : 1 ≤ R.frames) (hlo : 14 ≤ R.locals) {r_10 : Nat} {r_15 : Nat} {r_47 : Nat} (y1 : Int32) (y2 : Int32) (y3 : Int32) (y4 : Int32) (y5 : Int32) {z9 : Int32} {σ' : ZS} (hk : Z p l e R s m args below meth c Q w zLx A 10 σ' 150 [(0, .ref (w.2.2 0)), (1, .int y1), (2, .int y2), (3, .int y3), (4, .int y4), (5, .int y5), (6, .ref r_10), (7, .ref r_15), (8, .ref r_47), (9, .int z9)] []) : ∀ (n : Nat) (y9 : Int32) (σ : ZS), fX0_move_L120 w r_10 r_15 r_47 y1 y2 y3 y4 y5 n y9 σ = some (z9, σ') → Z p l e R s m args below meth c Q w zLx A 10 σ 120 [(0, .ref (w.2.2 0)), (1, .int y1), (2, .int y2), (3, .int y3), (4, .int y4), (5, .int y5), (6, .ref r_10), (7, .ref r_15), (8, .ref r_47), (9, .int y9)] [] := by
  intro n
  induction n with
  | zero => intro y9 σ hf; exact none_ hf
  | succ n ih =>
    intro y9 σ hf
    rw [fX0_move_L120] at hf
    refine z_iload C 9 dX0_move_120 rfl ?_
    refine z_iload C 5 dX0_move_122 rfl ?_
    refine z_icmp_ge C 150 dX0_move_124 (by decide) (fun c_50 => ?_) (fun c_50 => ?_)
    · replace hf := if_t c_50 hf
      obtain ⟨rfl, rfl⟩ := fin_ hf
      exact hk
    · replace hf := if_f c_50 hf
      refine z_aload C 7 dX0_move_127 rfl ?_
      refine z_iload C 4 dX0_move_129 rfl ?_
      refine z_iload C 9 dX0_move_131 rfl ?_
      refine z_iadd C dX0_move_133 ?_
      refine z_aload C 8 dX0_move_134 rfl ?_
      refine z_iload_n C 2 dX0_move_136 rfl rfl ?_
      refine z_iload C 9 dX0_move_137 rfl ?_
      refine z_iadd C dX0_move_139 ?_
      obtain ⟨⟨n_51, f_52⟩, e_53, hf⟩ := bo_ hf
      try dsimp only at hf
      have hP_54 := oRow_ e_53
      obtain ⟨g_55, hf⟩ := gd_ hf
      refine z_iaload C (zSee.pool hP_54) g_55 dX0_move_140 ?_
      obtain ⟨⟨ci_56, r_57⟩, e_58, hf⟩ := bo_ hf
      try dsimp only at hf
      obtain ⟨hP_59, hci_60⟩ := oSheet_ e_58
      obtain ⟨⟨⟩, σ_63, e_62, hf⟩ := bd_ hf
      refine z_Sh_put C hci_60 hP_59 q1318 e_62 dX0_move_141 (Nat.le_trans (Nat.le_of_ble_eq_true rfl) hfr) (Nat.le_trans (Nat.le_of_ble_eq_true rfl) hlo) ?_
      obtain ⟨x9_64, ex9_64, hf⟩ := nmo_ hf
      refine z_iinc C x9_64 9 dX0_move_144 rfl (by rw [ex9_64]; rfl) (by decide) rfl (lv' := [(9, .int x9_64), (0, .ref (w.2.2 0)), (1, .int y1), (2, .int y2), (3, .int y3), (4, .int y4), (5, .int y5), (6, .ref r_10), (7, .ref r_15), (8, .ref r_47)]) ?_
      refine z_goto C 120 dX0_move_147 (by decide) ?_
      exact z_lv [1, 2, 3, 4, 5, 6, 7, 8, 9, 0] rfl (ih _ _ hf)
set_option maxHeartbeats 4000000 in
set_option maxRecDepth 100000 in
theorem tX0_move (l : Launch) (w : ZW) {σ σ' : ZS} {p1 : Int32} {p2 : Int32} {p3 : Int32} {p4 : Int32} {p5 : Int32} {r : Int32} (hf : fX0_move w σ p1 p2 p3 p4 p5 = some (r, σ')) : zC l w zLx yX0_move (wsW_ yX0_move cX0_move 10 (some .int) [(0, 152, 153, 8)]) 3 40 [.ref (w.2.2 0), .int p1, .int p2, .int p3, .int p4, .int p5] σ (.returned (some (.int r))) σ' := by
  refine zC.ofW (plainFor_of_name (by decide)) (Nat.le_of_ble_eq_true rfl) ?_
  intro p e s m args below meth c C hnm
  show Z p l e _ s m args below meth c _ w _ _ 10 σ 0 [(0, .ref (w.2.2 0)), (1, .int p1), (2, .int p2), (3, .int p3), (4, .int p4), (5, .int p5)] []
  unfold fX0_move at hf
  refine z_aload_n C 0 dX0_move_0 rfl rfl ?_
  refine z_iload_n C 1 dX0_move_1 rfl rfl ?_
  refine z_calli C (rest := [.ref (w.2.2 0)]) (av := [.int p1]) (zPay.of q1008 q74) (fun H ls hH h2 => zInv_S C (As := [.int p1]) (rest := [.ref (w.2.2 0)]) q1006 q1007 q74 (Or.inl rfl) q1008 mh_X0 np_X0_isSheet dX0_move_2) (tX0_isSheet l w zLx σ p1) (Nat.le_of_ble_eq_true rfl) (Nat.le_of_ble_eq_true rfl) ?_
  obtain ⟨j_1, ej_1, hf⟩ := nmo_ hf
  have hj_1 : j_1 = 0 ∨ j_1 = 1 := by rw [ej_1]; (try dsimp only [nm]); (repeat' split) <;> first | exact Or.inl rfl | exact Or.inr rfl
  have hjj_1 : Z p l e (zRm 3 40 σ) s m args below meth c (zQ below w zLx σ (.returned (some (.int r))) σ' args s) w zLx (zA w zLx σ) 10 σ 20 [(0, .ref (w.2.2 0)), (1, .int p1), (2, .int p2), (3, .int p3), (4, .int p4), (5, .int p5)] [.int j_1, .ref (w.2.2 0)] := by
    refine z_iconst C 1 dX0_move_20 (by decide) ?_
    obtain ⟨r_2, σ_4, e_3, hf⟩ := bd_ hf
    rcases r_2 with ⟨⟩ | ⟨⟩
    · dsimp only [sc] at hf
      refine z_callv C (rest := []) (av := (.ref (w.2.2 0) :: [.int j_1, .int 1])) (zPay.of q354 q74) (fun H ls hH h2 => zInv_V C (As := [.int j_1, .int 1]) (rest := []) (ci := 0) (T := TX0) (N := 8) rfl (zSee.fix ly_x0) hH q351 q353 qs1 (Or.inl rfl) q354 mh_X0 np_X0_need dX0_move_21) (tX0_need l w e_3) (Nat.le_of_ble_eq_true rfl) (Nat.le_of_ble_eq_true rfl) ?_
      refine z_aload_n C 0 dX0_move_24 rfl rfl ?_
      refine z_iload_n C 1 dX0_move_25 rfl rfl ?_
      obtain ⟨r_7, σ_9, e_8, hf⟩ := bd_ hf
      rcases r_7 with r_10 | ⟨⟩
      · dsimp only [sc] at hf
        refine z_callr C (rest := []) (av := (.ref (w.2.2 0) :: [.int p1])) (zPay.of q1012 q74) (fun H ls hH h2 => zInv_V C (As := [.int p1]) (rest := []) (ci := 0) (T := TX0) (N := 8) rfl (zSee.fix ly_x0) hH q1009 q1011 qs25 (Or.inl rfl) q1012 mh_X0 np_X0_sheetAt dX0_move_26) (tX0_sheetAt l w e_8) (Nat.le_of_ble_eq_true rfl) (Nat.le_of_ble_eq_true rfl) ?_
        refine z_astore C dX0_move_29 (by decide) rfl (lv' := [(6, .ref r_10), (0, .ref (w.2.2 0)), (1, .int p1), (2, .int p2), (3, .int p3), (4, .int p4), (5, .int p5)]) ?_
        refine z_aload_n C 1 dX0_move_31 rfl rfl ?_
        refine z_iload_n C 4 dX0_move_32 rfl rfl ?_
        obtain ⟨r_12, σ_14, e_13, hf⟩ := bd_ hf
        rcases r_12 with r_15 | ⟨⟩
        · dsimp only [sc] at hf
          refine z_callr C (rest := []) (av := (.ref (w.2.2 0) :: [.int p3])) (zPay.of q1012 q74) (fun H ls hH h2 => zInv_V C (As := [.int p3]) (rest := []) (ci := 0) (T := TX0) (N := 8) rfl (zSee.fix ly_x0) hH q1009 q1011 qs25 (Or.inl rfl) q1012 mh_X0 np_X0_sheetAt dX0_move_33) (tX0_sheetAt l w e_13) (Nat.le_of_ble_eq_true rfl) (Nat.le_of_ble_eq_true rfl) ?_
          refine z_astore C dX0_move_36 (by decide) rfl (lv' := [(7, .ref r_15), (6, .ref r_10), (0, .ref (w.2.2 0)), (1, .int p1), (2, .int p2), (3, .int p3), (4, .int p4), (5, .int p5)]) ?_
          refine z_aload_n C 2 dX0_move_38 rfl rfl ?_
          refine z_aload C 1 dX0_move_39 rfl ?_
          obtain ⟨⟨ci_17, r_18⟩, e_19, hf⟩ := bo_ hf
          try dsimp only at hf
          obtain ⟨hP_20, hci_21⟩ := oSheet_ e_19
          obtain ⟨r_22, e_23, hf⟩ := bo_ hf
          refine z_Sh_width C hci_21 hP_20 q1334 e_23 dX0_move_41 (Nat.le_of_ble_eq_true rfl) (Nat.le_of_ble_eq_true rfl) ?_
          refine z_aload C 0 dX0_move_44 rfl ?_
          obtain ⟨⟨ci_24, r_25⟩, e_26, hf⟩ := bo_ hf
          try dsimp only at hf
          obtain ⟨hP_27, hci_28⟩ := oSheet_ e_26
          obtain ⟨r_29, e_30, hf⟩ := bo_ hf
          refine z_Sh_width C hci_28 hP_27 q1334 e_30 dX0_move_46 (Nat.le_of_ble_eq_true rfl) (Nat.le_of_ble_eq_true rfl) ?_
          obtain ⟨j_31, ej_31, hf⟩ := nmo_ hf
          have hj_31 : j_31 = 0 ∨ j_31 = 1 := by rw [ej_31]; (try dsimp only [nm]); (repeat' split) <;> first | exact Or.inl rfl | exact Or.inr rfl
          have hjj_31 : Z p l e (zRm 3 40 σ) s m args below meth c (zQ below w zLx σ (.returned (some (.int r))) σ' args s) w zLx (zA w zLx σ) 10 σ_14 57 [(0, .ref (w.2.2 0)), (1, .int p1), (2, .int p2), (3, .int p3), (4, .int p4), (5, .int p5), (6, .ref r_10), (7, .ref r_15)] [.int j_31, .ref (w.2.2 0)] := by
            refine z_iconst C 5 dX0_move_57 (by decide) ?_
            obtain ⟨r_32, σ_34, e_33, hf⟩ := bd_ hf
            rcases r_32 with ⟨⟩ | ⟨⟩
            · dsimp only [sc] at hf
              refine z_callv C (rest := []) (av := (.ref (w.2.2 0) :: [.int j_31, .int 5])) (zPay.of q354 q74) (fun H ls hH h2 => zInv_V C (As := [.int j_31, .int 5]) (rest := []) (ci := 0) (T := TX0) (N := 8) rfl (zSee.fix ly_x0) hH q351 q353 qs1 (Or.inl rfl) q354 mh_X0 np_X0_need dX0_move_58) (tX0_need l w e_33) (Nat.le_of_ble_eq_true rfl) (Nat.le_of_ble_eq_true rfl) ?_
              refine z_aload_n C 0 dX0_move_61 rfl rfl ?_
              refine z_iload C 5 dX0_move_62 rfl ?_
              obtain ⟨j_37, e_39, hf⟩ := bo_ hf
              have hje_39 : Z p l e (zRm 3 40 σ) s m args below meth c (zQ below w zLx σ (.returned (some (.int r))) σ' args s) w zLx (zA w zLx σ) 10 σ_34 106 [(0, .ref (w.2.2 0)), (1, .int p1), (2, .int p2), (3, .int p3), (4, .int p4), (5, .int p5), (6, .ref r_10), (7, .ref r_15)] [.int j_37, .ref (w.2.2 0)] := by
                refine z_iconst C 1 dX0_move_106 (by decide) ?_
                obtain ⟨r_40, σ_42, e_41, hf⟩ := bd_ hf
                rcases r_40 with ⟨⟩ | ⟨⟩
                · dsimp only [sc] at hf
                  refine z_callv C (rest := []) (av := (.ref (w.2.2 0) :: [.int j_37, .int 1])) (zPay.of q354 q74) (fun H ls hH h2 => zInv_V C (As := [.int j_37, .int 1]) (rest := []) (ci := 0) (T := TX0) (N := 8) rfl (zSee.fix ly_x0) hH q351 q353 qs1 (Or.inl rfl) q354 mh_X0 np_X0_need dX0_move_107) (tX0_need l w e_41) (Nat.le_of_ble_eq_true rfl) (Nat.le_of_ble_eq_true rfl) ?_
                  refine z_aload C 6 dX0_move_110 rfl ?_
                  obtain ⟨g_45, hf⟩ := gd_ hf
                  have hP_46 := (oSheet_ g_45).1
                  obtain ⟨r_47, σ_49, e_48, hf⟩ := bd_ hf
                  refine z_Sh_row C hci_21 hP_46 q1346 e_48 dX0_move_112 (Nat.le_of_ble_eq_true rfl) (Nat.le_of_ble_eq_true rfl) ?_
                  refine z_astore C dX0_move_115 (by decide) rfl (lv' := [(8, .ref r_47), (0, .ref (w.2.2 0)), (1, .int p1), (2, .int p2), (3, .int p3), (4, .int p4), (5, .int p5), (6, .ref r_10), (7, .ref r_15)]) ?_
                  refine z_iconst C 0 dX0_move_117 (by decide) ?_
                  refine z_istore C dX0_move_118 (by decide) rfl (lv' := [(9, .int 0), (8, .ref r_47), (0, .ref (w.2.2 0)), (1, .int p1), (2, .int p2), (3, .int p3), (4, .int p4), (5, .int p5), (6, .ref r_10), (7, .ref r_15)]) ?_
                  obtain ⟨x9_65, σ_66, e_67, hf⟩ := bd_ hf
                  refine z_lv (lv' := [(0, .ref (w.2.2 0)), (1, .int p1), (2, .int p2), (3, .int p3), (4, .int p4), (5, .int p5), (6, .ref r_10), (7, .ref r_15), (8, .ref r_47), (9, .int 0)]) [2, 3, 4, 5, 6, 7, 8, 9, 1, 0] rfl ?_
                  refine lfX0_move_L120 C (Nat.le_of_ble_eq_true rfl) (Nat.le_of_ble_eq_true rfl) p1 p2 p3 p4 p5 ?_ _ _ _ e_67
                  refine z_iload C 5 dX0_move_150 rfl ?_
                  obtain ⟨rfl, rfl⟩ := fin_ hf
                  exact z_iret C rfl dX0_move_152
                · dsimp only [sc] at hf
                  refine z_callt C (rest := []) (av := (.ref (w.2.2 0) :: [.int j_37, .int 1])) (zPay.of q354 q74) (fun H ls hH h2 => zInv_V C (As := [.int j_37, .int 1]) (rest := []) (ci := 0) (T := TX0) (N := 8) rfl (zSee.fix ly_x0) hH q351 q353 qs1 (Or.inl rfl) q354 mh_X0 np_X0_need dX0_move_107) (tX0_need l w e_41) (Nat.le_of_ble_eq_true rfl) (Nat.le_of_ble_eq_true rfl) ?_
                  refine z_catch C [] 0 152 153 8 [] rfl (by decide) (by decide) (by decide) (ci := 1) (Cn := RX1) (T0 := TX1) (N := 7) rfl (zSee.fix ly_x1) q118 ?_
                  refine z_astore C dX0_move_153 (by decide) rfl (lv' := [(6, .ref (w.2.2 1)), (0, .ref (w.2.2 0)), (1, .int p1), (2, .int p2), (3, .int p3), (4, .int p4), (5, .int p5), (7, .ref r_15)]) ?_
                  refine z_aload_n C 1 dX0_move_155 rfl rfl ?_
                  refine z_aload C 0 dX0_move_156 rfl ?_
                  obtain ⟨r_68, σ_70, e_69, hf⟩ := bd_ hf
                  refine z_calli C (rest := []) (av := (.ref (w.2.2 0) :: [.ref (w.2.2 1)])) (zPay.of q362 q74) (fun H ls hH h2 => zInv_V C (As := [.ref (w.2.2 1)]) (rest := []) (ci := 0) (T := TX0) (N := 8) rfl (zSee.fix ly_x0) hH q359 q361 qs2 (Or.inl rfl) q362 mh_X0 np_X0_finds dX0_move_158) (tX0_finds l w e_69) (Nat.le_of_ble_eq_true rfl) (Nat.le_of_ble_eq_true rfl) ?_
                  obtain ⟨rfl, rfl⟩ := fin_ hf
                  exact z_iret C rfl dX0_move_161
              replace hf := e_39
              refine z_if_lt C 105 dX0_move_64 (by decide) (fun c_71 => ?_) (fun c_71 => ?_)
              · replace hf := if_t c_71 hf
                refine z_iconst C 0 dX0_move_105 (by decide) ?_
                obtain rfl := fino_ hf
                exact hje_39
              · replace hf := if_f c_71 hf
                refine z_iload_n C 2 dX0_move_67 rfl rfl ?_
                refine z_if_lt C 105 dX0_move_68 (by decide) (fun c_72 => ?_) (fun c_72 => ?_)
                · replace hf := if_t c_72 hf
                  refine z_iconst C 0 dX0_move_105 (by decide) ?_
                  obtain rfl := fino_ hf
                  exact hje_39
                · replace hf := if_f c_72 hf
                  refine z_iload C 4 dX0_move_71 rfl ?_
                  refine z_if_lt C 105 dX0_move_73 (by decide) (fun c_73 => ?_) (fun c_73 => ?_)
                  · replace hf := if_t c_73 hf
                    refine z_iconst C 0 dX0_move_105 (by decide) ?_
                    obtain rfl := fino_ hf
                    exact hje_39
                  · replace hf := if_f c_73 hf
                    refine z_iload_n C 2 dX0_move_76 rfl rfl ?_
                    refine z_aload C 6 dX0_move_77 rfl ?_
                    obtain ⟨g_74, hf⟩ := gd_ hf
                    have hP_75 := (oSheet_ g_74).1
                    obtain ⟨r_76, e_77, hf⟩ := bo_ hf
                    refine z_Sh_size C hci_21 hP_75 q1014 e_77 dX0_move_79 (Nat.le_of_ble_eq_true rfl) (Nat.le_of_ble_eq_true rfl) ?_
                    refine z_iload C 5 dX0_move_82 rfl ?_
                    refine z_isub C dX0_move_84 ?_
                    refine z_icmp_gt C 105 dX0_move_85 (by decide) (fun c_78 => ?_) (fun c_78 => ?_)
                    · replace hf := if_t c_78 hf
                      refine z_iconst C 0 dX0_move_105 (by decide) ?_
                      obtain rfl := fino_ hf
                      exact hje_39
                    · replace hf := if_f c_78 hf
                      refine z_iload C 4 dX0_move_88 rfl ?_
                      refine z_aload C 7 dX0_move_90 rfl ?_
                      obtain ⟨g_79, hf⟩ := gd_ hf
                      have hP_80 := (oSheet_ g_79).1
                      obtain ⟨r_81, e_82, hf⟩ := bo_ hf
                      refine z_Sh_size C hci_28 hP_80 q1014 e_82 dX0_move_92 (Nat.le_of_ble_eq_true rfl) (Nat.le_of_ble_eq_true rfl) ?_
                      refine z_iload C 5 dX0_move_95 rfl ?_
                      refine z_isub C dX0_move_97 ?_
                      refine z_icmp_gt C 105 dX0_move_98 (by decide) (fun c_83 => ?_) (fun c_83 => ?_)
                      · replace hf := if_t c_83 hf
                        refine z_iconst C 0 dX0_move_105 (by decide) ?_
                        obtain rfl := fino_ hf
                        exact hje_39
                      · replace hf := if_f c_83 hf
                        refine z_iconst C 1 dX0_move_101 (by decide) ?_
                        refine z_goto C 106 dX0_move_102 (by decide) ?_
                        obtain rfl := fino_ hf
                        exact hje_39
            · dsimp only [sc] at hf
              refine z_callt C (rest := []) (av := (.ref (w.2.2 0) :: [.int j_31, .int 5])) (zPay.of q354 q74) (fun H ls hH h2 => zInv_V C (As := [.int j_31, .int 5]) (rest := []) (ci := 0) (T := TX0) (N := 8) rfl (zSee.fix ly_x0) hH q351 q353 qs1 (Or.inl rfl) q354 mh_X0 np_X0_need dX0_move_58) (tX0_need l w e_33) (Nat.le_of_ble_eq_true rfl) (Nat.le_of_ble_eq_true rfl) ?_
              refine z_catch C [] 0 152 153 8 [] rfl (by decide) (by decide) (by decide) (ci := 1) (Cn := RX1) (T0 := TX1) (N := 7) rfl (zSee.fix ly_x1) q118 ?_
              refine z_astore C dX0_move_153 (by decide) rfl (lv' := [(6, .ref (w.2.2 1)), (0, .ref (w.2.2 0)), (1, .int p1), (2, .int p2), (3, .int p3), (4, .int p4), (5, .int p5), (7, .ref r_15)]) ?_
              refine z_aload_n C 1 dX0_move_155 rfl rfl ?_
              refine z_aload C 0 dX0_move_156 rfl ?_
              obtain ⟨r_84, σ_86, e_85, hf⟩ := bd_ hf
              refine z_calli C (rest := []) (av := (.ref (w.2.2 0) :: [.ref (w.2.2 1)])) (zPay.of q362 q74) (fun H ls hH h2 => zInv_V C (As := [.ref (w.2.2 1)]) (rest := []) (ci := 0) (T := TX0) (N := 8) rfl (zSee.fix ly_x0) hH q359 q361 qs2 (Or.inl rfl) q362 mh_X0 np_X0_finds dX0_move_158) (tX0_finds l w e_85) (Nat.le_of_ble_eq_true rfl) (Nat.le_of_ble_eq_true rfl) ?_
              obtain ⟨rfl, rfl⟩ := fin_ hf
              exact z_iret C rfl dX0_move_161
          replace hf := ej_31
          refine z_icmp_ne C 56 dX0_move_49 (by decide) (fun c_87 => ?_) (fun c_87 => ?_)
          · replace hf := ifp_f c_87 hf
            refine z_iconst C 0 dX0_move_56 (by decide) ?_
            subst hf
            exact z_lv [2, 3, 4, 5, 6, 7, 1, 0] rfl hjj_31
          · replace hf := ifp_t c_87 hf
            refine z_iconst C 1 dX0_move_52 (by decide) ?_
            refine z_goto C 57 dX0_move_53 (by decide) ?_
            subst hf
            exact z_lv [2, 3, 4, 5, 6, 7, 1, 0] rfl hjj_31
        · dsimp only [sc] at hf
          refine z_callt C (rest := []) (av := (.ref (w.2.2 0) :: [.int p3])) (zPay.of q1012 q74) (fun H ls hH h2 => zInv_V C (As := [.int p3]) (rest := []) (ci := 0) (T := TX0) (N := 8) rfl (zSee.fix ly_x0) hH q1009 q1011 qs25 (Or.inl rfl) q1012 mh_X0 np_X0_sheetAt dX0_move_33) (tX0_sheetAt l w e_13) (Nat.le_of_ble_eq_true rfl) (Nat.le_of_ble_eq_true rfl) ?_
          refine z_catch C [] 0 152 153 8 [] rfl (by decide) (by decide) (by decide) (ci := 1) (Cn := RX1) (T0 := TX1) (N := 7) rfl (zSee.fix ly_x1) q118 ?_
          refine z_astore C dX0_move_153 (by decide) rfl (lv' := [(6, .ref (w.2.2 1)), (0, .ref (w.2.2 0)), (1, .int p1), (2, .int p2), (3, .int p3), (4, .int p4), (5, .int p5)]) ?_
          refine z_aload_n C 1 dX0_move_155 rfl rfl ?_
          refine z_aload C 0 dX0_move_156 rfl ?_
          obtain ⟨r_88, σ_90, e_89, hf⟩ := bd_ hf
          refine z_calli C (rest := []) (av := (.ref (w.2.2 0) :: [.ref (w.2.2 1)])) (zPay.of q362 q74) (fun H ls hH h2 => zInv_V C (As := [.ref (w.2.2 1)]) (rest := []) (ci := 0) (T := TX0) (N := 8) rfl (zSee.fix ly_x0) hH q359 q361 qs2 (Or.inl rfl) q362 mh_X0 np_X0_finds dX0_move_158) (tX0_finds l w e_89) (Nat.le_of_ble_eq_true rfl) (Nat.le_of_ble_eq_true rfl) ?_
          obtain ⟨rfl, rfl⟩ := fin_ hf
          exact z_iret C rfl dX0_move_161
      · dsimp only [sc] at hf
        refine z_callt C (rest := []) (av := (.ref (w.2.2 0) :: [.int p1])) (zPay.of q1012 q74) (fun H ls hH h2 => zInv_V C (As := [.int p1]) (rest := []) (ci := 0) (T := TX0) (N := 8) rfl (zSee.fix ly_x0) hH q1009 q1011 qs25 (Or.inl rfl) q1012 mh_X0 np_X0_sheetAt dX0_move_26) (tX0_sheetAt l w e_8) (Nat.le_of_ble_eq_true rfl) (Nat.le_of_ble_eq_true rfl) ?_
        refine z_catch C [] 0 152 153 8 [] rfl (by decide) (by decide) (by decide) (ci := 1) (Cn := RX1) (T0 := TX1) (N := 7) rfl (zSee.fix ly_x1) q118 ?_
        refine z_astore C dX0_move_153 (by decide) rfl (lv' := [(6, .ref (w.2.2 1)), (0, .ref (w.2.2 0)), (1, .int p1), (2, .int p2), (3, .int p3), (4, .int p4), (5, .int p5)]) ?_
        refine z_aload_n C 1 dX0_move_155 rfl rfl ?_
        refine z_aload C 0 dX0_move_156 rfl ?_
        obtain ⟨r_91, σ_93, e_92, hf⟩ := bd_ hf
        refine z_calli C (rest := []) (av := (.ref (w.2.2 0) :: [.ref (w.2.2 1)])) (zPay.of q362 q74) (fun H ls hH h2 => zInv_V C (As := [.ref (w.2.2 1)]) (rest := []) (ci := 0) (T := TX0) (N := 8) rfl (zSee.fix ly_x0) hH q359 q361 qs2 (Or.inl rfl) q362 mh_X0 np_X0_finds dX0_move_158) (tX0_finds l w e_92) (Nat.le_of_ble_eq_true rfl) (Nat.le_of_ble_eq_true rfl) ?_
        obtain ⟨rfl, rfl⟩ := fin_ hf
        exact z_iret C rfl dX0_move_161
    · dsimp only [sc] at hf
      refine z_callt C (rest := []) (av := (.ref (w.2.2 0) :: [.int j_1, .int 1])) (zPay.of q354 q74) (fun H ls hH h2 => zInv_V C (As := [.int j_1, .int 1]) (rest := []) (ci := 0) (T := TX0) (N := 8) rfl (zSee.fix ly_x0) hH q351 q353 qs1 (Or.inl rfl) q354 mh_X0 np_X0_need dX0_move_21) (tX0_need l w e_3) (Nat.le_of_ble_eq_true rfl) (Nat.le_of_ble_eq_true rfl) ?_
      refine z_catch C [] 0 152 153 8 [] rfl (by decide) (by decide) (by decide) (ci := 1) (Cn := RX1) (T0 := TX1) (N := 7) rfl (zSee.fix ly_x1) q118 ?_
      refine z_astore C dX0_move_153 (by decide) rfl (lv' := [(6, .ref (w.2.2 1)), (0, .ref (w.2.2 0)), (1, .int p1), (2, .int p2), (3, .int p3), (4, .int p4), (5, .int p5)]) ?_
      refine z_aload_n C 1 dX0_move_155 rfl rfl ?_
      refine z_aload C 0 dX0_move_156 rfl ?_
      obtain ⟨r_94, σ_96, e_95, hf⟩ := bd_ hf
      refine z_calli C (rest := []) (av := (.ref (w.2.2 0) :: [.ref (w.2.2 1)])) (zPay.of q362 q74) (fun H ls hH h2 => zInv_V C (As := [.ref (w.2.2 1)]) (rest := []) (ci := 0) (T := TX0) (N := 8) rfl (zSee.fix ly_x0) hH q359 q361 qs2 (Or.inl rfl) q362 mh_X0 np_X0_finds dX0_move_158) (tX0_finds l w e_95) (Nat.le_of_ble_eq_true rfl) (Nat.le_of_ble_eq_true rfl) ?_
      obtain ⟨rfl, rfl⟩ := fin_ hf
      exact z_iret C rfl dX0_move_161
  replace hf := ej_1
  refine z_if_eq C 19 dX0_move_5 (by decide) (fun c_97 => ?_) (fun c_97 => ?_)
  · replace hf := ifp_t c_97 hf
    refine z_iconst C 0 dX0_move_19 (by decide) ?_
    subst hf
    exact hjj_1
  · replace hf := ifp_f c_97 hf
    refine z_iload_n C 3 dX0_move_8 rfl rfl ?_
    refine z_calli C (rest := [.ref (w.2.2 0)]) (av := [.int p3]) (zPay.of q1008 q74) (fun H ls hH h2 => zInv_S C (As := [.int p3]) (rest := [.ref (w.2.2 0)]) q1006 q1007 q74 (Or.inl rfl) q1008 mh_X0 np_X0_isSheet dX0_move_9) (tX0_isSheet l w zLx σ p3) (Nat.le_of_ble_eq_true rfl) (Nat.le_of_ble_eq_true rfl) ?_
    refine z_if_eq C 19 dX0_move_12 (by decide) (fun c_98 => ?_) (fun c_98 => ?_)
    · replace hf := ifp_t c_98 hf
      refine z_iconst C 0 dX0_move_19 (by decide) ?_
      subst hf
      exact hjj_1
    · replace hf := ifp_f c_98 hf
      refine z_iconst C 1 dX0_move_15 (by decide) ?_
      refine z_goto C 20 dX0_move_16 (by decide) ?_
      subst hf
      exact hjj_1
def fX2_depthIn (σ : ZS) (b : Nat) (p1 : Int32) (p2 : Int32) : Option (Int32 × ZS) := nm (fJ3_max 0 p2) (fun (x3_1 : Int32) => gd (¬ (p1 < 0 ∨ 8 ≤ p1.toNatClampNeg)) (bd (if x3_1 < (σ.1 (b + 3) p1.toNatClampNeg) then (bd (fX2_depthBy σ b p1 x3_1 (σ.1 (b + 2) p1.toNatClampNeg)) (fun r_7 σ_9 => some (r_7, σ_9))) else (if (σ.1 (b + 4) p1.toNatClampNeg) < x3_1 then (bd (fX2_depthBy σ b p1 x3_1 (σ.1 (b + 2) p1.toNatClampNeg)) (fun r_11 σ_13 => some (r_11, σ_13))) else (some (0, σ)))) (fun (j_3 : Int32) σ_4 => some (j_3, σ_4))))
set_option maxHeartbeats 4000000 in
set_option maxRecDepth 100000 in
theorem tX2_depthIn (l : Launch) (w : ZW) {σ σ' : ZS} {b : Nat} {p1 : Int32} {p2 : Int32} (hb : zBay b) {r : Int32} (hf : fX2_depthIn σ b p1 p2 = some (r, σ')) : zC l w zLx yX2_depthIn (ws_ yX2_depthIn cX2_depthIn 4 (some .int)) 722 6031 [.ref (w.2.2 b), .int p1, .int p2] σ (.returned (some (.int r))) σ' := by
  refine zC.of (plainFor_of_name (by decide)) (Nat.le_of_ble_eq_true rfl) ?_
  intro p e s m args below meth c C hnm
  show Z p l e _ s m args below meth c _ w _ _ 4 σ 0 [(0, .ref (w.2.2 b)), (1, .int p1), (2, .int p2)] []
  unfold fX2_depthIn at hf
  refine z_iconst C 0 dX2_depthIn_0 (by decide) ?_
  refine z_iload_n C 2 dX2_depthIn_1 rfl rfl ?_
  refine z_calli C (rest := []) (av := [.int 0, .int p2]) (zPay.of q390 q84) (fun H ls hH h2 => zInv_S C (As := [.int 0, .int p2]) (rest := []) q388 q389 q84 (Or.inl rfl) q390 mh_J3 np_J3_max dX2_depthIn_2) (tJ3_max l w zLx σ 0 p2) (Nat.le_of_ble_eq_true rfl) (Nat.le_of_ble_eq_true rfl) ?_
  obtain ⟨x3_1, ex3_1, hf⟩ := nmo_ hf
  refine z_top ex3_1 ?_
  refine z_istore_n C dX2_depthIn_5 rfl (by decide) rfl (lv' := [(3, .int x3_1), (0, .ref (w.2.2 b)), (1, .int p1), (2, .int p2)]) ?_
  refine z_iload_n C 0 dX2_depthIn_6 rfl rfl ?_
  refine z_aload_n C 1 dX2_depthIn_7 rfl rfl ?_
  refine z_getR C (ly_b0 hb) (Cn := RX2) (T := TX2) (N := 20) rfl in_X2 2 (by decide) q214 (Or.inl rfl) rfl dX2_depthIn_8 ?_
  refine z_iload_n C 2 dX2_depthIn_11 rfl rfl ?_
  obtain ⟨g_2, hf⟩ := gd_ hf
  refine z_ialoadF C (ly_b3 hb) g_2 dX2_depthIn_12 ?_
  obtain ⟨j_3, σ_4, e_5, hf⟩ := bd_ hf
  have hje_5 : Z p l e (zRm 722 6031 σ) s m args below meth c (zQ below w zLx σ (.returned (some (.int r))) σ' args s) w zLx (zA w zLx σ) 4 σ_4 42 [(0, .ref (w.2.2 b)), (1, .int p1), (2, .int p2), (3, .int x3_1)] [.int j_3] := by
    obtain ⟨rfl, rfl⟩ := fin_ hf
    exact z_iret C rfl dX2_depthIn_42
  replace hf := e_5
  refine z_icmp_lt C 30 dX2_depthIn_13 (by decide) (fun c_6 => ?_) (fun c_6 => ?_)
  · replace hf := if_t c_6 hf
    refine z_aload_n C 1 dX2_depthIn_30 rfl rfl ?_
    refine z_iload_n C 2 dX2_depthIn_31 rfl rfl ?_
    refine z_iload_n C 0 dX2_depthIn_32 rfl rfl ?_
    refine z_aload_n C 1 dX2_depthIn_33 rfl rfl ?_
    refine z_getR C (ly_b0 hb) (Cn := RX2) (T := TX2) (N := 20) rfl in_X2 1 (by decide) q212 (Or.inl rfl) rfl dX2_depthIn_34 ?_
    refine z_iload_n C 2 dX2_depthIn_37 rfl rfl ?_
    refine z_ialoadF C (ly_b2 hb) g_2 dX2_depthIn_38 ?_
    obtain ⟨r_7, σ_9, e_8, hf⟩ := bd_ hf
    refine z_calli C (rest := []) (av := (.ref (w.2.2 b) :: [.int p1, .int x3_1, .int (σ.1 (b + 2) p1.toNatClampNeg)])) (zPay.of q394 q79) (fun H ls hH h2 => zInv_V C (As := [.int p1, .int x3_1, .int (σ.1 (b + 2) p1.toNatClampNeg)]) (rest := []) (ci := 2) (T := TX2) (N := 20) rfl (zSee.fix (ly_b0 hb)) hH q391 q392 q393 (Or.inl rfl) q394 mh_X2 np_X2_depthBy dX2_depthIn_39) (tX2_depthBy l w hb e_8) (Nat.le_of_ble_eq_true rfl) (Nat.le_of_ble_eq_true rfl) ?_
    obtain ⟨rfl, rfl⟩ := fin_ hf
    exact z_lv [1, 2, 3, 0] rfl hje_5
  · replace hf := if_f c_6 hf
    refine z_iload_n C 0 dX2_depthIn_16 rfl rfl ?_
    refine z_aload_n C 1 dX2_depthIn_17 rfl rfl ?_
    refine z_getR C (ly_b0 hb) (Cn := RX2) (T := TX2) (N := 20) rfl in_X2 3 (by decide) q216 (Or.inl rfl) rfl dX2_depthIn_18 ?_
    refine z_iload_n C 2 dX2_depthIn_21 rfl rfl ?_
    refine z_ialoadF C (ly_b4 hb) g_2 dX2_depthIn_22 ?_
    refine z_icmp_gt C 30 dX2_depthIn_23 (by decide) (fun c_10 => ?_) (fun c_10 => ?_)
    · replace hf := if_t c_10 hf
      refine z_aload_n C 1 dX2_depthIn_30 rfl rfl ?_
      refine z_iload_n C 2 dX2_depthIn_31 rfl rfl ?_
      refine z_iload_n C 0 dX2_depthIn_32 rfl rfl ?_
      refine z_aload_n C 1 dX2_depthIn_33 rfl rfl ?_
      refine z_getR C (ly_b0 hb) (Cn := RX2) (T := TX2) (N := 20) rfl in_X2 1 (by decide) q212 (Or.inl rfl) rfl dX2_depthIn_34 ?_
      refine z_iload_n C 2 dX2_depthIn_37 rfl rfl ?_
      refine z_ialoadF C (ly_b2 hb) g_2 dX2_depthIn_38 ?_
      obtain ⟨r_11, σ_13, e_12, hf⟩ := bd_ hf
      refine z_calli C (rest := []) (av := (.ref (w.2.2 b) :: [.int p1, .int x3_1, .int (σ.1 (b + 2) p1.toNatClampNeg)])) (zPay.of q394 q79) (fun H ls hH h2 => zInv_V C (As := [.int p1, .int x3_1, .int (σ.1 (b + 2) p1.toNatClampNeg)]) (rest := []) (ci := 2) (T := TX2) (N := 20) rfl (zSee.fix (ly_b0 hb)) hH q391 q392 q393 (Or.inl rfl) q394 mh_X2 np_X2_depthBy dX2_depthIn_39) (tX2_depthBy l w hb e_12) (Nat.le_of_ble_eq_true rfl) (Nat.le_of_ble_eq_true rfl) ?_
      obtain ⟨rfl, rfl⟩ := fin_ hf
      exact z_lv [1, 2, 3, 0] rfl hje_5
    · replace hf := if_f c_10 hf
      refine z_iconst C 0 dX2_depthIn_26 (by decide) ?_
      refine z_goto C 42 dX2_depthIn_27 (by decide) ?_
      obtain ⟨rfl, rfl⟩ := fin_ hf
      exact z_lv [1, 2, 3, 0] rfl hje_5
def fX9_steers (w : ZW) (σ : ZS) (a : Nat) (ci : Nat) (n : Int32) (k : Int32) (p1 : Int32) : Option (Int32 × ZS) := bd (fX4_begins σ 11) (fun _ σ_3 => gd (oShip w (σ_3.2.2.1 a) = some (ci, n, k)) (bd (fS_Ship_sails w σ_3 a ci n k p1) (fun r_6 σ_8 => some (r_6 * 2, σ_8))))
set_option maxHeartbeats 4000000 in
set_option maxRecDepth 100000 in
theorem tX9_steers (l : Launch) (w : ZW) {σ σ' : ZS} {a : Nat} {ci : Nat} {n : Int32} {k : Int32} {p1 : Int32} (hci : zShipC ci) (hP : σ.2.2.1 a = some (.inr (ci, [.ref (w.2.2 4), .int n, .int k]))) {r : Int32} (hf : fX9_steers w σ a ci n k p1 = some (r, σ')) : zC l w zLx yX9_steers (ws_ yX9_steers cX9_steers 2 (some .int)) 3 39 [.ref a, .int p1] σ (.returned (some (.int r))) σ' := by
  refine zC.of (plainFor_of_name (by decide)) (Nat.le_of_ble_eq_true rfl) ?_
  intro p e s m args below meth c C hnm
  show Z p l e _ s m args below meth c _ w _ _ 2 σ 0 [(0, .ref a), (1, .int p1)] []
  unfold fX9_steers at hf
  refine z_aload_n C 0 dX9_steers_0 rfl rfl ?_
  refine z_getS0 C hci hP q465 (Or.inl rfl) dX9_steers_1 ?_
  refine z_bipush C 11 dX9_steers_4 (by decide) ?_
  obtain ⟨⟨⟩, σ_3, e_2, hf⟩ := bd_ hf
  refine z_callv C (rest := []) (av := (.ref (w.2.2 4) :: [.int 11])) (zPay.of q1105 q81) (fun H ls hH h2 => zInv_V C (As := [.int 11]) (rest := []) (ci := 4) (T := TX4) (N := 2) rfl (zSee.fix ly_x4) hH q1109 q1103 q1104 (Or.inl rfl) q1105 mh_X4 np_X4_begins dX9_steers_6) (tX4_begins l w e_2) (Nat.le_of_ble_eq_true rfl) (Nat.le_of_ble_eq_true rfl) ?_
  refine z_aload_n C 0 dX9_steers_9 rfl rfl ?_
  refine z_iload_n C 1 dX9_steers_10 rfl rfl ?_
  obtain ⟨g_4, hf⟩ := gd_ hf
  have hP_5 := (oShip_ g_4).1
  obtain ⟨r_6, σ_8, e_7, hf⟩ := bd_ hf
  refine z_S_Ship_sails C hci hP_5 q1139  e_7 dX9_steers_11 (Nat.le_of_ble_eq_true rfl) (Nat.le_of_ble_eq_true rfl) ?_
  refine z_iconst C 2 dX9_steers_14 (by decide) ?_
  refine z_imul C dX9_steers_15 ?_
  obtain ⟨rfl, rfl⟩ := fin_ hf
  exact z_iret C rfl dX9_steers_16
def fS_Ghost_steers (w : ZW) (σ : ZS) (a ci : Nat) (n k : Int32) (p1 : Int32) : Option (Int32 × ZS) := if ci = 14 then (fX9_steers w σ a ci n k p1) else (none)
section
variable {p : Program} {l : Launch} {e : Env} {R : Room} {s : State} {m : MethodId} {args : Array Value} {below : List Frame} {meth : Method} {c : Code} {Q : State → Prop} {w : ZW} {A : Nat → Prop} {nL : Nat} {cc : ByteArray} {own : String} {ret : Option FieldType} {hh : List (Nat × Nat × Nat × Nat)} {σ : ZS} {pc : Nat} {lv : List (Nat × Value)} {st : List Value}
theorem z_S_Ghost_steers (C : zCx p s m args meth c w zLx A nL cc own ret hh) {index a ci : Nat} {n k p1 r : Int32} {σ' : ZS} (hci : zShipC ci) (hP : σ.2.2.1 a = some (.inr (ci, [.ref (w.2.2 4), .int n, .int k]))) (hq1 : Cond.methodLink own index ⟨"OldLight$Ghost", "steers", "(I)I"⟩ ∈ lw_all) (hf : fS_Ghost_steers w σ a ci n k p1 = some (r, σ')) (hd : decode cc pc = .ok (.invokevirtual index, 3)) (hfr : 3 + 1 ≤ R.frames) (hlo : (st.map fun v => v.category).sum + (2 + 11) + 39 ≤ R.locals) (kk : Z p l e R s m args below meth c Q w zLx A nL σ' (pc + 3) lv (.int r :: st)) : Z p l e R s m args below meth c Q w zLx A nL σ pc lv (.int p1 :: .ref a :: st) := by
  rcases hci with rfl | rfl | rfl | rfl | rfl | rfl | rfl
  · exact none_ hf
  · exact none_ hf
  · exact none_ hf
  · exact none_ hf
  · exact none_ hf
  · exact none_ hf
  · skip
    exact z_calli C (rest := st) (av := (.ref a :: [.int p1])) (zPay.of q1138 q87) (fun H ls hH h2 => zInv_U C (x := ⟨"OldLight$Ghost", "steers", "(I)I"⟩) (owner := "OldLight$Ship") (As := [.int p1]) (rest := st) (ci := 14) (T := TX15) (N := 3) rfl (zSee.pool hP) hH hq1 q1244 (zDecl_of C q1136 q1138) (by unfold zMH; decide) q1136 q1246 np_X9_steers hd) (tX9_steers l w (by unfold zShipC; decide) hP hf) (by have := hfr; omega) (by have := hlo; omega) kk
end
def fX0_ship (w : ZW) (σ : ZS) (p1 : Int32) (p2 : Int32) (p3 : Int32) : Option (Int32 × ZS) := nm (if (fX0_in p1 0 69) = 0 then 0 else (if (fX0_in p2 0 9) = 0 then 0 else (if (fX0_isCell σ p3) = 0 then 0 else 1))) (fun (j_1 : Int32) => bd (fX0_need σ j_1 1) (fun r_2 σ_4 => sc r_2 (fun _ => nm (if 7 ≤ (σ_4.1 100 8) then 0 else 1) (fun (j_7 : Int32) => bd (fX0_need σ_4 j_7 4) (fun r_8 σ_10 => sc r_8 (fun _ => nm (σ_10.1 100 8) (fun (x4_13 : Int32) => bd (fX0_shipOf w σ_10 (p1 / 10) x4_13 (p1 - p1 / 10 * 10)) (fun r_14 σ_16 => bo (oShip w (σ_16.2.2.1 r_14)) (fun ss17 => gd (¬ (x4_13 < 0 ∨ 7 ≤ x4_13.toNatClampNeg)) (nm (((sI (sI (sI (sG σ_16 (100 + 10) (x4_13.toNatClampNeg) (some r_14)) (100 + 11) (x4_13.toNatClampNeg) p2) (100 + 12) (x4_13.toNatClampNeg) p3) (100 + 13) (x4_13.toNatClampNeg) 0).1 100 8) + 1) (fun (f_24 : Int32) => some (x4_13, sI (sI (sI (sI (sG σ_16 (100 + 10) (x4_13.toNatClampNeg) (some r_14)) (100 + 11) (x4_13.toNatClampNeg) p2) (100 + 12) (x4_13.toNatClampNeg) p3) (100 + 13) (x4_13.toNatClampNeg) 0) 100 8 f_24))))))) (fun _ => bd (fX0_finds σ_10) (fun r_25 σ_27 => some (r_25, σ_27)))))) (fun _ => bd (fX0_finds σ_4) (fun r_29 σ_31 => some (r_29, σ_31)))))
set_option maxHeartbeats 4000000 in
set_option maxRecDepth 100000 in
theorem tX0_ship (l : Launch) (w : ZW) {σ σ' : ZS} {p1 : Int32} {p2 : Int32} {p3 : Int32} {r : Int32} (hf : fX0_ship w σ p1 p2 p3 = some (r, σ')) : zC l w zLx yX0_ship (wsW_ yX0_ship cX0_ship 5 (some .int) [(0, 144, 145, 8)]) 5 75 [.ref (w.2.2 0), .int p1, .int p2, .int p3] σ (.returned (some (.int r))) σ' := by
  refine zC.ofW (plainFor_of_name (by decide)) (Nat.le_of_ble_eq_true rfl) ?_
  intro p e s m args below meth c C hnm
  show Z p l e _ s m args below meth c _ w _ _ 5 σ 0 [(0, .ref (w.2.2 0)), (1, .int p1), (2, .int p2), (3, .int p3)] []
  unfold fX0_ship at hf
  refine z_aload_n C 0 dX0_ship_0 rfl rfl ?_
  refine z_iload_n C 1 dX0_ship_1 rfl rfl ?_
  refine z_iconst C 0 dX0_ship_2 (by decide) ?_
  refine z_bipush C 69 dX0_ship_3 (by decide) ?_
  refine z_calli C (rest := [.ref (w.2.2 0)]) (av := [.int p1, .int 0, .int 69]) (zPay.of q350 q74) (fun H ls hH h2 => zInv_S C (As := [.int p1, .int 0, .int 69]) (rest := [.ref (w.2.2 0)]) q348 q349 q74 (Or.inl rfl) q350 mh_X0 np_X0_in dX0_ship_5) (tX0_in l w zLx σ p1 0 69) (Nat.le_of_ble_eq_true rfl) (Nat.le_of_ble_eq_true rfl) ?_
  obtain ⟨j_1, ej_1, hf⟩ := nmo_ hf
  have hj_1 : j_1 = 0 ∨ j_1 = 1 := by rw [ej_1]; (try dsimp only [nm]); (repeat' split) <;> first | exact Or.inl rfl | exact Or.inr rfl
  have hjj_1 : Z p l e (zRm 5 75 σ) s m args below meth c (zQ below w zLx σ (.returned (some (.int r))) σ' args s) w zLx (zA w zLx σ) 5 σ 34 [(0, .ref (w.2.2 0)), (1, .int p1), (2, .int p2), (3, .int p3)] [.int j_1, .ref (w.2.2 0)] := by
    refine z_iconst C 1 dX0_ship_34 (by decide) ?_
    obtain ⟨r_2, σ_4, e_3, hf⟩ := bd_ hf
    rcases r_2 with ⟨⟩ | ⟨⟩
    · dsimp only [sc] at hf
      refine z_callv C (rest := []) (av := (.ref (w.2.2 0) :: [.int j_1, .int 1])) (zPay.of q354 q74) (fun H ls hH h2 => zInv_V C (As := [.int j_1, .int 1]) (rest := []) (ci := 0) (T := TX0) (N := 8) rfl (zSee.fix ly_x0) hH q351 q353 qs1 (Or.inl rfl) q354 mh_X0 np_X0_need dX0_ship_35) (tX0_need l w e_3) (Nat.le_of_ble_eq_true rfl) (Nat.le_of_ble_eq_true rfl) ?_
      refine z_aload_n C 0 dX0_ship_38 rfl rfl ?_
      refine z_aload_n C 0 dX0_ship_39 rfl rfl ?_
      refine z_getR C ly_x0 (Cn := RX0) (T := TX0) (N := 8) rfl in_X0 1 (by decide) q320 (Or.inl rfl) rfl dX0_ship_40 ?_
      refine z_getIN C (ly_b0 zb100) (Cn := RX2) (T := TX2) (N := 20) rfl in_X2 8 (by decide) q230 (Or.inl rfl) rfl dX0_ship_43 ?_
      refine z_bipush C 7 dX0_ship_46 (by decide) ?_
      obtain ⟨j_7, ej_7, hf⟩ := nmo_ hf
      have hj_7 : j_7 = 0 ∨ j_7 = 1 := by rw [ej_7]; (try dsimp only [nm]); (repeat' split) <;> first | exact Or.inl rfl | exact Or.inr rfl
      have hjj_7 : Z p l e (zRm 5 75 σ) s m args below meth c (zQ below w zLx σ (.returned (some (.int r))) σ' args s) w zLx (zA w zLx σ) 5 σ_4 56 [(0, .ref (w.2.2 0)), (1, .int p1), (2, .int p2), (3, .int p3)] [.int j_7, .ref (w.2.2 0)] := by
        refine z_iconst C 4 dX0_ship_56 (by decide) ?_
        obtain ⟨r_8, σ_10, e_9, hf⟩ := bd_ hf
        rcases r_8 with ⟨⟩ | ⟨⟩
        · dsimp only [sc] at hf
          refine z_callv C (rest := []) (av := (.ref (w.2.2 0) :: [.int j_7, .int 4])) (zPay.of q354 q74) (fun H ls hH h2 => zInv_V C (As := [.int j_7, .int 4]) (rest := []) (ci := 0) (T := TX0) (N := 8) rfl (zSee.fix ly_x0) hH q351 q353 qs1 (Or.inl rfl) q354 mh_X0 np_X0_need dX0_ship_57) (tX0_need l w e_9) (Nat.le_of_ble_eq_true rfl) (Nat.le_of_ble_eq_true rfl) ?_
          refine z_aload_n C 0 dX0_ship_60 rfl rfl ?_
          refine z_getR C ly_x0 (Cn := RX0) (T := TX0) (N := 8) rfl in_X0 1 (by decide) q320 (Or.inl rfl) rfl dX0_ship_61 ?_
          refine z_getIN C (ly_b0 zb100) (Cn := RX2) (T := TX2) (N := 20) rfl in_X2 8 (by decide) q230 (Or.inl rfl) rfl dX0_ship_64 ?_
          obtain ⟨x4_13, ex4_13, hf⟩ := nmo_ hf
          refine z_top ex4_13 ?_
          refine z_istore C dX0_ship_67 (by decide) rfl (lv' := [(4, .int x4_13), (0, .ref (w.2.2 0)), (1, .int p1), (2, .int p2), (3, .int p3)]) ?_
          refine z_aload_n C 1 dX0_ship_69 rfl rfl ?_
          refine z_getR C ly_x0 (Cn := RX0) (T := TX0) (N := 8) rfl in_X0 1 (by decide) q320 (Or.inl rfl) rfl dX0_ship_70 ?_
          refine z_getRN C (ly_b0 zb100) (Cn := RX2) (T := TX2) (N := 20) rfl in_X2 9 (by decide) q232 (Or.inl rfl) rfl dX0_ship_73 ?_
          refine z_iload C 0 dX0_ship_76 rfl ?_
          refine z_iload_n C 2 dX0_ship_78 rfl rfl ?_
          refine z_bipush C 10 dX0_ship_79 (by decide) ?_
          refine z_idiv C dX0_ship_81 (by decide) ?_
          refine z_aload_n C 1 dX0_ship_82 rfl rfl ?_
          refine z_getR C ly_x0 (Cn := RX0) (T := TX0) (N := 8) rfl in_X0 5 (by decide) q324 (Or.inl rfl) rfl dX0_ship_83 ?_
          refine z_iload C 0 dX0_ship_86 rfl ?_
          refine z_iload_n C 2 dX0_ship_88 rfl rfl ?_
          refine z_bipush C 10 dX0_ship_89 (by decide) ?_
          refine z_irem C dX0_ship_91 (by decide) ?_
          obtain ⟨r_14, σ_16, e_15, hf⟩ := bd_ hf
          refine z_callr C (rest := [.int x4_13, .ref (w.2.2 (100 + 10))]) (av := [.int (p1 / 10), .ref (w.2.2 4), .int x4_13, .int (p1 - p1 / 10 * 10)]) (zPay.of q455 q74) (fun H ls hH h2 => zInv_S C (As := [.int (p1 / 10), .ref (w.2.2 4), .int x4_13, .int (p1 - p1 / 10 * 10)]) (rest := [.int x4_13, .ref (w.2.2 (100 + 10))]) q453 q454 q74 (Or.inl rfl) q455 mh_X0 np_X0_shipOf dX0_ship_92) (tX0_shipOf l w e_15) (Nat.le_of_ble_eq_true rfl) (Nat.le_of_ble_eq_true rfl) ?_
          obtain ⟨⟨ci_17, n_18, k_19⟩, e_20, hf⟩ := bo_ hf
          try dsimp only at hf
          obtain ⟨hP_21, hci_22⟩ := oShip_ e_20
          obtain ⟨g_23, hf⟩ := gd_ hf
          refine z_aastoreS C hci_22 hP_21 (ly_b10 zb100) g_23 dX0_ship_95 ?_
          refine z_aload_n C 1 dX0_ship_96 rfl rfl ?_
          refine z_getR C ly_x0 (Cn := RX0) (T := TX0) (N := 8) rfl in_X0 1 (by decide) q320 (Or.inl rfl) rfl dX0_ship_97 ?_
          refine z_getRN C (ly_b0 zb100) (Cn := RX2) (T := TX2) (N := 20) rfl in_X2 10 (by decide) q234 (Or.inl rfl) rfl dX0_ship_100 ?_
          refine z_iload C 0 dX0_ship_103 rfl ?_
          refine z_iload_n C 3 dX0_ship_105 rfl rfl ?_
          refine z_iastore C (ly_b11 zb100) g_23 dX0_ship_106 ?_
          refine z_aload_n C 1 dX0_ship_107 rfl rfl ?_
          refine z_getR C ly_x0 (Cn := RX0) (T := TX0) (N := 8) rfl in_X0 1 (by decide) q320 (Or.inl rfl) rfl dX0_ship_108 ?_
          refine z_getRN C (ly_b0 zb100) (Cn := RX2) (T := TX2) (N := 20) rfl in_X2 11 (by decide) q236 (Or.inl rfl) rfl dX0_ship_111 ?_
          refine z_iload C 0 dX0_ship_114 rfl ?_
          refine z_iload_n C 4 dX0_ship_116 rfl rfl ?_
          refine z_iastore C (ly_b12 zb100) g_23 dX0_ship_117 ?_
          refine z_aload_n C 1 dX0_ship_118 rfl rfl ?_
          refine z_getR C ly_x0 (Cn := RX0) (T := TX0) (N := 8) rfl in_X0 1 (by decide) q320 (Or.inl rfl) rfl dX0_ship_119 ?_
          refine z_getRN C (ly_b0 zb100) (Cn := RX2) (T := TX2) (N := 20) rfl in_X2 12 (by decide) q238 (Or.inl rfl) rfl dX0_ship_122 ?_
          refine z_iload C 0 dX0_ship_125 rfl ?_
          refine z_iconst C 0 dX0_ship_127 (by decide) ?_
          refine z_iastore C (ly_b13 zb100) g_23 dX0_ship_128 ?_
          refine z_aload_n C 1 dX0_ship_129 rfl rfl ?_
          refine z_getR C ly_x0 (Cn := RX0) (T := TX0) (N := 8) rfl in_X0 1 (by decide) q320 (Or.inl rfl) rfl dX0_ship_130 ?_
          refine z_dup C dX0_ship_133 rfl ?_
          refine z_getIN C (ly_b0 zb100) (Cn := RX2) (T := TX2) (N := 20) rfl in_X2 8 (by decide) q230 (Or.inl rfl) rfl dX0_ship_134 ?_
          refine z_iconst C 1 dX0_ship_137 (by decide) ?_
          refine z_iadd C dX0_ship_138 ?_
          obtain ⟨f_24, ef_24, hf⟩ := nmo_ hf
          refine z_top ef_24 ?_
          refine z_putI C (ly_b0 zb100) (k := 8) rfl (zPutN C (Cn := RX2) (T := TX2) (N := 20) rfl in_X2 tyX2 tyX2_ok nmX2 8 (by decide) q230 (Or.inl rfl) rfl rfl rfl (zFs_lt (Nat.le_of_ble_eq_true rfl)) dX0_ship_139) ?_
          refine z_iload C 0 dX0_ship_142 rfl ?_
          obtain ⟨rfl, rfl⟩ := fin_ hf
          exact z_iret C rfl dX0_ship_144
        · dsimp only [sc] at hf
          refine z_callt C (rest := []) (av := (.ref (w.2.2 0) :: [.int j_7, .int 4])) (zPay.of q354 q74) (fun H ls hH h2 => zInv_V C (As := [.int j_7, .int 4]) (rest := []) (ci := 0) (T := TX0) (N := 8) rfl (zSee.fix ly_x0) hH q351 q353 qs1 (Or.inl rfl) q354 mh_X0 np_X0_need dX0_ship_57) (tX0_need l w e_9) (Nat.le_of_ble_eq_true rfl) (Nat.le_of_ble_eq_true rfl) ?_
          refine z_catch C [] 0 144 145 8 [] rfl (by decide) (by decide) (by decide) (ci := 1) (Cn := RX1) (T0 := TX1) (N := 7) rfl (zSee.fix ly_x1) q118 ?_
          refine z_astore C dX0_ship_145 (by decide) rfl (lv' := [(4, .ref (w.2.2 1)), (0, .ref (w.2.2 0)), (1, .int p1), (2, .int p2), (3, .int p3)]) ?_
          refine z_aload_n C 1 dX0_ship_147 rfl rfl ?_
          refine z_aload C 0 dX0_ship_148 rfl ?_
          obtain ⟨r_25, σ_27, e_26, hf⟩ := bd_ hf
          refine z_calli C (rest := []) (av := (.ref (w.2.2 0) :: [.ref (w.2.2 1)])) (zPay.of q362 q74) (fun H ls hH h2 => zInv_V C (As := [.ref (w.2.2 1)]) (rest := []) (ci := 0) (T := TX0) (N := 8) rfl (zSee.fix ly_x0) hH q359 q361 qs2 (Or.inl rfl) q362 mh_X0 np_X0_finds dX0_ship_150) (tX0_finds l w e_26) (Nat.le_of_ble_eq_true rfl) (Nat.le_of_ble_eq_true rfl) ?_
          obtain ⟨rfl, rfl⟩ := fin_ hf
          exact z_iret C rfl dX0_ship_153
      replace hf := ej_7
      refine z_icmp_ge C 55 dX0_ship_48 (by decide) (fun c_28 => ?_) (fun c_28 => ?_)
      · replace hf := ifp_t c_28 hf
        refine z_iconst C 0 dX0_ship_55 (by decide) ?_
        subst hf
        exact hjj_7
      · replace hf := ifp_f c_28 hf
        refine z_iconst C 1 dX0_ship_51 (by decide) ?_
        refine z_goto C 56 dX0_ship_52 (by decide) ?_
        subst hf
        exact hjj_7
    · dsimp only [sc] at hf
      refine z_callt C (rest := []) (av := (.ref (w.2.2 0) :: [.int j_1, .int 1])) (zPay.of q354 q74) (fun H ls hH h2 => zInv_V C (As := [.int j_1, .int 1]) (rest := []) (ci := 0) (T := TX0) (N := 8) rfl (zSee.fix ly_x0) hH q351 q353 qs1 (Or.inl rfl) q354 mh_X0 np_X0_need dX0_ship_35) (tX0_need l w e_3) (Nat.le_of_ble_eq_true rfl) (Nat.le_of_ble_eq_true rfl) ?_
      refine z_catch C [] 0 144 145 8 [] rfl (by decide) (by decide) (by decide) (ci := 1) (Cn := RX1) (T0 := TX1) (N := 7) rfl (zSee.fix ly_x1) q118 ?_
      refine z_astore C dX0_ship_145 (by decide) rfl (lv' := [(4, .ref (w.2.2 1)), (0, .ref (w.2.2 0)), (1, .int p1), (2, .int p2), (3, .int p3)]) ?_
      refine z_aload_n C 1 dX0_ship_147 rfl rfl ?_
      refine z_aload C 0 dX0_ship_148 rfl ?_
      obtain ⟨r_29, σ_31, e_30, hf⟩ := bd_ hf
      refine z_calli C (rest := []) (av := (.ref (w.2.2 0) :: [.ref (w.2.2 1)])) (zPay.of q362 q74) (fun H ls hH h2 => zInv_V C (As := [.ref (w.2.2 1)]) (rest := []) (ci := 0) (T := TX0) (N := 8) rfl (zSee.fix ly_x0) hH q359 q361 qs2 (Or.inl rfl) q362 mh_X0 np_X0_finds dX0_ship_150) (tX0_finds l w e_30) (Nat.le_of_ble_eq_true rfl) (Nat.le_of_ble_eq_true rfl) ?_
      obtain ⟨rfl, rfl⟩ := fin_ hf
      exact z_iret C rfl dX0_ship_153
  replace hf := ej_1
  refine z_if_eq C 33 dX0_ship_8 (by decide) (fun c_32 => ?_) (fun c_32 => ?_)
  · replace hf := ifp_t c_32 hf
    refine z_iconst C 0 dX0_ship_33 (by decide) ?_
    subst hf
    exact hjj_1
  · replace hf := ifp_f c_32 hf
    refine z_iload_n C 2 dX0_ship_11 rfl rfl ?_
    refine z_iconst C 0 dX0_ship_12 (by decide) ?_
    refine z_bipush C 9 dX0_ship_13 (by decide) ?_
    refine z_calli C (rest := [.ref (w.2.2 0)]) (av := [.int p2, .int 0, .int 9]) (zPay.of q350 q74) (fun H ls hH h2 => zInv_S C (As := [.int p2, .int 0, .int 9]) (rest := [.ref (w.2.2 0)]) q348 q349 q74 (Or.inl rfl) q350 mh_X0 np_X0_in dX0_ship_15) (tX0_in l w zLx σ p2 0 9) (Nat.le_of_ble_eq_true rfl) (Nat.le_of_ble_eq_true rfl) ?_
    refine z_if_eq C 33 dX0_ship_18 (by decide) (fun c_33 => ?_) (fun c_33 => ?_)
    · replace hf := ifp_t c_33 hf
      refine z_iconst C 0 dX0_ship_33 (by decide) ?_
      subst hf
      exact hjj_1
    · replace hf := ifp_f c_33 hf
      refine z_aload_n C 0 dX0_ship_21 rfl rfl ?_
      refine z_iload_n C 3 dX0_ship_22 rfl rfl ?_
      refine z_calli C (rest := [.ref (w.2.2 0)]) (av := (.ref (w.2.2 0) :: [.int p3])) (zPay.of q371 q74) (fun H ls hH h2 => zInv_V C (As := [.int p3]) (rest := [.ref (w.2.2 0)]) (ci := 0) (T := TX0) (N := 8) rfl (zSee.fix ly_x0) hH q368 q370 qs3 (Or.inl rfl) q371 mh_X0 np_X0_isCell dX0_ship_23) (tX0_isCell l w σ p3) (Nat.le_of_ble_eq_true rfl) (Nat.le_of_ble_eq_true rfl) ?_
      refine z_if_eq C 33 dX0_ship_26 (by decide) (fun c_34 => ?_) (fun c_34 => ?_)
      · replace hf := ifp_t c_34 hf
        refine z_iconst C 0 dX0_ship_33 (by decide) ?_
        subst hf
        exact hjj_1
      · replace hf := ifp_f c_34 hf
        refine z_iconst C 1 dX0_ship_29 (by decide) ?_
        refine z_goto C 34 dX0_ship_30 (by decide) ?_
        subst hf
        exact hjj_1
