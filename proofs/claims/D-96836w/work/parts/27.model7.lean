/-! the reference, walked (written by gen/main_m.py) -/
def fX6_P : Nat → Nat → ZS → Option (Unit × ZS)
  | 0, _, _ => none
  | d + 1, 0, σ => fX6_either (fX6_P d) σ
  | d + 1, 1, σ => fX6_both (fX6_P d) σ
  | d + 1, 2, σ => fX6_compared (fX6_P d) σ
  | d + 1, 3, σ => fX6_sum (fX6_P d) σ
  | d + 1, 4, σ => fX6_product (fX6_P d) σ
  | d + 1, _, σ => fX6_one (fX6_P d) σ
theorem tX6_P (l : Launch) (w : ZW) : ∀ d, zRecM l w (fX6_P d) (12 * d) (100 * d)
  | 0 => ⟨fun σ σ' h => none_ h, fun σ σ' h => none_ h, fun σ σ' h => none_ h, fun σ σ' h => none_ h, fun σ σ' h => none_ h, fun σ σ' h => none_ h⟩
  | d + 1 => ⟨fun σ σ' h => tX6_either l w (tX6_P l w d) h, fun σ σ' h => tX6_both l w (tX6_P l w d) h, fun σ σ' h => tX6_compared l w (tX6_P l w d) h, fun σ σ' h => tX6_sum l w (tX6_P l w d) h, fun σ σ' h => tX6_product l w (tX6_P l w d) h, fun σ σ' h => tX6_one l w (tX6_P l w d) h⟩

def fX6_text_L120 (y1 : Int32) : Nat → Int32 → ZS → Option ((Int32) × ZS)
  | 0, _, _ => none
  | n + 1, y2, σ => if (σ.1 0 12) ≤ y2 then (some (y2, σ)) else (gd (¬ (y2 < 0 ∨ 60 ≤ y2.toNatClampNeg)) (nm (σ.1 12 y2.toNatClampNeg) (fun (v_11 : Int32) => gd (¬ ((((138 + (52 * (σ.1 0 9))) + 1) + y2) < 0 ∨ 242 ≤ (((138 + (52 * (σ.1 0 9))) + 1) + y2).toNatClampNeg)) (nm (y2 + 1) (fun (x2_13 : Int32) => fX6_text_L120 y1 n x2_13 (sI σ 1 ((((138 + (52 * (σ.1 0 9))) + 1) + y2).toNatClampNeg) v_11))))))
def fX6_text (σ : ZS) (p1 : Int32) : Option (Int32 × ZS) := if (fX6_within p1 0 1) = 0 then (bd (fX6_finding σ (-1000000001)) (fun r_22 σ_24 => some (r_22, σ_24))) else (bd (fX6_P 50 0 (sI (sI (sI (sI (sI σ 0 9 p1) 0 7 0) 0 8 0) 0 10 0) 0 12 0)) (fun _ σ_4 => nm (if (σ_4.1 0 10) = 0 then (if (σ_4.1 1 (7 : Int32).toNatClampNeg) ≤ (σ_4.1 0 7) then 0 else 1) else 1) (fun (j_5 : Int32) => if ((sI (sI σ_4 0 10 j_5) 1 ((7 : Int32).toNatClampNeg) 0).1 0 10) = 0 then (nm ((sI (sI σ_4 0 10 j_5) 1 ((7 : Int32).toNatClampNeg) 0).1 0 12) (fun (v_7 : Int32) => gd (¬ ((138 + (52 * ((sI (sI σ_4 0 10 j_5) 1 ((7 : Int32).toNatClampNeg) 0).1 0 9))) < 0 ∨ 242 ≤ (138 + (52 * ((sI (sI σ_4 0 10 j_5) 1 ((7 : Int32).toNatClampNeg) 0).1 0 9))).toNatClampNeg)) (bd (fX6_text_L120 p1 10000 0 (sI (sI (sI σ_4 0 10 j_5) 1 ((7 : Int32).toNatClampNeg) 0) 1 ((138 + (52 * ((sI (sI σ_4 0 10 j_5) 1 ((7 : Int32).toNatClampNeg) 0).1 0 9))).toNatClampNeg) v_7)) (fun x2_14 σ_15 => bd (fX6_forgetDepths σ_15) (fun _ σ_19 => some (1, σ_19)))))) else (some ((-10) - ((sI (sI σ_4 0 10 j_5) 1 ((7 : Int32).toNatClampNeg) 0).1 0 7), sI (sI σ_4 0 10 j_5) 1 ((7 : Int32).toNatClampNeg) 0)))))
set_option maxHeartbeats 4000000 in
set_option maxRecDepth 100000 in
theorem lfX6_text_L120 {p : Program} {l : Launch} {e : Env} {R : Room} {s : State} {m : MethodId} {args : Array Value} {below : List Frame} {meth : Method} {c : Code} {Q : State → Prop} {w : ZW} {A : Nat → Prop} {ret : Option FieldType} {hh : List (Nat × Nat × Nat × Nat)} (C : zCx p s m args meth c w zLm A 3 cX6_text RX6 ret hh) (hfr : 0 ≤ R.frames) (hlo : 0 ≤ R.locals) (y1 : Int32) {z2 : Int32} {σ' : ZS} (hk : Z p l e R s m args below meth c Q w zLm A 3 σ' 160 [(0, .ref (w.2.2 0)), (1, .int y1), (2, .int z2)] []) : ∀ (n : Nat) (y2 : Int32) (σ : ZS), fX6_text_L120 y1 n y2 σ = some (z2, σ') → Z p l e R s m args below meth c Q w zLm A 3 σ 120 [(0, .ref (w.2.2 0)), (1, .int y1), (2, .int y2)] [] := by
  intro n
  induction n with
  | zero => intro y2 σ hf; exact none_ hf
  | succ n ih =>
    intro y2 σ hf
    rw [fX6_text_L120] at hf
    refine z_iload_n C 2 dX6_text_120 rfl rfl ?_
    refine z_aload_n C 0 dX6_text_121 rfl rfl ?_
    refine z_getI C ly_m0 (Cn := RX6) (T := TX6) (N := 24) rfl in_X6 12 (by decide) q1416 (Or.inl rfl) rfl dX6_text_122 ?_
    refine z_icmp_ge C 160 dX6_text_125 (by decide) (fun c_9 => ?_) (fun c_9 => ?_)
    · replace hf := if_t c_9 hf
      obtain ⟨rfl, rfl⟩ := fin_ hf
      exact hk
    · replace hf := if_f c_9 hf
      refine z_aload_n C 0 dX6_text_128 rfl rfl ?_
      refine z_getR C ly_m0 (Cn := RX6) (T := TX6) (N := 24) rfl in_X6 0 (by decide) q1404 (Or.inl rfl) rfl dX6_text_129 ?_
      refine z_sipush C 138 dX6_text_132 (by decide) ?_
      refine z_bipush C 52 dX6_text_135 (by decide) ?_
      refine z_aload_n C 0 dX6_text_137 rfl rfl ?_
      refine z_getI C ly_m0 (Cn := RX6) (T := TX6) (N := 24) rfl in_X6 9 (by decide) q1413 (Or.inl rfl) rfl dX6_text_138 ?_
      refine z_imul C dX6_text_141 ?_
      refine z_iadd C dX6_text_142 ?_
      refine z_iconst C 1 dX6_text_143 (by decide) ?_
      refine z_iadd C dX6_text_144 ?_
      refine z_iload_n C 2 dX6_text_145 rfl rfl ?_
      refine z_iadd C dX6_text_146 ?_
      refine z_aload_n C 0 dX6_text_147 rfl rfl ?_
      refine z_getR C ly_m0 (Cn := RX6) (T := TX6) (N := 24) rfl in_X6 11 (by decide) q1415 (Or.inl rfl) rfl dX6_text_148 ?_
      refine z_iload_n C 2 dX6_text_151 rfl rfl ?_
      obtain ⟨g_10, hf⟩ := gd_ hf
      refine z_ialoadF C ly_m12 g_10 dX6_text_152 ?_
      obtain ⟨v_11, ev_11, hf⟩ := nmo_ hf
      refine z_top ev_11 ?_
      obtain ⟨g_12, hf⟩ := gd_ hf
      refine z_iastore C ly_m1 g_12 dX6_text_153 ?_
      obtain ⟨x2_13, ex2_13, hf⟩ := nmo_ hf
      refine z_iinc C x2_13 2 dX6_text_154 rfl (by rw [ex2_13]; rfl) (by decide) rfl (lv' := [(2, .int x2_13), (0, .ref (w.2.2 0)), (1, .int y1)]) ?_
      refine z_goto C 120 dX6_text_157 (by decide) ?_
      exact z_lv [1, 2, 0] rfl (ih _ _ hf)
set_option maxHeartbeats 4000000 in
set_option maxRecDepth 100000 in
theorem tX6_text (l : Launch) (w : ZW) {σ σ' : ZS} {p1 : Int32} {r : Int32} (hf : fX6_text σ p1 = some (r, σ')) : zC l w zLm yX6_text (ws_ yX6_text cX6_text 3 (some .int)) 601 5012 [.ref (w.2.2 0), .int p1] σ (.returned (some (.int r))) σ' := by
  refine zC.of (plainFor_of_name (by decide)) (Nat.le_of_ble_eq_true rfl) ?_
  intro p e s m args below meth c C hnm
  show Z p l e _ s m args below meth c _ w _ _ 3 σ 0 [(0, .ref (w.2.2 0)), (1, .int p1)] []
  unfold fX6_text at hf
  refine z_iload_n C 1 dX6_text_0 rfl rfl ?_
  refine z_iconst C 0 dX6_text_1 (by decide) ?_
  refine z_iconst C 1 dX6_text_2 (by decide) ?_
  refine z_calli C (rest := []) (av := [.int p1, .int 0, .int 1]) (zPay.of q1483 q83) (fun H ls hH h2 => zInv_S C (As := [.int p1, .int 0, .int 1]) (rest := []) q1481 q1482 q83 (Or.inl rfl) q1483 mh_X6 np_X6_within dX6_text_3) (tX6_within l w zLm σ p1 0 1) (Nat.le_of_ble_eq_true rfl) (Nat.le_of_ble_eq_true rfl) ?_
  refine z_if_ne C 16 dX6_text_6 (by decide) (fun c_1 => ?_) (fun c_1 => ?_)
  · replace hf := if_f c_1 hf
    refine z_aload_n C 0 dX6_text_16 rfl rfl ?_
    refine z_iload_n C 1 dX6_text_17 rfl rfl ?_
    refine z_putI C ly_m0 (k := 9) rfl (zPut C (Cn := RX6) (T := TX6) (N := 24) rfl in_X6 tyX6 tyX6_ok nmX6 9 (by decide) q1413 (Or.inl rfl) rfl rfl rfl (zFs_lt (Nat.le_of_ble_eq_true rfl)) dX6_text_18) ?_
    refine z_aload_n C 0 dX6_text_21 rfl rfl ?_
    refine z_iconst C 0 dX6_text_22 (by decide) ?_
    refine z_putI C ly_m0 (k := 7) rfl (zPut C (Cn := RX6) (T := TX6) (N := 24) rfl in_X6 tyX6 tyX6_ok nmX6 7 (by decide) q1411 (Or.inl rfl) rfl rfl rfl (zFs_lt (Nat.le_of_ble_eq_true rfl)) dX6_text_23) ?_
    refine z_aload_n C 0 dX6_text_26 rfl rfl ?_
    refine z_iconst C 0 dX6_text_27 (by decide) ?_
    refine z_putI C ly_m0 (k := 8) rfl (zPut C (Cn := RX6) (T := TX6) (N := 24) rfl in_X6 tyX6 tyX6_ok nmX6 8 (by decide) q1412 (Or.inl rfl) rfl rfl rfl (zFs_lt (Nat.le_of_ble_eq_true rfl)) dX6_text_28) ?_
    refine z_aload_n C 0 dX6_text_31 rfl rfl ?_
    refine z_iconst C 0 dX6_text_32 (by decide) ?_
    refine z_putI C ly_m0 (k := 10) rfl (zPut C (Cn := RX6) (T := TX6) (N := 24) rfl in_X6 tyX6 tyX6_ok nmX6 10 (by decide) q1414 (Or.inl rfl) rfl (b01 (by decide)) (f01 (by decide)) (zFs_lt (Nat.le_of_ble_eq_true rfl)) dX6_text_33) ?_
    refine z_aload_n C 0 dX6_text_36 rfl rfl ?_
    refine z_iconst C 0 dX6_text_37 (by decide) ?_
    refine z_putI C ly_m0 (k := 12) rfl (zPut C (Cn := RX6) (T := TX6) (N := 24) rfl in_X6 tyX6 tyX6_ok nmX6 12 (by decide) q1416 (Or.inl rfl) rfl rfl rfl (zFs_lt (Nat.le_of_ble_eq_true rfl)) dX6_text_38) ?_
    refine z_aload_n C 0 dX6_text_41 rfl rfl ?_
    obtain ⟨⟨⟩, σ_4, e_3, hf⟩ := bd_ hf
    refine z_callv C (rest := []) (av := (.ref (w.2.2 0) :: [])) (zPay.of q1499 q83) (fun H ls hH h2 => zInv_V C (As := []) (rest := []) (ci := 6) (T := TX6) (N := 24) rfl (zSee.fix ly_m0) hH q1496 q1498 qs33 (Or.inl rfl) q1499 mh_X6 np_X6_either dX6_text_42) ((tX6_P l w 50).1 _ _ e_3) (Nat.le_of_ble_eq_true rfl) (Nat.le_of_ble_eq_true rfl) ?_
    refine z_aload_n C 0 dX6_text_45 rfl rfl ?_
    refine z_aload_n C 0 dX6_text_46 rfl rfl ?_
    refine z_getI C ly_m0 (Cn := RX6) (T := TX6) (N := 24) rfl in_X6 10 (by decide) q1414 (Or.inl rfl) rfl dX6_text_47 ?_
    obtain ⟨j_5, ej_5, hf⟩ := nmo_ hf
    have hj_5 : j_5 = 0 ∨ j_5 = 1 := by rw [ej_5]; (repeat' split) <;> first | exact Or.inl rfl | exact Or.inr rfl
    have hjj_5 : Z p l e (zRm 601 5012 σ) s m args below meth c (zQ below w zLm σ (.returned (some (.int r))) σ' args s) w zLm (zA w zLm σ) 3 σ_4 72 [(0, .ref (w.2.2 0)), (1, .int p1)] [.int j_5, .ref (w.2.2 0)] := by
      refine z_putI C ly_m0 (k := 10) rfl (zPut C (Cn := RX6) (T := TX6) (N := 24) rfl in_X6 tyX6 tyX6_ok nmX6 10 (by decide) q1414 (Or.inl rfl) rfl (b01 hj_5) (f01 hj_5) (zFs_lt (Nat.le_of_ble_eq_true rfl)) dX6_text_72) ?_
      refine z_aload_n C 0 dX6_text_75 rfl rfl ?_
      refine z_getR C ly_m0 (Cn := RX6) (T := TX6) (N := 24) rfl in_X6 0 (by decide) q1404 (Or.inl rfl) rfl dX6_text_76 ?_
      refine z_bipush C 7 dX6_text_79 (by decide) ?_
      refine z_iconst C 0 dX6_text_81 (by decide) ?_
      refine z_iastore C ly_m1 (by decide) dX6_text_82 ?_
      refine z_aload_n C 0 dX6_text_83 rfl rfl ?_
      refine z_getI C ly_m0 (Cn := RX6) (T := TX6) (N := 24) rfl in_X6 10 (by decide) q1414 (Or.inl rfl) rfl dX6_text_84 ?_
      refine z_if_eq C 98 dX6_text_87 (by decide) (fun c_6 => ?_) (fun c_6 => ?_)
      · replace hf := if_t c_6 hf
        refine z_aload_n C 0 dX6_text_98 rfl rfl ?_
        refine z_getR C ly_m0 (Cn := RX6) (T := TX6) (N := 24) rfl in_X6 0 (by decide) q1404 (Or.inl rfl) rfl dX6_text_99 ?_
        refine z_sipush C 138 dX6_text_102 (by decide) ?_
        refine z_bipush C 52 dX6_text_105 (by decide) ?_
        refine z_aload_n C 0 dX6_text_107 rfl rfl ?_
        refine z_getI C ly_m0 (Cn := RX6) (T := TX6) (N := 24) rfl in_X6 9 (by decide) q1413 (Or.inl rfl) rfl dX6_text_108 ?_
        refine z_imul C dX6_text_111 ?_
        refine z_iadd C dX6_text_112 ?_
        refine z_aload_n C 0 dX6_text_113 rfl rfl ?_
        refine z_getI C ly_m0 (Cn := RX6) (T := TX6) (N := 24) rfl in_X6 12 (by decide) q1416 (Or.inl rfl) rfl dX6_text_114 ?_
        obtain ⟨v_7, ev_7, hf⟩ := nmo_ hf
        refine z_top ev_7 ?_
        obtain ⟨g_8, hf⟩ := gd_ hf
        refine z_iastore C ly_m1 g_8 dX6_text_117 ?_
        refine z_iconst C 0 dX6_text_118 (by decide) ?_
        refine z_istore_n C dX6_text_119 rfl (by decide) rfl (lv' := [(2, .int 0), (0, .ref (w.2.2 0)), (1, .int p1)]) ?_
        obtain ⟨x2_14, σ_15, e_16, hf⟩ := bd_ hf
        refine z_lv (lv' := [(0, .ref (w.2.2 0)), (1, .int p1), (2, .int 0)]) [1, 2, 0] rfl ?_
        refine lfX6_text_L120 C (Nat.le_of_ble_eq_true rfl) (Nat.le_of_ble_eq_true rfl) p1 ?_ _ _ _ e_16
        refine z_aload_n C 0 dX6_text_160 rfl rfl ?_
        obtain ⟨⟨⟩, σ_19, e_18, hf⟩ := bd_ hf
        refine z_callv C (rest := []) (av := (.ref (w.2.2 0) :: [])) (zPay.of q1399 q83) (fun H ls hH h2 => zInv_V C (As := []) (rest := []) (ci := 6) (T := TX6) (N := 24) rfl (zSee.fix ly_m0) hH q1396 q1398 qs30 (Or.inl rfl) q1399 mh_X6 np_X6_forgetDepths dX6_text_161) (tX6_forgetDepths l w e_18) (Nat.le_of_ble_eq_true rfl) (Nat.le_of_ble_eq_true rfl) ?_
        refine z_iconst C 1 dX6_text_164 (by decide) ?_
        obtain ⟨rfl, rfl⟩ := fin_ hf
        exact z_iret C rfl dX6_text_165
      · replace hf := if_f c_6 hf
        refine z_bipush C (-10) dX6_text_90 (by decide) ?_
        refine z_aload_n C 0 dX6_text_92 rfl rfl ?_
        refine z_getI C ly_m0 (Cn := RX6) (T := TX6) (N := 24) rfl in_X6 7 (by decide) q1411 (Or.inl rfl) rfl dX6_text_93 ?_
        refine z_isub C dX6_text_96 ?_
        obtain ⟨rfl, rfl⟩ := fin_ hf
        exact z_iret C rfl dX6_text_97
    replace hf := ej_5
    refine z_if_ne C 67 dX6_text_50 (by decide) (fun c_20 => ?_) (fun c_20 => ?_)
    · replace hf := ifp_f c_20 hf
      refine z_iconst C 1 dX6_text_67 (by decide) ?_
      refine z_goto C 72 dX6_text_68 (by decide) ?_
      subst hf
      exact hjj_5
    · replace hf := ifp_t c_20 hf
      refine z_aload_n C 0 dX6_text_53 rfl rfl ?_
      refine z_getI C ly_m0 (Cn := RX6) (T := TX6) (N := 24) rfl in_X6 7 (by decide) q1411 (Or.inl rfl) rfl dX6_text_54 ?_
      refine z_aload_n C 0 dX6_text_57 rfl rfl ?_
      refine z_getR C ly_m0 (Cn := RX6) (T := TX6) (N := 24) rfl in_X6 0 (by decide) q1404 (Or.inl rfl) rfl dX6_text_58 ?_
      refine z_bipush C 7 dX6_text_61 (by decide) ?_
      refine z_ialoadF C ly_m1 (by decide) dX6_text_63 ?_
      refine z_icmp_ge C 71 dX6_text_64 (by decide) (fun c_21 => ?_) (fun c_21 => ?_)
      · replace hf := ifp_t c_21 hf
        refine z_iconst C 0 dX6_text_71 (by decide) ?_
        subst hf
        exact hjj_5
      · replace hf := ifp_f c_21 hf
        refine z_iconst C 1 dX6_text_67 (by decide) ?_
        refine z_goto C 72 dX6_text_68 (by decide) ?_
        subst hf
        exact hjj_5
  · replace hf := if_t c_1 hf
    refine z_aload_n C 0 dX6_text_9 rfl rfl ?_
    refine z_ldc C dX6_text_10 q1484 ?_
    obtain ⟨r_22, σ_24, e_23, hf⟩ := bd_ hf
    refine z_calli C (rest := []) (av := (.ref (w.2.2 0) :: [.int (-1000000001)])) (zPay.of q1488 q83) (fun H ls hH h2 => zInv_V C (As := [.int (-1000000001)]) (rest := []) (ci := 6) (T := TX6) (N := 24) rfl (zSee.fix ly_m0) hH q1485 q1487 qs32 (Or.inl rfl) q1488 mh_X6 np_X6_finding dX6_text_12) (tX6_finding l w e_23) (Nat.le_of_ble_eq_true rfl) (Nat.le_of_ble_eq_true rfl) ?_
    obtain ⟨rfl, rfl⟩ := fin_ hf
    exact z_iret C rfl dX6_text_15
