/-! the reference, walked (written by gen/main_m.py) -/
def fX6_put (σ : ZS) (p1 : Int32) (p2 : Int32) (p3 : Int32) : Option (Int32 × ZS) := if (fX6_isSheet p1) = 0 then (bd (fX6_finding σ (-1000000001)) (fun r_15 σ_17 => some (r_15, σ_17))) else (gd (¬ (p1 < 0 ∨ 4 ≤ p1.toNatClampNeg)) (if (σ.1 21 p1.toNatClampNeg) = 0 then (bd (fX6_finding σ (-1000000002)) (fun r_12 σ_14 => some (r_12, σ_14))) else (if (fX6_within p2 0 ((σ.1 22 p1.toNatClampNeg) - 1)) = 0 then (bd (fX6_finding σ (-1000000001)) (fun r_9 σ_11 => some (r_9, σ_11))) else (nm (if (σ.1 21 p1.toNatClampNeg) = 8 then (p3.toInt8.toInt32) else (if (σ.1 21 p1.toNatClampNeg) = 16 then (p3.toInt16.toInt32) else p3)) (fun (j_5 : Int32) => gd (¬ (((40 * p1) + p2) < 0 ∨ 160 ≤ ((40 * p1) + p2).toNatClampNeg)) (some (1, sI σ 23 (((40 * p1) + p2).toNatClampNeg) j_5)))))))
set_option maxHeartbeats 4000000 in
set_option maxRecDepth 100000 in
theorem tX6_put (l : Launch) (w : ZW) {σ σ' : ZS} {p1 : Int32} {p2 : Int32} {p3 : Int32} {r : Int32} (hf : fX6_put σ p1 p2 p3 = some (r, σ')) : zC l w zLm yX6_put (ws_ yX6_put cX6_put 4 (some .int)) 2 26 [.ref (w.2.2 0), .int p1, .int p2, .int p3] σ (.returned (some (.int r))) σ' := by
  refine zC.of (plainFor_of_name (by decide)) (Nat.le_of_ble_eq_true rfl) ?_
  intro p e s m args below meth c C hnm
  show Z p l e _ s m args below meth c _ w _ _ 4 σ 0 [(0, .ref (w.2.2 0)), (1, .int p1), (2, .int p2), (3, .int p3)] []
  unfold fX6_put at hf
  refine z_iload_n C 1 dX6_put_0 rfl rfl ?_
  refine z_calli C (rest := []) (av := [.int p1]) (zPay.of q1765 q83) (fun H ls hH h2 => zInv_S C (As := [.int p1]) (rest := []) q1763 q1764 q83 (Or.inl rfl) q1765 mh_X6 np_X6_isSheet dX6_put_1) (tX6_isSheet l w zLm σ p1) (Nat.le_of_ble_eq_true rfl) (Nat.le_of_ble_eq_true rfl) ?_
  refine z_if_ne C 14 dX6_put_4 (by decide) (fun c_1 => ?_) (fun c_1 => ?_)
  · replace hf := if_f c_1 hf
    refine z_aload_n C 0 dX6_put_14 rfl rfl ?_
    refine z_getR C ly_m0 (Cn := RX6) (T := TX6) (N := 24) rfl in_X6 20 (by decide) q1424 (Or.inl rfl) rfl dX6_put_15 ?_
    refine z_iload_n C 1 dX6_put_18 rfl rfl ?_
    obtain ⟨g_2, hf⟩ := gd_ hf
    refine z_ialoadF C ly_m21 g_2 dX6_put_19 ?_
    refine z_if_ne C 31 dX6_put_20 (by decide) (fun c_3 => ?_) (fun c_3 => ?_)
    · replace hf := if_f c_3 hf
      refine z_iload_n C 2 dX6_put_31 rfl rfl ?_
      refine z_iconst C 0 dX6_put_32 (by decide) ?_
      refine z_aload_n C 0 dX6_put_33 rfl rfl ?_
      refine z_getR C ly_m0 (Cn := RX6) (T := TX6) (N := 24) rfl in_X6 21 (by decide) q1425 (Or.inl rfl) rfl dX6_put_34 ?_
      refine z_iload_n C 1 dX6_put_37 rfl rfl ?_
      refine z_ialoadF C ly_m22 g_2 dX6_put_38 ?_
      refine z_iconst C 1 dX6_put_39 (by decide) ?_
      refine z_isub C dX6_put_40 ?_
      refine z_calli C (rest := []) (av := [.int p2, .int 0, .int ((σ.1 22 p1.toNatClampNeg) - 1)]) (zPay.of q1483 q83) (fun H ls hH h2 => zInv_S C (As := [.int p2, .int 0, .int ((σ.1 22 p1.toNatClampNeg) - 1)]) (rest := []) q1481 q1482 q83 (Or.inl rfl) q1483 mh_X6 np_X6_within dX6_put_41) (tX6_within l w zLm σ p2 0 ((σ.1 22 p1.toNatClampNeg) - 1)) (Nat.le_of_ble_eq_true rfl) (Nat.le_of_ble_eq_true rfl) ?_
      refine z_if_ne C 54 dX6_put_44 (by decide) (fun c_4 => ?_) (fun c_4 => ?_)
      · replace hf := if_f c_4 hf
        refine z_aload_n C 0 dX6_put_54 rfl rfl ?_
        refine z_getR C ly_m0 (Cn := RX6) (T := TX6) (N := 24) rfl in_X6 22 (by decide) q1426 (Or.inl rfl) rfl dX6_put_55 ?_
        refine z_bipush C 40 dX6_put_58 (by decide) ?_
        refine z_iload_n C 1 dX6_put_60 rfl rfl ?_
        refine z_imul C dX6_put_61 ?_
        refine z_iload_n C 2 dX6_put_62 rfl rfl ?_
        refine z_iadd C dX6_put_63 ?_
        refine z_aload_n C 0 dX6_put_64 rfl rfl ?_
        refine z_getR C ly_m0 (Cn := RX6) (T := TX6) (N := 24) rfl in_X6 20 (by decide) q1424 (Or.inl rfl) rfl dX6_put_65 ?_
        refine z_iload_n C 1 dX6_put_68 rfl rfl ?_
        refine z_ialoadF C ly_m21 g_2 dX6_put_69 ?_
        refine z_bipush C 8 dX6_put_70 (by decide) ?_
        obtain ⟨j_5, ej_5, hf⟩ := nmo_ hf
        have hjj_5 : Z p l e (zRm 2 26 σ) s m args below meth c (zQ below w zLm σ (.returned (some (.int r))) σ' args s) w zLm (zA w zLm σ) 4 σ 97 [(0, .ref (w.2.2 0)), (1, .int p1), (2, .int p2), (3, .int p3)] [.int j_5, .int ((40 * p1) + p2), .ref (w.2.2 23)] := by
          obtain ⟨g_6, hf⟩ := gd_ hf
          refine z_iastore C ly_m23 g_6 dX6_put_97 ?_
          refine z_iconst C 1 dX6_put_98 (by decide) ?_
          obtain ⟨rfl, rfl⟩ := fin_ hf
          exact z_iret C rfl dX6_put_99
        replace hf := ej_5
        refine z_icmp_ne C 80 dX6_put_72 (by decide) (fun c_7 => ?_) (fun c_7 => ?_)
        · replace hf := ifp_f c_7 hf
          refine z_aload_n C 0 dX6_put_80 rfl rfl ?_
          refine z_getR C ly_m0 (Cn := RX6) (T := TX6) (N := 24) rfl in_X6 20 (by decide) q1424 (Or.inl rfl) rfl dX6_put_81 ?_
          refine z_iload_n C 1 dX6_put_84 rfl rfl ?_
          refine z_ialoadF C ly_m21 g_2 dX6_put_85 ?_
          refine z_bipush C 16 dX6_put_86 (by decide) ?_
          refine z_icmp_ne C 96 dX6_put_88 (by decide) (fun c_8 => ?_) (fun c_8 => ?_)
          · replace hf := ifp_f c_8 hf
            refine z_iload_n C 3 dX6_put_96 rfl rfl ?_
            subst hf
            exact hjj_5
          · replace hf := ifp_t c_8 hf
            refine z_iload_n C 3 dX6_put_91 rfl rfl ?_
            refine z_i2s C dX6_put_92 ?_
            refine z_goto C 97 dX6_put_93 (by decide) ?_
            subst hf
            exact hjj_5
        · replace hf := ifp_t c_7 hf
          refine z_iload_n C 3 dX6_put_75 rfl rfl ?_
          refine z_i2b C dX6_put_76 ?_
          refine z_goto C 97 dX6_put_77 (by decide) ?_
          subst hf
          exact hjj_5
      · replace hf := if_t c_4 hf
        refine z_aload_n C 0 dX6_put_47 rfl rfl ?_
        refine z_ldc C dX6_put_48 q1484 ?_
        obtain ⟨r_9, σ_11, e_10, hf⟩ := bd_ hf
        refine z_calli C (rest := []) (av := (.ref (w.2.2 0) :: [.int (-1000000001)])) (zPay.of q1488 q83) (fun H ls hH h2 => zInv_V C (As := [.int (-1000000001)]) (rest := []) (ci := 6) (T := TX6) (N := 24) rfl (zSee.fix ly_m0) hH q1485 q1487 qs32 (Or.inl rfl) q1488 mh_X6 np_X6_finding dX6_put_50) (tX6_finding l w e_10) (Nat.le_of_ble_eq_true rfl) (Nat.le_of_ble_eq_true rfl) ?_
        obtain ⟨rfl, rfl⟩ := fin_ hf
        exact z_iret C rfl dX6_put_53
    · replace hf := if_t c_3 hf
      refine z_aload_n C 0 dX6_put_23 rfl rfl ?_
      refine z_ldc_w C dX6_put_24 q1742 ?_
      obtain ⟨r_12, σ_14, e_13, hf⟩ := bd_ hf
      refine z_calli C (rest := []) (av := (.ref (w.2.2 0) :: [.int (-1000000002)])) (zPay.of q1488 q83) (fun H ls hH h2 => zInv_V C (As := [.int (-1000000002)]) (rest := []) (ci := 6) (T := TX6) (N := 24) rfl (zSee.fix ly_m0) hH q1485 q1487 qs32 (Or.inl rfl) q1488 mh_X6 np_X6_finding dX6_put_27) (tX6_finding l w e_13) (Nat.le_of_ble_eq_true rfl) (Nat.le_of_ble_eq_true rfl) ?_
      obtain ⟨rfl, rfl⟩ := fin_ hf
      exact z_iret C rfl dX6_put_30
  · replace hf := if_t c_1 hf
    refine z_aload_n C 0 dX6_put_7 rfl rfl ?_
    refine z_ldc C dX6_put_8 q1484 ?_
    obtain ⟨r_15, σ_17, e_16, hf⟩ := bd_ hf
    refine z_calli C (rest := []) (av := (.ref (w.2.2 0) :: [.int (-1000000001)])) (zPay.of q1488 q83) (fun H ls hH h2 => zInv_V C (As := [.int (-1000000001)]) (rest := []) (ci := 6) (T := TX6) (N := 24) rfl (zSee.fix ly_m0) hH q1485 q1487 qs32 (Or.inl rfl) q1488 mh_X6 np_X6_finding dX6_put_10) (tX6_finding l w e_16) (Nat.le_of_ble_eq_true rfl) (Nat.le_of_ble_eq_true rfl) ?_
    obtain ⟨rfl, rfl⟩ := fin_ hf
    exact z_iret C rfl dX6_put_13
def fX6_move_L128 (y1 : Int32) (y2 : Int32) (y3 : Int32) (y4 : Int32) (y5 : Int32) : Nat → Int32 → ZS → Option ((Int32) × ZS)
  | 0, _, _ => none
  | n + 1, y6, σ => if y5 ≤ y6 then (some (y6, σ)) else (gd (¬ ((((40 * y1) + y2) + y6) < 0 ∨ 160 ≤ (((40 * y1) + y2) + y6).toNatClampNeg)) (nm (σ.1 23 (((40 * y1) + y2) + y6).toNatClampNeg) (fun (v_33 : Int32) => gd (¬ (y6 < 0 ∨ 40 ≤ y6.toNatClampNeg)) (nm (y6 + 1) (fun (x6_35 : Int32) => fX6_move_L128 y1 y2 y3 y4 y5 n x6_35 (sI σ 24 (y6.toNatClampNeg) v_33))))))
def fX6_move_L165 (y1 : Int32) (y2 : Int32) (y3 : Int32) (y4 : Int32) (y5 : Int32) : Nat → Int32 → ZS → Option ((Int32) × ZS)
  | 0, _, _ => none
  | n + 1, y6, σ => if y5 ≤ y6 then (some (y6, σ)) else (gd (¬ (y6 < 0 ∨ 40 ≤ y6.toNatClampNeg)) (nm (σ.1 24 y6.toNatClampNeg) (fun (v_41 : Int32) => gd (¬ ((((40 * y3) + y4) + y6) < 0 ∨ 160 ≤ (((40 * y3) + y4) + y6).toNatClampNeg)) (nm (y6 + 1) (fun (x6_43 : Int32) => fX6_move_L165 y1 y2 y3 y4 y5 n x6_43 (sI σ 23 ((((40 * y3) + y4) + y6).toNatClampNeg) v_41))))))
def fX6_move (σ : ZS) (p1 : Int32) (p2 : Int32) (p3 : Int32) (p4 : Int32) (p5 : Int32) : Option (Int32 × ZS) := if (fX6_isSheet p1) = 0 then (bd (fX6_finding σ (-1000000001)) (fun r_2 σ_4 => some (r_2, σ_4))) else (if (fX6_isSheet p3) = 0 then (bd (fX6_finding σ (-1000000001)) (fun r_56 σ_58 => some (r_56, σ_58))) else (gd (¬ (p1 < 0 ∨ 4 ≤ p1.toNatClampNeg)) (if (σ.1 21 p1.toNatClampNeg) = 0 then (bd (fX6_finding σ (-1000000002)) (fun r_8 σ_10 => some (r_8, σ_10))) else (gd (¬ (p3 < 0 ∨ 4 ≤ p3.toNatClampNeg)) (if (σ.1 21 p3.toNatClampNeg) = 0 then (bd (fX6_finding σ (-1000000002)) (fun r_53 σ_55 => some (r_53, σ_55))) else (if (σ.1 21 p1.toNatClampNeg) = (σ.1 21 p3.toNatClampNeg) then (if p5 < 0 then (bd (fX6_finding σ (-1000000001)) (fun r_15 σ_17 => some (r_15, σ_17))) else (if p2 < 0 then (bd (fX6_finding σ (-1000000001)) (fun r_19 σ_21 => some (r_19, σ_21))) else (if p4 < 0 then (bd (fX6_finding σ (-1000000001)) (fun r_23 σ_25 => some (r_23, σ_25))) else (if 0 < (lg_cmp ((p2.toInt64) + (p5.toInt64)) ((σ.1 22 p1.toNatClampNeg).toInt64)) then (bd (fX6_finding σ (-1000000001)) (fun r_27 σ_29 => some (r_27, σ_29))) else (if (lg_cmp ((p4.toInt64) + (p5.toInt64)) ((σ.1 22 p3.toNatClampNeg).toInt64)) ≤ 0 then (bd (fX6_move_L128 p1 p2 p3 p4 p5 10000 0 σ) (fun x6_36 σ_37 => bd (fX6_move_L165 p1 p2 p3 p4 p5 10000 0 σ_37) (fun x6_44 σ_45 => some (p5, σ_45)))) else (bd (fX6_finding σ (-1000000001)) (fun r_47 σ_49 => some (r_47, σ_49)))))))) else (bd (fX6_finding σ (-1000000005)) (fun r_50 σ_52 => some (r_50, σ_52)))))))))
set_option maxHeartbeats 4000000 in
set_option maxRecDepth 100000 in
theorem lfX6_move_L128 {p : Program} {l : Launch} {e : Env} {R : Room} {s : State} {m : MethodId} {args : Array Value} {below : List Frame} {meth : Method} {c : Code} {Q : State → Prop} {w : ZW} {A : Nat → Prop} {ret : Option FieldType} {hh : List (Nat × Nat × Nat × Nat)} (C : zCx p s m args meth c w zLm A 7 cX6_move RX6 ret hh) (hfr : 0 ≤ R.frames) (hlo : 0 ≤ R.locals) (y1 : Int32) (y2 : Int32) (y3 : Int32) (y4 : Int32) (y5 : Int32) {z6 : Int32} {σ' : ZS} (hk : Z p l e R s m args below meth c Q w zLm A 7 σ' 162 [(0, .ref (w.2.2 0)), (1, .int y1), (2, .int y2), (3, .int y3), (4, .int y4), (5, .int y5), (6, .int z6)] []) : ∀ (n : Nat) (y6 : Int32) (σ : ZS), fX6_move_L128 y1 y2 y3 y4 y5 n y6 σ = some (z6, σ') → Z p l e R s m args below meth c Q w zLm A 7 σ 128 [(0, .ref (w.2.2 0)), (1, .int y1), (2, .int y2), (3, .int y3), (4, .int y4), (5, .int y5), (6, .int y6)] [] := by
  intro n
  induction n with
  | zero => intro y6 σ hf; exact none_ hf
  | succ n ih =>
    intro y6 σ hf
    rw [fX6_move_L128] at hf
    refine z_iload C 6 dX6_move_128 rfl ?_
    refine z_iload C 5 dX6_move_130 rfl ?_
    refine z_icmp_ge C 162 dX6_move_132 (by decide) (fun c_31 => ?_) (fun c_31 => ?_)
    · replace hf := if_t c_31 hf
      obtain ⟨rfl, rfl⟩ := fin_ hf
      exact hk
    · replace hf := if_f c_31 hf
      refine z_aload_n C 0 dX6_move_135 rfl rfl ?_
      refine z_getR C ly_m0 (Cn := RX6) (T := TX6) (N := 24) rfl in_X6 23 (by decide) q1427 (Or.inl rfl) rfl dX6_move_136 ?_
      refine z_iload C 6 dX6_move_139 rfl ?_
      refine z_aload_n C 0 dX6_move_141 rfl rfl ?_
      refine z_getR C ly_m0 (Cn := RX6) (T := TX6) (N := 24) rfl in_X6 22 (by decide) q1426 (Or.inl rfl) rfl dX6_move_142 ?_
      refine z_bipush C 40 dX6_move_145 (by decide) ?_
      refine z_iload_n C 1 dX6_move_147 rfl rfl ?_
      refine z_imul C dX6_move_148 ?_
      refine z_iload_n C 2 dX6_move_149 rfl rfl ?_
      refine z_iadd C dX6_move_150 ?_
      refine z_iload C 6 dX6_move_151 rfl ?_
      refine z_iadd C dX6_move_153 ?_
      obtain ⟨g_32, hf⟩ := gd_ hf
      refine z_ialoadF C ly_m23 g_32 dX6_move_154 ?_
      obtain ⟨v_33, ev_33, hf⟩ := nmo_ hf
      refine z_top ev_33 ?_
      obtain ⟨g_34, hf⟩ := gd_ hf
      refine z_iastore C ly_m24 g_34 dX6_move_155 ?_
      obtain ⟨x6_35, ex6_35, hf⟩ := nmo_ hf
      refine z_iinc C x6_35 6 dX6_move_156 rfl (by rw [ex6_35]; rfl) (by decide) rfl (lv' := [(6, .int x6_35), (0, .ref (w.2.2 0)), (1, .int y1), (2, .int y2), (3, .int y3), (4, .int y4), (5, .int y5)]) ?_
      refine z_goto C 128 dX6_move_159 (by decide) ?_
      exact z_lv [1, 2, 3, 4, 5, 6, 0] rfl (ih _ _ hf)
set_option maxHeartbeats 4000000 in
set_option maxRecDepth 100000 in
theorem lfX6_move_L165 {p : Program} {l : Launch} {e : Env} {R : Room} {s : State} {m : MethodId} {args : Array Value} {below : List Frame} {meth : Method} {c : Code} {Q : State → Prop} {w : ZW} {A : Nat → Prop} {ret : Option FieldType} {hh : List (Nat × Nat × Nat × Nat)} (C : zCx p s m args meth c w zLm A 7 cX6_move RX6 ret hh) (hfr : 0 ≤ R.frames) (hlo : 0 ≤ R.locals) (y1 : Int32) (y2 : Int32) (y3 : Int32) (y4 : Int32) (y5 : Int32) {z6 : Int32} {σ' : ZS} (hk : Z p l e R s m args below meth c Q w zLm A 7 σ' 200 [(0, .ref (w.2.2 0)), (1, .int y1), (2, .int y2), (3, .int y3), (4, .int y4), (5, .int y5), (6, .int z6)] []) : ∀ (n : Nat) (y6 : Int32) (σ : ZS), fX6_move_L165 y1 y2 y3 y4 y5 n y6 σ = some (z6, σ') → Z p l e R s m args below meth c Q w zLm A 7 σ 165 [(0, .ref (w.2.2 0)), (1, .int y1), (2, .int y2), (3, .int y3), (4, .int y4), (5, .int y5), (6, .int y6)] [] := by
  intro n
  induction n with
  | zero => intro y6 σ hf; exact none_ hf
  | succ n ih =>
    intro y6 σ hf
    rw [fX6_move_L165] at hf
    refine z_iload C 6 dX6_move_165 rfl ?_
    refine z_iload C 5 dX6_move_167 rfl ?_
    refine z_icmp_ge C 200 dX6_move_169 (by decide) (fun c_39 => ?_) (fun c_39 => ?_)
    · replace hf := if_t c_39 hf
      obtain ⟨rfl, rfl⟩ := fin_ hf
      exact hk
    · replace hf := if_f c_39 hf
      refine z_aload_n C 0 dX6_move_172 rfl rfl ?_
      refine z_getR C ly_m0 (Cn := RX6) (T := TX6) (N := 24) rfl in_X6 22 (by decide) q1426 (Or.inl rfl) rfl dX6_move_173 ?_
      refine z_bipush C 40 dX6_move_176 (by decide) ?_
      refine z_iload_n C 3 dX6_move_178 rfl rfl ?_
      refine z_imul C dX6_move_179 ?_
      refine z_iload C 4 dX6_move_180 rfl ?_
      refine z_iadd C dX6_move_182 ?_
      refine z_iload C 6 dX6_move_183 rfl ?_
      refine z_iadd C dX6_move_185 ?_
      refine z_aload_n C 0 dX6_move_186 rfl rfl ?_
      refine z_getR C ly_m0 (Cn := RX6) (T := TX6) (N := 24) rfl in_X6 23 (by decide) q1427 (Or.inl rfl) rfl dX6_move_187 ?_
      refine z_iload C 6 dX6_move_190 rfl ?_
      obtain ⟨g_40, hf⟩ := gd_ hf
      refine z_ialoadF C ly_m24 g_40 dX6_move_192 ?_
      obtain ⟨v_41, ev_41, hf⟩ := nmo_ hf
      refine z_top ev_41 ?_
      obtain ⟨g_42, hf⟩ := gd_ hf
      refine z_iastore C ly_m23 g_42 dX6_move_193 ?_
      obtain ⟨x6_43, ex6_43, hf⟩ := nmo_ hf
      refine z_iinc C x6_43 6 dX6_move_194 rfl (by rw [ex6_43]; rfl) (by decide) rfl (lv' := [(6, .int x6_43), (0, .ref (w.2.2 0)), (1, .int y1), (2, .int y2), (3, .int y3), (4, .int y4), (5, .int y5)]) ?_
      refine z_goto C 165 dX6_move_197 (by decide) ?_
      exact z_lv [1, 2, 3, 4, 5, 6, 0] rfl (ih _ _ hf)
set_option maxHeartbeats 4000000 in
set_option maxRecDepth 100000 in
theorem tX6_move (l : Launch) (w : ZW) {σ σ' : ZS} {p1 : Int32} {p2 : Int32} {p3 : Int32} {p4 : Int32} {p5 : Int32} {r : Int32} (hf : fX6_move σ p1 p2 p3 p4 p5 = some (r, σ')) : zC l w zLm yX6_move (ws_ yX6_move cX6_move 7 (some .int)) 2 26 [.ref (w.2.2 0), .int p1, .int p2, .int p3, .int p4, .int p5] σ (.returned (some (.int r))) σ' := by
  refine zC.of (plainFor_of_name (by decide)) (Nat.le_of_ble_eq_true rfl) ?_
  intro p e s m args below meth c C hnm
  show Z p l e _ s m args below meth c _ w _ _ 7 σ 0 [(0, .ref (w.2.2 0)), (1, .int p1), (2, .int p2), (3, .int p3), (4, .int p4), (5, .int p5)] []
  unfold fX6_move at hf
  refine z_iload_n C 1 dX6_move_0 rfl rfl ?_
  refine z_calli C (rest := []) (av := [.int p1]) (zPay.of q1765 q83) (fun H ls hH h2 => zInv_S C (As := [.int p1]) (rest := []) q1763 q1764 q83 (Or.inl rfl) q1765 mh_X6 np_X6_isSheet dX6_move_1) (tX6_isSheet l w zLm σ p1) (Nat.le_of_ble_eq_true rfl) (Nat.le_of_ble_eq_true rfl) ?_
  refine z_if_eq C 14 dX6_move_4 (by decide) (fun c_1 => ?_) (fun c_1 => ?_)
  · replace hf := if_t c_1 hf
    refine z_aload_n C 0 dX6_move_14 rfl rfl ?_
    refine z_ldc C dX6_move_15 q1484 ?_
    obtain ⟨r_2, σ_4, e_3, hf⟩ := bd_ hf
    refine z_calli C (rest := []) (av := (.ref (w.2.2 0) :: [.int (-1000000001)])) (zPay.of q1488 q83) (fun H ls hH h2 => zInv_V C (As := [.int (-1000000001)]) (rest := []) (ci := 6) (T := TX6) (N := 24) rfl (zSee.fix ly_m0) hH q1485 q1487 qs32 (Or.inl rfl) q1488 mh_X6 np_X6_finding dX6_move_17) (tX6_finding l w e_3) (Nat.le_of_ble_eq_true rfl) (Nat.le_of_ble_eq_true rfl) ?_
    obtain ⟨rfl, rfl⟩ := fin_ hf
    exact z_iret C rfl dX6_move_20
  · replace hf := if_f c_1 hf
    refine z_iload_n C 3 dX6_move_7 rfl rfl ?_
    refine z_calli C (rest := []) (av := [.int p3]) (zPay.of q1765 q83) (fun H ls hH h2 => zInv_S C (As := [.int p3]) (rest := []) q1763 q1764 q83 (Or.inl rfl) q1765 mh_X6 np_X6_isSheet dX6_move_8) (tX6_isSheet l w zLm σ p3) (Nat.le_of_ble_eq_true rfl) (Nat.le_of_ble_eq_true rfl) ?_
    refine z_if_ne C 21 dX6_move_11 (by decide) (fun c_5 => ?_) (fun c_5 => ?_)
    · replace hf := if_f c_5 hf
      refine z_aload_n C 0 dX6_move_21 rfl rfl ?_
      refine z_getR C ly_m0 (Cn := RX6) (T := TX6) (N := 24) rfl in_X6 20 (by decide) q1424 (Or.inl rfl) rfl dX6_move_22 ?_
      refine z_iload_n C 1 dX6_move_25 rfl rfl ?_
      obtain ⟨g_6, hf⟩ := gd_ hf
      refine z_ialoadF C ly_m21 g_6 dX6_move_26 ?_
      refine z_if_eq C 39 dX6_move_27 (by decide) (fun c_7 => ?_) (fun c_7 => ?_)
      · replace hf := if_t c_7 hf
        refine z_aload_n C 0 dX6_move_39 rfl rfl ?_
        refine z_ldc_w C dX6_move_40 q1742 ?_
        obtain ⟨r_8, σ_10, e_9, hf⟩ := bd_ hf
        refine z_calli C (rest := []) (av := (.ref (w.2.2 0) :: [.int (-1000000002)])) (zPay.of q1488 q83) (fun H ls hH h2 => zInv_V C (As := [.int (-1000000002)]) (rest := []) (ci := 6) (T := TX6) (N := 24) rfl (zSee.fix ly_m0) hH q1485 q1487 qs32 (Or.inl rfl) q1488 mh_X6 np_X6_finding dX6_move_43) (tX6_finding l w e_9) (Nat.le_of_ble_eq_true rfl) (Nat.le_of_ble_eq_true rfl) ?_
        obtain ⟨rfl, rfl⟩ := fin_ hf
        exact z_iret C rfl dX6_move_46
      · replace hf := if_f c_7 hf
        refine z_aload_n C 0 dX6_move_30 rfl rfl ?_
        refine z_getR C ly_m0 (Cn := RX6) (T := TX6) (N := 24) rfl in_X6 20 (by decide) q1424 (Or.inl rfl) rfl dX6_move_31 ?_
        refine z_iload_n C 3 dX6_move_34 rfl rfl ?_
        obtain ⟨g_11, hf⟩ := gd_ hf
        refine z_ialoadF C ly_m21 g_11 dX6_move_35 ?_
        refine z_if_ne C 47 dX6_move_36 (by decide) (fun c_12 => ?_) (fun c_12 => ?_)
        · replace hf := if_f c_12 hf
          refine z_aload_n C 0 dX6_move_47 rfl rfl ?_
          refine z_getR C ly_m0 (Cn := RX6) (T := TX6) (N := 24) rfl in_X6 20 (by decide) q1424 (Or.inl rfl) rfl dX6_move_48 ?_
          refine z_iload_n C 1 dX6_move_51 rfl rfl ?_
          refine z_ialoadF C ly_m21 g_6 dX6_move_52 ?_
          refine z_aload_n C 0 dX6_move_53 rfl rfl ?_
          refine z_getR C ly_m0 (Cn := RX6) (T := TX6) (N := 24) rfl in_X6 20 (by decide) q1424 (Or.inl rfl) rfl dX6_move_54 ?_
          refine z_iload_n C 3 dX6_move_57 rfl rfl ?_
          refine z_ialoadF C ly_m21 g_11 dX6_move_58 ?_
          refine z_icmp_eq C 69 dX6_move_59 (by decide) (fun c_13 => ?_) (fun c_13 => ?_)
          · replace hf := if_t c_13 hf
            refine z_iload C 5 dX6_move_69 rfl ?_
            refine z_if_lt C 118 dX6_move_71 (by decide) (fun c_14 => ?_) (fun c_14 => ?_)
            · replace hf := if_t c_14 hf
              refine z_aload_n C 0 dX6_move_118 rfl rfl ?_
              refine z_ldc C dX6_move_119 q1484 ?_
              obtain ⟨r_15, σ_17, e_16, hf⟩ := bd_ hf
              refine z_calli C (rest := []) (av := (.ref (w.2.2 0) :: [.int (-1000000001)])) (zPay.of q1488 q83) (fun H ls hH h2 => zInv_V C (As := [.int (-1000000001)]) (rest := []) (ci := 6) (T := TX6) (N := 24) rfl (zSee.fix ly_m0) hH q1485 q1487 qs32 (Or.inl rfl) q1488 mh_X6 np_X6_finding dX6_move_121) (tX6_finding l w e_16) (Nat.le_of_ble_eq_true rfl) (Nat.le_of_ble_eq_true rfl) ?_
              obtain ⟨rfl, rfl⟩ := fin_ hf
              exact z_iret C rfl dX6_move_124
            · replace hf := if_f c_14 hf
              refine z_iload_n C 2 dX6_move_74 rfl rfl ?_
              refine z_if_lt C 118 dX6_move_75 (by decide) (fun c_18 => ?_) (fun c_18 => ?_)
              · replace hf := if_t c_18 hf
                refine z_aload_n C 0 dX6_move_118 rfl rfl ?_
                refine z_ldc C dX6_move_119 q1484 ?_
                obtain ⟨r_19, σ_21, e_20, hf⟩ := bd_ hf
                refine z_calli C (rest := []) (av := (.ref (w.2.2 0) :: [.int (-1000000001)])) (zPay.of q1488 q83) (fun H ls hH h2 => zInv_V C (As := [.int (-1000000001)]) (rest := []) (ci := 6) (T := TX6) (N := 24) rfl (zSee.fix ly_m0) hH q1485 q1487 qs32 (Or.inl rfl) q1488 mh_X6 np_X6_finding dX6_move_121) (tX6_finding l w e_20) (Nat.le_of_ble_eq_true rfl) (Nat.le_of_ble_eq_true rfl) ?_
                obtain ⟨rfl, rfl⟩ := fin_ hf
                exact z_iret C rfl dX6_move_124
              · replace hf := if_f c_18 hf
                refine z_iload C 4 dX6_move_78 rfl ?_
                refine z_if_lt C 118 dX6_move_80 (by decide) (fun c_22 => ?_) (fun c_22 => ?_)
                · replace hf := if_t c_22 hf
                  refine z_aload_n C 0 dX6_move_118 rfl rfl ?_
                  refine z_ldc C dX6_move_119 q1484 ?_
                  obtain ⟨r_23, σ_25, e_24, hf⟩ := bd_ hf
                  refine z_calli C (rest := []) (av := (.ref (w.2.2 0) :: [.int (-1000000001)])) (zPay.of q1488 q83) (fun H ls hH h2 => zInv_V C (As := [.int (-1000000001)]) (rest := []) (ci := 6) (T := TX6) (N := 24) rfl (zSee.fix ly_m0) hH q1485 q1487 qs32 (Or.inl rfl) q1488 mh_X6 np_X6_finding dX6_move_121) (tX6_finding l w e_24) (Nat.le_of_ble_eq_true rfl) (Nat.le_of_ble_eq_true rfl) ?_
                  obtain ⟨rfl, rfl⟩ := fin_ hf
                  exact z_iret C rfl dX6_move_124
                · replace hf := if_f c_22 hf
                  refine z_iload_n C 2 dX6_move_83 rfl rfl ?_
                  refine z_i2l C dX6_move_84 ?_
                  refine z_iload C 5 dX6_move_85 rfl ?_
                  refine z_i2l C dX6_move_87 ?_
                  refine z_ladd C dX6_move_88 ?_
                  refine z_aload_n C 0 dX6_move_89 rfl rfl ?_
                  refine z_getR C ly_m0 (Cn := RX6) (T := TX6) (N := 24) rfl in_X6 21 (by decide) q1425 (Or.inl rfl) rfl dX6_move_90 ?_
                  refine z_iload_n C 1 dX6_move_93 rfl rfl ?_
                  refine z_ialoadF C ly_m22 g_6 dX6_move_94 ?_
                  refine z_i2l C dX6_move_95 ?_
                  refine z_lcmp C dX6_move_96 ?_
                  refine z_if_gt C 118 dX6_move_97 (by decide) (fun c_26 => ?_) (fun c_26 => ?_)
                  · replace hf := if_t c_26 hf
                    refine z_aload_n C 0 dX6_move_118 rfl rfl ?_
                    refine z_ldc C dX6_move_119 q1484 ?_
                    obtain ⟨r_27, σ_29, e_28, hf⟩ := bd_ hf
                    refine z_calli C (rest := []) (av := (.ref (w.2.2 0) :: [.int (-1000000001)])) (zPay.of q1488 q83) (fun H ls hH h2 => zInv_V C (As := [.int (-1000000001)]) (rest := []) (ci := 6) (T := TX6) (N := 24) rfl (zSee.fix ly_m0) hH q1485 q1487 qs32 (Or.inl rfl) q1488 mh_X6 np_X6_finding dX6_move_121) (tX6_finding l w e_28) (Nat.le_of_ble_eq_true rfl) (Nat.le_of_ble_eq_true rfl) ?_
                    obtain ⟨rfl, rfl⟩ := fin_ hf
                    exact z_iret C rfl dX6_move_124
                  · replace hf := if_f c_26 hf
                    refine z_iload C 4 dX6_move_100 rfl ?_
                    refine z_i2l C dX6_move_102 ?_
                    refine z_iload C 5 dX6_move_103 rfl ?_
                    refine z_i2l C dX6_move_105 ?_
                    refine z_ladd C dX6_move_106 ?_
                    refine z_aload_n C 0 dX6_move_107 rfl rfl ?_
                    refine z_getR C ly_m0 (Cn := RX6) (T := TX6) (N := 24) rfl in_X6 21 (by decide) q1425 (Or.inl rfl) rfl dX6_move_108 ?_
                    refine z_iload_n C 3 dX6_move_111 rfl rfl ?_
                    refine z_ialoadF C ly_m22 g_11 dX6_move_112 ?_
                    refine z_i2l C dX6_move_113 ?_
                    refine z_lcmp C dX6_move_114 ?_
                    refine z_if_le C 125 dX6_move_115 (by decide) (fun c_30 => ?_) (fun c_30 => ?_)
                    · replace hf := if_t c_30 hf
                      refine z_iconst C 0 dX6_move_125 (by decide) ?_
                      refine z_istore C dX6_move_126 (by decide) rfl (lv' := [(6, .int 0), (0, .ref (w.2.2 0)), (1, .int p1), (2, .int p2), (3, .int p3), (4, .int p4), (5, .int p5)]) ?_
                      obtain ⟨x6_36, σ_37, e_38, hf⟩ := bd_ hf
                      refine z_lv (lv' := [(0, .ref (w.2.2 0)), (1, .int p1), (2, .int p2), (3, .int p3), (4, .int p4), (5, .int p5), (6, .int 0)]) [1, 2, 3, 4, 5, 6, 0] rfl ?_
                      refine lfX6_move_L128 C (Nat.le_of_ble_eq_true rfl) (Nat.le_of_ble_eq_true rfl) p1 p2 p3 p4 p5 ?_ _ _ _ e_38
                      refine z_iconst C 0 dX6_move_162 (by decide) ?_
                      refine z_istore C dX6_move_163 (by decide) rfl (lv' := [(6, .int 0), (0, .ref (w.2.2 0)), (1, .int p1), (2, .int p2), (3, .int p3), (4, .int p4), (5, .int p5)]) ?_
                      obtain ⟨x6_44, σ_45, e_46, hf⟩ := bd_ hf
                      refine z_lv (lv' := [(0, .ref (w.2.2 0)), (1, .int p1), (2, .int p2), (3, .int p3), (4, .int p4), (5, .int p5), (6, .int 0)]) [1, 2, 3, 4, 5, 6, 0] rfl ?_
                      refine lfX6_move_L165 C (Nat.le_of_ble_eq_true rfl) (Nat.le_of_ble_eq_true rfl) p1 p2 p3 p4 p5 ?_ _ _ _ e_46
                      refine z_iload C 5 dX6_move_200 rfl ?_
                      obtain ⟨rfl, rfl⟩ := fin_ hf
                      exact z_iret C rfl dX6_move_202
                    · replace hf := if_f c_30 hf
                      refine z_aload_n C 0 dX6_move_118 rfl rfl ?_
                      refine z_ldc C dX6_move_119 q1484 ?_
                      obtain ⟨r_47, σ_49, e_48, hf⟩ := bd_ hf
                      refine z_calli C (rest := []) (av := (.ref (w.2.2 0) :: [.int (-1000000001)])) (zPay.of q1488 q83) (fun H ls hH h2 => zInv_V C (As := [.int (-1000000001)]) (rest := []) (ci := 6) (T := TX6) (N := 24) rfl (zSee.fix ly_m0) hH q1485 q1487 qs32 (Or.inl rfl) q1488 mh_X6 np_X6_finding dX6_move_121) (tX6_finding l w e_48) (Nat.le_of_ble_eq_true rfl) (Nat.le_of_ble_eq_true rfl) ?_
                      obtain ⟨rfl, rfl⟩ := fin_ hf
                      exact z_iret C rfl dX6_move_124
          · replace hf := if_f c_13 hf
            refine z_aload_n C 0 dX6_move_62 rfl rfl ?_
            refine z_ldc C dX6_move_63 q1687 ?_
            obtain ⟨r_50, σ_52, e_51, hf⟩ := bd_ hf
            refine z_calli C (rest := []) (av := (.ref (w.2.2 0) :: [.int (-1000000005)])) (zPay.of q1488 q83) (fun H ls hH h2 => zInv_V C (As := [.int (-1000000005)]) (rest := []) (ci := 6) (T := TX6) (N := 24) rfl (zSee.fix ly_m0) hH q1485 q1487 qs32 (Or.inl rfl) q1488 mh_X6 np_X6_finding dX6_move_65) (tX6_finding l w e_51) (Nat.le_of_ble_eq_true rfl) (Nat.le_of_ble_eq_true rfl) ?_
            obtain ⟨rfl, rfl⟩ := fin_ hf
            exact z_iret C rfl dX6_move_68
        · replace hf := if_t c_12 hf
          refine z_aload_n C 0 dX6_move_39 rfl rfl ?_
          refine z_ldc_w C dX6_move_40 q1742 ?_
          obtain ⟨r_53, σ_55, e_54, hf⟩ := bd_ hf
          refine z_calli C (rest := []) (av := (.ref (w.2.2 0) :: [.int (-1000000002)])) (zPay.of q1488 q83) (fun H ls hH h2 => zInv_V C (As := [.int (-1000000002)]) (rest := []) (ci := 6) (T := TX6) (N := 24) rfl (zSee.fix ly_m0) hH q1485 q1487 qs32 (Or.inl rfl) q1488 mh_X6 np_X6_finding dX6_move_43) (tX6_finding l w e_54) (Nat.le_of_ble_eq_true rfl) (Nat.le_of_ble_eq_true rfl) ?_
          obtain ⟨rfl, rfl⟩ := fin_ hf
          exact z_iret C rfl dX6_move_46
    · replace hf := if_t c_5 hf
      refine z_aload_n C 0 dX6_move_14 rfl rfl ?_
      refine z_ldc C dX6_move_15 q1484 ?_
      obtain ⟨r_56, σ_58, e_57, hf⟩ := bd_ hf
      refine z_calli C (rest := []) (av := (.ref (w.2.2 0) :: [.int (-1000000001)])) (zPay.of q1488 q83) (fun H ls hH h2 => zInv_V C (As := [.int (-1000000001)]) (rest := []) (ci := 6) (T := TX6) (N := 24) rfl (zSee.fix ly_m0) hH q1485 q1487 qs32 (Or.inl rfl) q1488 mh_X6 np_X6_finding dX6_move_17) (tX6_finding l w e_57) (Nat.le_of_ble_eq_true rfl) (Nat.le_of_ble_eq_true rfl) ?_
      obtain ⟨rfl, rfl⟩ := fin_ hf
      exact z_iret C rfl dX6_move_20
def fX6_beds_L33 (y1 : Int32) : Nat → Int32 → ZS → Option ((Int32) × ZS)
  | 0, _, _ => none
  | n + 1, y2, σ => gd (¬ (y1 < 0 ∨ 4 ≤ y1.toNatClampNeg)) (if (σ.1 22 y1.toNatClampNeg) ≤ y2 then (some (y2, σ)) else (if (fX6_isCell σ y2) = 0 then (some (y2, σ)) else (gd (¬ (((40 * y1) + y2) < 0 ∨ 160 ≤ ((40 * y1) + y2).toNatClampNeg)) (if (fX6_isDigit (σ.1 23 ((40 * y1) + y2).toNatClampNeg)) = 0 then (some (y2, σ)) else (nm (σ.1 23 ((40 * y1) + y2).toNatClampNeg) (fun (v_9 : Int32) => gd (¬ ((fX6_cellAt y2 0) < 0 ∨ 242 ≤ (fX6_cellAt y2 0).toNatClampNeg)) (nm (y2 + 1) (fun (x2_11 : Int32) => fX6_beds_L33 y1 n x2_11 (sI σ 1 ((fX6_cellAt y2 0).toNatClampNeg) v_9)))))))))
def fX6_beds (σ : ZS) (p1 : Int32) : Option (Int32 × ZS) := if (fX6_isSheet p1) = 0 then (bd (fX6_finding σ (-1000000001)) (fun r_21 σ_23 => some (r_21, σ_23))) else (gd (¬ (p1 < 0 ∨ 4 ≤ p1.toNatClampNeg)) (if (σ.1 21 p1.toNatClampNeg) = 0 then (bd (fX6_finding σ (-1000000002)) (fun r_18 σ_20 => some (r_18, σ_20))) else (bd (fX6_beds_L33 p1 10000 0 σ) (fun x2_12 σ_13 => bd (fX6_forgetDepths σ_13) (fun _ σ_17 => some (x2_12, σ_17))))))
set_option maxHeartbeats 4000000 in
set_option maxRecDepth 100000 in
theorem lfX6_beds_L33 {p : Program} {l : Launch} {e : Env} {R : Room} {s : State} {m : MethodId} {args : Array Value} {below : List Frame} {meth : Method} {c : Code} {Q : State → Prop} {w : ZW} {A : Nat → Prop} {ret : Option FieldType} {hh : List (Nat × Nat × Nat × Nat)} (C : zCx p s m args meth c w zLm A 3 cX6_beds RX6 ret hh) (hfr : 2 ≤ R.frames) (hlo : 27 ≤ R.locals) (y1 : Int32) {z2 : Int32} {σ' : ZS} (hk : Z p l e R s m args below meth c Q w zLm A 3 σ' 95 [(0, .ref (w.2.2 0)), (1, .int y1), (2, .int z2)] []) : ∀ (n : Nat) (y2 : Int32) (σ : ZS), fX6_beds_L33 y1 n y2 σ = some (z2, σ') → Z p l e R s m args below meth c Q w zLm A 3 σ 33 [(0, .ref (w.2.2 0)), (1, .int y1), (2, .int y2)] [] := by
  intro n
  induction n with
  | zero => intro y2 σ hf; exact none_ hf
  | succ n ih =>
    intro y2 σ hf
    rw [fX6_beds_L33] at hf
    refine z_iload_n C 2 dX6_beds_33 rfl rfl ?_
    refine z_aload_n C 0 dX6_beds_34 rfl rfl ?_
    refine z_getR C ly_m0 (Cn := RX6) (T := TX6) (N := 24) rfl in_X6 21 (by decide) q1425 (Or.inl rfl) rfl dX6_beds_35 ?_
    refine z_iload_n C 1 dX6_beds_38 rfl rfl ?_
    obtain ⟨g_4, hf⟩ := gd_ hf
    refine z_ialoadF C ly_m22 g_4 dX6_beds_39 ?_
    refine z_icmp_ge C 95 dX6_beds_40 (by decide) (fun c_5 => ?_) (fun c_5 => ?_)
    · replace hf := if_t c_5 hf
      obtain ⟨rfl, rfl⟩ := fin_ hf
      exact hk
    · replace hf := if_f c_5 hf
      refine z_aload_n C 0 dX6_beds_43 rfl rfl ?_
      refine z_iload_n C 2 dX6_beds_44 rfl rfl ?_
      refine z_calli C (rest := []) (av := (.ref (w.2.2 0) :: [.int y2])) (zPay.of q1593 q83) (fun H ls hH h2 => zInv_V C (As := [.int y2]) (rest := []) (ci := 6) (T := TX6) (N := 24) rfl (zSee.fix ly_m0) hH q1590 q1592 qs46 (Or.inl rfl) q1593 mh_X6 np_X6_isCell dX6_beds_45) (tX6_isCell l w σ y2) (Nat.le_trans (Nat.le_of_ble_eq_true rfl) hfr) (Nat.le_trans (Nat.le_of_ble_eq_true rfl) hlo) ?_
      refine z_if_eq C 95 dX6_beds_48 (by decide) (fun c_6 => ?_) (fun c_6 => ?_)
      · replace hf := if_t c_6 hf
        obtain ⟨rfl, rfl⟩ := fin_ hf
        exact hk
      · replace hf := if_f c_6 hf
        refine z_aload_n C 0 dX6_beds_51 rfl rfl ?_
        refine z_getR C ly_m0 (Cn := RX6) (T := TX6) (N := 24) rfl in_X6 22 (by decide) q1426 (Or.inl rfl) rfl dX6_beds_52 ?_
        refine z_bipush C 40 dX6_beds_55 (by decide) ?_
        refine z_iload_n C 1 dX6_beds_57 rfl rfl ?_
        refine z_imul C dX6_beds_58 ?_
        refine z_iload_n C 2 dX6_beds_59 rfl rfl ?_
        refine z_iadd C dX6_beds_60 ?_
        obtain ⟨g_7, hf⟩ := gd_ hf
        refine z_ialoadF C ly_m23 g_7 dX6_beds_61 ?_
        refine z_calli C (rest := []) (av := [.int (σ.1 23 ((40 * y1) + y2).toNatClampNeg)]) (zPay.of q1652 q83) (fun H ls hH h2 => zInv_S C (As := [.int (σ.1 23 ((40 * y1) + y2).toNatClampNeg)]) (rest := []) q1650 q1651 q83 (Or.inl rfl) q1652 mh_X6 np_X6_isDigit dX6_beds_62) (tX6_isDigit l w zLm σ (σ.1 23 ((40 * y1) + y2).toNatClampNeg)) (Nat.le_trans (Nat.le_of_ble_eq_true rfl) hfr) (Nat.le_trans (Nat.le_of_ble_eq_true rfl) hlo) ?_
        refine z_if_eq C 95 dX6_beds_65 (by decide) (fun c_8 => ?_) (fun c_8 => ?_)
        · replace hf := if_t c_8 hf
          obtain ⟨rfl, rfl⟩ := fin_ hf
          exact hk
        · replace hf := if_f c_8 hf
          refine z_aload_n C 0 dX6_beds_68 rfl rfl ?_
          refine z_getR C ly_m0 (Cn := RX6) (T := TX6) (N := 24) rfl in_X6 0 (by decide) q1404 (Or.inl rfl) rfl dX6_beds_69 ?_
          refine z_iload_n C 2 dX6_beds_72 rfl rfl ?_
          refine z_iconst C 0 dX6_beds_73 (by decide) ?_
          refine z_calli C (rest := [.ref (w.2.2 1)]) (av := [.int y2, .int 0]) (zPay.of q1395 q83) (fun H ls hH h2 => zInv_S C (As := [.int y2, .int 0]) (rest := [.ref (w.2.2 1)]) q1393 q1394 q83 (Or.inl rfl) q1395 mh_X6 np_X6_cellAt dX6_beds_74) (tX6_cellAt l w zLm σ y2 0) (Nat.le_trans (Nat.le_of_ble_eq_true rfl) hfr) (Nat.le_trans (Nat.le_of_ble_eq_true rfl) hlo) ?_
          refine z_aload_n C 0 dX6_beds_77 rfl rfl ?_
          refine z_getR C ly_m0 (Cn := RX6) (T := TX6) (N := 24) rfl in_X6 22 (by decide) q1426 (Or.inl rfl) rfl dX6_beds_78 ?_
          refine z_bipush C 40 dX6_beds_81 (by decide) ?_
          refine z_iload_n C 1 dX6_beds_83 rfl rfl ?_
          refine z_imul C dX6_beds_84 ?_
          refine z_iload_n C 2 dX6_beds_85 rfl rfl ?_
          refine z_iadd C dX6_beds_86 ?_
          refine z_ialoadF C ly_m23 g_7 dX6_beds_87 ?_
          obtain ⟨v_9, ev_9, hf⟩ := nmo_ hf
          refine z_top ev_9 ?_
          obtain ⟨g_10, hf⟩ := gd_ hf
          refine z_iastore C ly_m1 g_10 dX6_beds_88 ?_
          obtain ⟨x2_11, ex2_11, hf⟩ := nmo_ hf
          refine z_iinc C x2_11 2 dX6_beds_89 rfl (by rw [ex2_11]; rfl) (by decide) rfl (lv' := [(2, .int x2_11), (0, .ref (w.2.2 0)), (1, .int y1)]) ?_
          refine z_goto C 33 dX6_beds_92 (by decide) ?_
          exact z_lv [1, 2, 0] rfl (ih _ _ hf)
set_option maxHeartbeats 4000000 in
set_option maxRecDepth 100000 in
theorem tX6_beds (l : Launch) (w : ZW) {σ σ' : ZS} {p1 : Int32} {r : Int32} (hf : fX6_beds σ p1 = some (r, σ')) : zC l w zLm yX6_beds (ws_ yX6_beds cX6_beds 3 (some .int)) 2 27 [.ref (w.2.2 0), .int p1] σ (.returned (some (.int r))) σ' := by
  refine zC.of (plainFor_of_name (by decide)) (Nat.le_of_ble_eq_true rfl) ?_
  intro p e s m args below meth c C hnm
  show Z p l e _ s m args below meth c _ w _ _ 3 σ 0 [(0, .ref (w.2.2 0)), (1, .int p1)] []
  unfold fX6_beds at hf
  refine z_iload_n C 1 dX6_beds_0 rfl rfl ?_
  refine z_calli C (rest := []) (av := [.int p1]) (zPay.of q1765 q83) (fun H ls hH h2 => zInv_S C (As := [.int p1]) (rest := []) q1763 q1764 q83 (Or.inl rfl) q1765 mh_X6 np_X6_isSheet dX6_beds_1) (tX6_isSheet l w zLm σ p1) (Nat.le_of_ble_eq_true rfl) (Nat.le_of_ble_eq_true rfl) ?_
  refine z_if_ne C 14 dX6_beds_4 (by decide) (fun c_1 => ?_) (fun c_1 => ?_)
  · replace hf := if_f c_1 hf
    refine z_aload_n C 0 dX6_beds_14 rfl rfl ?_
    refine z_getR C ly_m0 (Cn := RX6) (T := TX6) (N := 24) rfl in_X6 20 (by decide) q1424 (Or.inl rfl) rfl dX6_beds_15 ?_
    refine z_iload_n C 1 dX6_beds_18 rfl rfl ?_
    obtain ⟨g_2, hf⟩ := gd_ hf
    refine z_ialoadF C ly_m21 g_2 dX6_beds_19 ?_
    refine z_if_ne C 31 dX6_beds_20 (by decide) (fun c_3 => ?_) (fun c_3 => ?_)
    · replace hf := if_f c_3 hf
      refine z_iconst C 0 dX6_beds_31 (by decide) ?_
      refine z_istore_n C dX6_beds_32 rfl (by decide) rfl (lv' := [(2, .int 0), (0, .ref (w.2.2 0)), (1, .int p1)]) ?_
      obtain ⟨x2_12, σ_13, e_14, hf⟩ := bd_ hf
      refine z_lv (lv' := [(0, .ref (w.2.2 0)), (1, .int p1), (2, .int 0)]) [1, 2, 0] rfl ?_
      refine lfX6_beds_L33 C (Nat.le_of_ble_eq_true rfl) (Nat.le_of_ble_eq_true rfl) p1 ?_ _ _ _ e_14
      refine z_aload_n C 0 dX6_beds_95 rfl rfl ?_
      obtain ⟨⟨⟩, σ_17, e_16, hf⟩ := bd_ hf
      refine z_callv C (rest := []) (av := (.ref (w.2.2 0) :: [])) (zPay.of q1399 q83) (fun H ls hH h2 => zInv_V C (As := []) (rest := []) (ci := 6) (T := TX6) (N := 24) rfl (zSee.fix ly_m0) hH q1396 q1398 qs30 (Or.inl rfl) q1399 mh_X6 np_X6_forgetDepths dX6_beds_96) (tX6_forgetDepths l w e_16) (Nat.le_of_ble_eq_true rfl) (Nat.le_of_ble_eq_true rfl) ?_
      refine z_iload_n C 2 dX6_beds_99 rfl rfl ?_
      obtain ⟨rfl, rfl⟩ := fin_ hf
      exact z_iret C rfl dX6_beds_100
    · replace hf := if_t c_3 hf
      refine z_aload_n C 0 dX6_beds_23 rfl rfl ?_
      refine z_ldc_w C dX6_beds_24 q1742 ?_
      obtain ⟨r_18, σ_20, e_19, hf⟩ := bd_ hf
      refine z_calli C (rest := []) (av := (.ref (w.2.2 0) :: [.int (-1000000002)])) (zPay.of q1488 q83) (fun H ls hH h2 => zInv_V C (As := [.int (-1000000002)]) (rest := []) (ci := 6) (T := TX6) (N := 24) rfl (zSee.fix ly_m0) hH q1485 q1487 qs32 (Or.inl rfl) q1488 mh_X6 np_X6_finding dX6_beds_27) (tX6_finding l w e_19) (Nat.le_of_ble_eq_true rfl) (Nat.le_of_ble_eq_true rfl) ?_
      obtain ⟨rfl, rfl⟩ := fin_ hf
      exact z_iret C rfl dX6_beds_30
  · replace hf := if_t c_1 hf
    refine z_aload_n C 0 dX6_beds_7 rfl rfl ?_
    refine z_ldc C dX6_beds_8 q1484 ?_
    obtain ⟨r_21, σ_23, e_22, hf⟩ := bd_ hf
    refine z_calli C (rest := []) (av := (.ref (w.2.2 0) :: [.int (-1000000001)])) (zPay.of q1488 q83) (fun H ls hH h2 => zInv_V C (As := [.int (-1000000001)]) (rest := []) (ci := 6) (T := TX6) (N := 24) rfl (zSee.fix ly_m0) hH q1485 q1487 qs32 (Or.inl rfl) q1488 mh_X6 np_X6_finding dX6_beds_10) (tX6_finding l w e_22) (Nat.le_of_ble_eq_true rfl) (Nat.le_of_ble_eq_true rfl) ?_
    obtain ⟨rfl, rfl⟩ := fin_ hf
    exact z_iret C rfl dX6_beds_13
def fX6_image (σ : ZS) : Option (Int32 × ZS) := bd (fX6_copy σ 1 2) (fun _ σ_3 => nm ((σ_3.1 0 3) + 1) (fun (f_4 : Int32) => some ((sI σ_3 0 3 f_4).1 0 3, sI σ_3 0 3 f_4)))
set_option maxHeartbeats 4000000 in
set_option maxRecDepth 100000 in
theorem tX6_image (l : Launch) (w : ZW) {σ σ' : ZS} {r : Int32} (hf : fX6_image σ = some (r, σ')) : zC l w zLm yX6_image (ws_ yX6_image cX6_image 1 (some .int)) 1 14 [.ref (w.2.2 0)] σ (.returned (some (.int r))) σ' := by
  refine zC.of (plainFor_of_name (by decide)) (Nat.le_of_ble_eq_true rfl) ?_
  intro p e s m args below meth c C hnm
  show Z p l e _ s m args below meth c _ w _ _ 1 σ 0 [(0, .ref (w.2.2 0))] []
  unfold fX6_image at hf
  refine z_aload_n C 0 dX6_image_0 rfl rfl ?_
  refine z_getR C ly_m0 (Cn := RX6) (T := TX6) (N := 24) rfl in_X6 0 (by decide) q1404 (Or.inl rfl) rfl dX6_image_1 ?_
  refine z_aload_n C 0 dX6_image_4 rfl rfl ?_
  refine z_getR C ly_m0 (Cn := RX6) (T := TX6) (N := 24) rfl in_X6 1 (by decide) q1405 (Or.inl rfl) rfl dX6_image_5 ?_
  obtain ⟨⟨⟩, σ_3, e_2, hf⟩ := bd_ hf
  refine z_callv C (rest := []) (av := [.ref (w.2.2 1), .ref (w.2.2 2)]) (zPay.of q1729 q83) (fun H ls hH h2 => zInv_S C (As := [.ref (w.2.2 1), .ref (w.2.2 2)]) (rest := []) q1727 q1728 q83 (Or.inl rfl) q1729 mh_X6 np_X6_copy dX6_image_8) (tX6_copy l w ly_m1 ly_m2 e_2) (Nat.le_of_ble_eq_true rfl) (Nat.le_of_ble_eq_true rfl) ?_
  refine z_aload_n C 0 dX6_image_11 rfl rfl ?_
  refine z_dup C dX6_image_12 rfl ?_
  refine z_getI C ly_m0 (Cn := RX6) (T := TX6) (N := 24) rfl in_X6 3 (by decide) q1407 (Or.inl rfl) rfl dX6_image_13 ?_
  refine z_iconst C 1 dX6_image_16 (by decide) ?_
  refine z_iadd C dX6_image_17 ?_
  obtain ⟨f_4, ef_4, hf⟩ := nmo_ hf
  refine z_top ef_4 ?_
  refine z_putI C ly_m0 (k := 3) rfl (zPut C (Cn := RX6) (T := TX6) (N := 24) rfl in_X6 tyX6 tyX6_ok nmX6 3 (by decide) q1407 (Or.inl rfl) rfl rfl rfl (zFs_lt (Nat.le_of_ble_eq_true rfl)) dX6_image_18) ?_
  refine z_aload_n C 0 dX6_image_21 rfl rfl ?_
  refine z_getI C ly_m0 (Cn := RX6) (T := TX6) (N := 24) rfl in_X6 3 (by decide) q1407 (Or.inl rfl) rfl dX6_image_22 ?_
  obtain ⟨rfl, rfl⟩ := fin_ hf
  exact z_iret C rfl dX6_image_25
def fX6_restore (σ : ZS) : Option (Int32 × ZS) := if (σ.1 0 3) = 0 then (bd (fX6_finding σ (-1000000002)) (fun r_8 σ_10 => some (r_8, σ_10))) else (bd (fX6_copy σ 2 1) (fun _ σ_4 => bd (fX6_forgetDepths σ_4) (fun _ σ_7 => some (σ_7.1 1 (0 : Int32).toNatClampNeg, σ_7))))
set_option maxHeartbeats 4000000 in
set_option maxRecDepth 100000 in
theorem tX6_restore (l : Launch) (w : ZW) {σ σ' : ZS} {r : Int32} (hf : fX6_restore σ = some (r, σ')) : zC l w zLm yX6_restore (ws_ yX6_restore cX6_restore 1 (some .int)) 1 14 [.ref (w.2.2 0)] σ (.returned (some (.int r))) σ' := by
  refine zC.of (plainFor_of_name (by decide)) (Nat.le_of_ble_eq_true rfl) ?_
  intro p e s m args below meth c C hnm
  show Z p l e _ s m args below meth c _ w _ _ 1 σ 0 [(0, .ref (w.2.2 0))] []
  unfold fX6_restore at hf
  refine z_aload_n C 0 dX6_restore_0 rfl rfl ?_
  refine z_getI C ly_m0 (Cn := RX6) (T := TX6) (N := 24) rfl in_X6 3 (by decide) q1407 (Or.inl rfl) rfl dX6_restore_1 ?_
  refine z_if_ne C 15 dX6_restore_4 (by decide) (fun c_1 => ?_) (fun c_1 => ?_)
  · replace hf := if_f c_1 hf
    refine z_aload_n C 0 dX6_restore_15 rfl rfl ?_
    refine z_getR C ly_m0 (Cn := RX6) (T := TX6) (N := 24) rfl in_X6 1 (by decide) q1405 (Or.inl rfl) rfl dX6_restore_16 ?_
    refine z_aload_n C 0 dX6_restore_19 rfl rfl ?_
    refine z_getR C ly_m0 (Cn := RX6) (T := TX6) (N := 24) rfl in_X6 0 (by decide) q1404 (Or.inl rfl) rfl dX6_restore_20 ?_
    obtain ⟨⟨⟩, σ_4, e_3, hf⟩ := bd_ hf
    refine z_callv C (rest := []) (av := [.ref (w.2.2 2), .ref (w.2.2 1)]) (zPay.of q1729 q83) (fun H ls hH h2 => zInv_S C (As := [.ref (w.2.2 2), .ref (w.2.2 1)]) (rest := []) q1727 q1728 q83 (Or.inl rfl) q1729 mh_X6 np_X6_copy dX6_restore_23) (tX6_copy l w ly_m2 ly_m1 e_3) (Nat.le_of_ble_eq_true rfl) (Nat.le_of_ble_eq_true rfl) ?_
    refine z_aload_n C 0 dX6_restore_26 rfl rfl ?_
    obtain ⟨⟨⟩, σ_7, e_6, hf⟩ := bd_ hf
    refine z_callv C (rest := []) (av := (.ref (w.2.2 0) :: [])) (zPay.of q1399 q83) (fun H ls hH h2 => zInv_V C (As := []) (rest := []) (ci := 6) (T := TX6) (N := 24) rfl (zSee.fix ly_m0) hH q1396 q1398 qs30 (Or.inl rfl) q1399 mh_X6 np_X6_forgetDepths dX6_restore_27) (tX6_forgetDepths l w e_6) (Nat.le_of_ble_eq_true rfl) (Nat.le_of_ble_eq_true rfl) ?_
    refine z_aload_n C 0 dX6_restore_30 rfl rfl ?_
    refine z_getR C ly_m0 (Cn := RX6) (T := TX6) (N := 24) rfl in_X6 0 (by decide) q1404 (Or.inl rfl) rfl dX6_restore_31 ?_
    refine z_iconst C 0 dX6_restore_34 (by decide) ?_
    refine z_ialoadF C ly_m1 (by decide) dX6_restore_35 ?_
    obtain ⟨rfl, rfl⟩ := fin_ hf
    exact z_iret C rfl dX6_restore_36
  · replace hf := if_t c_1 hf
    refine z_aload_n C 0 dX6_restore_7 rfl rfl ?_
    refine z_ldc_w C dX6_restore_8 q1742 ?_
    obtain ⟨r_8, σ_10, e_9, hf⟩ := bd_ hf
    refine z_calli C (rest := []) (av := (.ref (w.2.2 0) :: [.int (-1000000002)])) (zPay.of q1488 q83) (fun H ls hH h2 => zInv_V C (As := [.int (-1000000002)]) (rest := []) (ci := 6) (T := TX6) (N := 24) rfl (zSee.fix ly_m0) hH q1485 q1487 qs32 (Or.inl rfl) q1488 mh_X6 np_X6_finding dX6_restore_11) (tX6_finding l w e_9) (Nat.le_of_ble_eq_true rfl) (Nat.le_of_ble_eq_true rfl) ?_
    obtain ⟨rfl, rfl⟩ := fin_ hf
    exact z_iret C rfl dX6_restore_14
def fX6_tell (σ : ZS) (p1 : Int32) : Option (Int32 × ZS) := if (σ.1 1 (8 : Int32).toNatClampNeg) = 20 then (bd (fX6_finding σ (-1000000004)) (fun r_4 σ_6 => some (r_4, σ_6))) else (gd (¬ ((118 + (σ.1 1 (8 : Int32).toNatClampNeg)) < 0 ∨ 242 ≤ (118 + (σ.1 1 (8 : Int32).toNatClampNeg)).toNatClampNeg)) (nm (((sI σ 1 ((118 + (σ.1 1 (8 : Int32).toNatClampNeg)).toNatClampNeg) p1).1 1 (8 : Int32).toNatClampNeg) + 1) (fun (v_3 : Int32) => some ((sI (sI σ 1 ((118 + (σ.1 1 (8 : Int32).toNatClampNeg)).toNatClampNeg) p1) 1 ((8 : Int32).toNatClampNeg) v_3).1 1 (8 : Int32).toNatClampNeg, sI (sI σ 1 ((118 + (σ.1 1 (8 : Int32).toNatClampNeg)).toNatClampNeg) p1) 1 ((8 : Int32).toNatClampNeg) v_3))))
set_option maxHeartbeats 4000000 in
set_option maxRecDepth 100000 in
theorem tX6_tell (l : Launch) (w : ZW) {σ σ' : ZS} {p1 : Int32} {r : Int32} (hf : fX6_tell σ p1 = some (r, σ')) : zC l w zLm yX6_tell (ws_ yX6_tell cX6_tell 2 (some .int)) 1 13 [.ref (w.2.2 0), .int p1] σ (.returned (some (.int r))) σ' := by
  refine zC.of (plainFor_of_name (by decide)) (Nat.le_of_ble_eq_true rfl) ?_
  intro p e s m args below meth c C hnm
  show Z p l e _ s m args below meth c _ w _ _ 2 σ 0 [(0, .ref (w.2.2 0)), (1, .int p1)] []
  unfold fX6_tell at hf
  refine z_aload_n C 0 dX6_tell_0 rfl rfl ?_
  refine z_getR C ly_m0 (Cn := RX6) (T := TX6) (N := 24) rfl in_X6 0 (by decide) q1404 (Or.inl rfl) rfl dX6_tell_1 ?_
  refine z_bipush C 8 dX6_tell_4 (by decide) ?_
  refine z_ialoadF C ly_m1 (by decide) dX6_tell_6 ?_
  refine z_bipush C 20 dX6_tell_7 (by decide) ?_
  refine z_icmp_ne C 19 dX6_tell_9 (by decide) (fun c_1 => ?_) (fun c_1 => ?_)
  · replace hf := if_f c_1 hf
    refine z_aload_n C 0 dX6_tell_19 rfl rfl ?_
    refine z_getR C ly_m0 (Cn := RX6) (T := TX6) (N := 24) rfl in_X6 0 (by decide) q1404 (Or.inl rfl) rfl dX6_tell_20 ?_
    refine z_bipush C 118 dX6_tell_23 (by decide) ?_
    refine z_aload_n C 0 dX6_tell_25 rfl rfl ?_
    refine z_getR C ly_m0 (Cn := RX6) (T := TX6) (N := 24) rfl in_X6 0 (by decide) q1404 (Or.inl rfl) rfl dX6_tell_26 ?_
    refine z_bipush C 8 dX6_tell_29 (by decide) ?_
    refine z_ialoadF C ly_m1 (by decide) dX6_tell_31 ?_
    refine z_iadd C dX6_tell_32 ?_
    refine z_iload_n C 1 dX6_tell_33 rfl rfl ?_
    obtain ⟨g_2, hf⟩ := gd_ hf
    refine z_iastore C ly_m1 g_2 dX6_tell_34 ?_
    refine z_aload_n C 0 dX6_tell_35 rfl rfl ?_
    refine z_getR C ly_m0 (Cn := RX6) (T := TX6) (N := 24) rfl in_X6 0 (by decide) q1404 (Or.inl rfl) rfl dX6_tell_36 ?_
    refine z_bipush C 8 dX6_tell_39 (by decide) ?_
    refine z_dup2 C dX6_tell_41 rfl rfl ?_
    refine z_ialoadF C ly_m1 (by decide) dX6_tell_42 ?_
    refine z_iconst C 1 dX6_tell_43 (by decide) ?_
    refine z_iadd C dX6_tell_44 ?_
    obtain ⟨v_3, ev_3, hf⟩ := nmo_ hf
    refine z_top ev_3 ?_
    refine z_iastore C ly_m1 (by decide) dX6_tell_45 ?_
    refine z_aload_n C 0 dX6_tell_46 rfl rfl ?_
    refine z_getR C ly_m0 (Cn := RX6) (T := TX6) (N := 24) rfl in_X6 0 (by decide) q1404 (Or.inl rfl) rfl dX6_tell_47 ?_
    refine z_bipush C 8 dX6_tell_50 (by decide) ?_
    refine z_ialoadF C ly_m1 (by decide) dX6_tell_52 ?_
    obtain ⟨rfl, rfl⟩ := fin_ hf
    exact z_iret C rfl dX6_tell_53
  · replace hf := if_t c_1 hf
    refine z_aload_n C 0 dX6_tell_12 rfl rfl ?_
    refine z_ldc C dX6_tell_13 q1490 ?_
    obtain ⟨r_4, σ_6, e_5, hf⟩ := bd_ hf
    refine z_calli C (rest := []) (av := (.ref (w.2.2 0) :: [.int (-1000000004)])) (zPay.of q1488 q83) (fun H ls hH h2 => zInv_V C (As := [.int (-1000000004)]) (rest := []) (ci := 6) (T := TX6) (N := 24) rfl (zSee.fix ly_m0) hH q1485 q1487 qs32 (Or.inl rfl) q1488 mh_X6 np_X6_finding dX6_tell_15) (tX6_finding l w e_5) (Nat.le_of_ble_eq_true rfl) (Nat.le_of_ble_eq_true rfl) ?_
    obtain ⟨rfl, rfl⟩ := fin_ hf
    exact z_iret C rfl dX6_tell_18
def fX6_told (σ : ZS) (p1 : Int32) : Option (Int32 × ZS) := bd (if (fX6_within p1 1 5) = 0 then (bd (fX6_finding σ (-1000000001)) (fun r_5 σ_7 => some (r_5, σ_7))) else (gd (¬ (p1 < 0 ∨ 6 ≤ p1.toNatClampNeg)) (some (σ.1 5 p1.toNatClampNeg, σ)))) (fun (j_1 : Int32) σ_2 => some (j_1, σ_2))
set_option maxHeartbeats 4000000 in
set_option maxRecDepth 100000 in
theorem tX6_told (l : Launch) (w : ZW) {σ σ' : ZS} {p1 : Int32} {r : Int32} (hf : fX6_told σ p1 = some (r, σ')) : zC l w zLm yX6_told (ws_ yX6_told cX6_told 2 (some .int)) 1 14 [.ref (w.2.2 0), .int p1] σ (.returned (some (.int r))) σ' := by
  refine zC.of (plainFor_of_name (by decide)) (Nat.le_of_ble_eq_true rfl) ?_
  intro p e s m args below meth c C hnm
  show Z p l e _ s m args below meth c _ w _ _ 2 σ 0 [(0, .ref (w.2.2 0)), (1, .int p1)] []
  unfold fX6_told at hf
  refine z_iload_n C 1 dX6_told_0 rfl rfl ?_
  refine z_iconst C 1 dX6_told_1 (by decide) ?_
  refine z_iconst C 5 dX6_told_2 (by decide) ?_
  refine z_calli C (rest := []) (av := [.int p1, .int 1, .int 5]) (zPay.of q1483 q83) (fun H ls hH h2 => zInv_S C (As := [.int p1, .int 1, .int 5]) (rest := []) q1481 q1482 q83 (Or.inl rfl) q1483 mh_X6 np_X6_within dX6_told_3) (tX6_within l w zLm σ p1 1 5) (Nat.le_of_ble_eq_true rfl) (Nat.le_of_ble_eq_true rfl) ?_
  obtain ⟨j_1, σ_2, e_3, hf⟩ := bd_ hf
  have hje_3 : Z p l e (zRm 1 14 σ) s m args below meth c (zQ below w zLm σ (.returned (some (.int r))) σ' args s) w zLm (zA w zLm σ) 2 σ_2 24 [(0, .ref (w.2.2 0)), (1, .int p1)] [.int j_1] := by
    obtain ⟨rfl, rfl⟩ := fin_ hf
    exact z_iret C rfl dX6_told_24
  replace hf := e_3
  refine z_if_eq C 18 dX6_told_6 (by decide) (fun c_4 => ?_) (fun c_4 => ?_)
  · replace hf := if_t c_4 hf
    refine z_aload_n C 0 dX6_told_18 rfl rfl ?_
    refine z_ldc C dX6_told_19 q1484 ?_
    obtain ⟨r_5, σ_7, e_6, hf⟩ := bd_ hf
    refine z_calli C (rest := []) (av := (.ref (w.2.2 0) :: [.int (-1000000001)])) (zPay.of q1488 q83) (fun H ls hH h2 => zInv_V C (As := [.int (-1000000001)]) (rest := []) (ci := 6) (T := TX6) (N := 24) rfl (zSee.fix ly_m0) hH q1485 q1487 qs32 (Or.inl rfl) q1488 mh_X6 np_X6_finding dX6_told_21) (tX6_finding l w e_6) (Nat.le_of_ble_eq_true rfl) (Nat.le_of_ble_eq_true rfl) ?_
    obtain ⟨rfl, rfl⟩ := fin_ hf
    exact hje_3
  · replace hf := if_f c_4 hf
    refine z_aload_n C 0 dX6_told_9 rfl rfl ?_
    refine z_getR C ly_m0 (Cn := RX6) (T := TX6) (N := 24) rfl in_X6 4 (by decide) q1408 (Or.inl rfl) rfl dX6_told_10 ?_
    refine z_iload_n C 1 dX6_told_13 rfl rfl ?_
    obtain ⟨g_8, hf⟩ := gd_ hf
    refine z_ialoadF C ly_m5 g_8 dX6_told_14 ?_
    refine z_goto C 24 dX6_told_15 (by decide) ?_
    obtain ⟨rfl, rfl⟩ := fin_ hf
    exact hje_3
def fX6_flat_L2 (y1 : Int32) : Nat → Int32 → ZS → Option ((Int32) × ZS)
  | 0, _, _ => none
  | n + 1, y2, σ => if 8 ≤ y2 then (some (y2, σ)) else (gd (¬ ((fX6_cellAt y2 0) < 0 ∨ 242 ≤ (fX6_cellAt y2 0).toNatClampNeg)) (gd (¬ ((fX6_cellAt y2 1) < 0 ∨ 242 ≤ (fX6_cellAt y2 1).toNatClampNeg)) (gd (¬ ((fX6_cellAt y2 2) < 0 ∨ 242 ≤ (fX6_cellAt y2 2).toNatClampNeg)) (nm (y2 + 1) (fun (x2_5 : Int32) => fX6_flat_L2 y1 n x2_5 (sI (sI (sI σ 1 ((fX6_cellAt y2 0).toNatClampNeg) 5) 1 ((fX6_cellAt y2 1).toNatClampNeg) 1) 1 ((fX6_cellAt y2 2).toNatClampNeg) 0))))))
def fX6_flat (σ : ZS) (p1 : Int32) : Option (Int32 × ZS) := bd (fX6_flat_L2 p1 10000 0 σ) (fun x2_6 σ_7 => bd (fX6_forgetDepths (sI σ_7 1 ((5 : Int32).toNatClampNeg) 0)) (fun _ σ_11 => bd (fX6_turn σ_11 1 p1) (fun r_12 σ_14 => some (r_12, σ_14))))
set_option maxHeartbeats 4000000 in
set_option maxRecDepth 100000 in
theorem lfX6_flat_L2 {p : Program} {l : Launch} {e : Env} {R : Room} {s : State} {m : MethodId} {args : Array Value} {below : List Frame} {meth : Method} {c : Code} {Q : State → Prop} {w : ZW} {A : Nat → Prop} {ret : Option FieldType} {hh : List (Nat × Nat × Nat × Nat)} (C : zCx p s m args meth c w zLm A 3 cX6_flat RX6 ret hh) (hfr : 1 ≤ R.frames) (hlo : 14 ≤ R.locals) (y1 : Int32) {z2 : Int32} {σ' : ZS} (hk : Z p l e R s m args below meth c Q w zLm A 3 σ' 47 [(0, .ref (w.2.2 0)), (1, .int y1), (2, .int z2)] []) : ∀ (n : Nat) (y2 : Int32) (σ : ZS), fX6_flat_L2 y1 n y2 σ = some (z2, σ') → Z p l e R s m args below meth c Q w zLm A 3 σ 2 [(0, .ref (w.2.2 0)), (1, .int y1), (2, .int y2)] [] := by
  intro n
  induction n with
  | zero => intro y2 σ hf; exact none_ hf
  | succ n ih =>
    intro y2 σ hf
    rw [fX6_flat_L2] at hf
    refine z_iload_n C 2 dX6_flat_2 rfl rfl ?_
    refine z_bipush C 8 dX6_flat_3 (by decide) ?_
    refine z_icmp_ge C 47 dX6_flat_5 (by decide) (fun c_1 => ?_) (fun c_1 => ?_)
    · replace hf := if_t c_1 hf
      obtain ⟨rfl, rfl⟩ := fin_ hf
      exact hk
    · replace hf := if_f c_1 hf
      refine z_aload_n C 0 dX6_flat_8 rfl rfl ?_
      refine z_getR C ly_m0 (Cn := RX6) (T := TX6) (N := 24) rfl in_X6 0 (by decide) q1404 (Or.inl rfl) rfl dX6_flat_9 ?_
      refine z_iload_n C 2 dX6_flat_12 rfl rfl ?_
      refine z_iconst C 0 dX6_flat_13 (by decide) ?_
      refine z_calli C (rest := [.ref (w.2.2 1)]) (av := [.int y2, .int 0]) (zPay.of q1395 q83) (fun H ls hH h2 => zInv_S C (As := [.int y2, .int 0]) (rest := [.ref (w.2.2 1)]) q1393 q1394 q83 (Or.inl rfl) q1395 mh_X6 np_X6_cellAt dX6_flat_14) (tX6_cellAt l w zLm σ y2 0) (Nat.le_trans (Nat.le_of_ble_eq_true rfl) hfr) (Nat.le_trans (Nat.le_of_ble_eq_true rfl) hlo) ?_
      refine z_iconst C 5 dX6_flat_17 (by decide) ?_
      obtain ⟨g_2, hf⟩ := gd_ hf
      refine z_iastore C ly_m1 g_2 dX6_flat_18 ?_
      refine z_aload_n C 0 dX6_flat_19 rfl rfl ?_
      refine z_getR C ly_m0 (Cn := RX6) (T := TX6) (N := 24) rfl in_X6 0 (by decide) q1404 (Or.inl rfl) rfl dX6_flat_20 ?_
      refine z_iload_n C 2 dX6_flat_23 rfl rfl ?_
      refine z_iconst C 1 dX6_flat_24 (by decide) ?_
      refine z_calli C (rest := [.ref (w.2.2 1)]) (av := [.int y2, .int 1]) (zPay.of q1395 q83) (fun H ls hH h2 => zInv_S C (As := [.int y2, .int 1]) (rest := [.ref (w.2.2 1)]) q1393 q1394 q83 (Or.inl rfl) q1395 mh_X6 np_X6_cellAt dX6_flat_25) (tX6_cellAt l w zLm (sI σ 1 ((fX6_cellAt y2 0).toNatClampNeg) 5) y2 1) (Nat.le_trans (Nat.le_of_ble_eq_true rfl) hfr) (Nat.le_trans (Nat.le_of_ble_eq_true rfl) hlo) ?_
      refine z_iconst C 1 dX6_flat_28 (by decide) ?_
      obtain ⟨g_3, hf⟩ := gd_ hf
      refine z_iastore C ly_m1 g_3 dX6_flat_29 ?_
      refine z_aload_n C 0 dX6_flat_30 rfl rfl ?_
      refine z_getR C ly_m0 (Cn := RX6) (T := TX6) (N := 24) rfl in_X6 0 (by decide) q1404 (Or.inl rfl) rfl dX6_flat_31 ?_
      refine z_iload_n C 2 dX6_flat_34 rfl rfl ?_
      refine z_iconst C 2 dX6_flat_35 (by decide) ?_
      refine z_calli C (rest := [.ref (w.2.2 1)]) (av := [.int y2, .int 2]) (zPay.of q1395 q83) (fun H ls hH h2 => zInv_S C (As := [.int y2, .int 2]) (rest := [.ref (w.2.2 1)]) q1393 q1394 q83 (Or.inl rfl) q1395 mh_X6 np_X6_cellAt dX6_flat_36) (tX6_cellAt l w zLm (sI (sI σ 1 ((fX6_cellAt y2 0).toNatClampNeg) 5) 1 ((fX6_cellAt y2 1).toNatClampNeg) 1) y2 2) (Nat.le_trans (Nat.le_of_ble_eq_true rfl) hfr) (Nat.le_trans (Nat.le_of_ble_eq_true rfl) hlo) ?_
      refine z_iconst C 0 dX6_flat_39 (by decide) ?_
      obtain ⟨g_4, hf⟩ := gd_ hf
      refine z_iastore C ly_m1 g_4 dX6_flat_40 ?_
      obtain ⟨x2_5, ex2_5, hf⟩ := nmo_ hf
      refine z_iinc C x2_5 2 dX6_flat_41 rfl (by rw [ex2_5]; rfl) (by decide) rfl (lv' := [(2, .int x2_5), (0, .ref (w.2.2 0)), (1, .int y1)]) ?_
      refine z_goto C 2 dX6_flat_44 (by decide) ?_
      exact z_lv [1, 2, 0] rfl (ih _ _ hf)
set_option maxHeartbeats 4000000 in
set_option maxRecDepth 100000 in
theorem tX6_flat (l : Launch) (w : ZW) {σ σ' : ZS} {p1 : Int32} {r : Int32} (hf : fX6_flat σ p1 = some (r, σ')) : zC l w zLm yX6_flat (ws_ yX6_flat cX6_flat 3 (some .int)) 1 15 [.ref (w.2.2 0), .int p1] σ (.returned (some (.int r))) σ' := by
  refine zC.of (plainFor_of_name (by decide)) (Nat.le_of_ble_eq_true rfl) ?_
  intro p e s m args below meth c C hnm
  show Z p l e _ s m args below meth c _ w _ _ 3 σ 0 [(0, .ref (w.2.2 0)), (1, .int p1)] []
  unfold fX6_flat at hf
  refine z_iconst C 0 dX6_flat_0 (by decide) ?_
  refine z_istore_n C dX6_flat_1 rfl (by decide) rfl (lv' := [(2, .int 0), (0, .ref (w.2.2 0)), (1, .int p1)]) ?_
  obtain ⟨x2_6, σ_7, e_8, hf⟩ := bd_ hf
  refine z_lv (lv' := [(0, .ref (w.2.2 0)), (1, .int p1), (2, .int 0)]) [1, 2, 0] rfl ?_
  refine lfX6_flat_L2 C (Nat.le_of_ble_eq_true rfl) (Nat.le_of_ble_eq_true rfl) p1 ?_ _ _ _ e_8
  refine z_aload_n C 0 dX6_flat_47 rfl rfl ?_
  refine z_getR C ly_m0 (Cn := RX6) (T := TX6) (N := 24) rfl in_X6 0 (by decide) q1404 (Or.inl rfl) rfl dX6_flat_48 ?_
  refine z_iconst C 5 dX6_flat_51 (by decide) ?_
  refine z_iconst C 0 dX6_flat_52 (by decide) ?_
  refine z_iastore C ly_m1 (by decide) dX6_flat_53 ?_
  refine z_aload_n C 0 dX6_flat_54 rfl rfl ?_
  obtain ⟨⟨⟩, σ_11, e_10, hf⟩ := bd_ hf
  refine z_callv C (rest := []) (av := (.ref (w.2.2 0) :: [])) (zPay.of q1399 q83) (fun H ls hH h2 => zInv_V C (As := []) (rest := []) (ci := 6) (T := TX6) (N := 24) rfl (zSee.fix ly_m0) hH q1396 q1398 qs30 (Or.inl rfl) q1399 mh_X6 np_X6_forgetDepths dX6_flat_55) (tX6_forgetDepths l w e_10) (Nat.le_of_ble_eq_true rfl) (Nat.le_of_ble_eq_true rfl) ?_
  refine z_aload_n C 0 dX6_flat_58 rfl rfl ?_
  refine z_iconst C 1 dX6_flat_59 (by decide) ?_
  refine z_iload_n C 1 dX6_flat_60 rfl rfl ?_
  obtain ⟨r_12, σ_14, e_13, hf⟩ := bd_ hf
  refine z_calli C (rest := []) (av := (.ref (w.2.2 0) :: [.int 1, .int p1])) (zPay.of q1403 q83) (fun H ls hH h2 => zInv_V C (As := [.int 1, .int p1]) (rest := []) (ci := 6) (T := TX6) (N := 24) rfl (zSee.fix ly_m0) hH q1400 q1402 qs31 (Or.inl rfl) q1403 mh_X6 np_X6_turn dX6_flat_61) (tX6_turn l w e_13) (Nat.le_of_ble_eq_true rfl) (Nat.le_of_ble_eq_true rfl) ?_
  obtain ⟨rfl, rfl⟩ := fin_ hf
  exact z_iret C rfl dX6_flat_64
def fX6_feed_L41 (y1 : Int64) (y3 : Int32) : Nat → Int32 → ZS → Option ((Int32) × ZS)
  | 0, _, _ => none
  | n + 1, y4, σ => if y3 ≤ y4 then (some (y4, σ)) else (nm (((y1 >>> ((8 * y4).toInt64 &&& 63)) &&& 255).toInt32) (fun (v_4 : Int32) => gd (¬ ((68 + (σ.1 1 (7 : Int32).toNatClampNeg)) < 0 ∨ 242 ≤ (68 + (σ.1 1 (7 : Int32).toNatClampNeg)).toNatClampNeg)) (nm (((sI σ 1 ((68 + (σ.1 1 (7 : Int32).toNatClampNeg)).toNatClampNeg) v_4).1 1 (7 : Int32).toNatClampNeg) + 1) (fun (v_6 : Int32) => nm (y4 + 1) (fun (x4_7 : Int32) => fX6_feed_L41 y1 y3 n x4_7 (sI (sI σ 1 ((68 + (σ.1 1 (7 : Int32).toNatClampNeg)).toNatClampNeg) v_4) 1 ((7 : Int32).toNatClampNeg) v_6))))))
def fX6_feed (σ : ZS) (p1 : Int64) (p2 : Int32) : Option (Int32 × ZS) := if (fX6_within p2 1 8) = 0 then (bd (fX6_finding σ (-1000000001)) (fun r_14 σ_16 => some (r_14, σ_16))) else (if ((σ.1 1 (7 : Int32).toNatClampNeg) + p2) ≤ 50 then (bd (fX6_feed_L41 p1 p2 10000 0 σ) (fun x4_8 σ_9 => some (σ_9.1 1 (7 : Int32).toNatClampNeg, σ_9))) else (bd (fX6_finding σ (-1000000004)) (fun r_11 σ_13 => some (r_11, σ_13))))
set_option maxHeartbeats 4000000 in
set_option maxRecDepth 100000 in
theorem lfX6_feed_L41 {p : Program} {l : Launch} {e : Env} {R : Room} {s : State} {m : MethodId} {args : Array Value} {below : List Frame} {meth : Method} {c : Code} {Q : State → Prop} {w : ZW} {A : Nat → Prop} {ret : Option FieldType} {hh : List (Nat × Nat × Nat × Nat)} (C : zCx p s m args meth c w zLm A 5 cX6_feed RX6 ret hh) (hfr : 0 ≤ R.frames) (hlo : 0 ≤ R.locals) (y1 : Int64) (y3 : Int32) {z4 : Int32} {σ' : ZS} (hk : Z p l e R s m args below meth c Q w zLm A 5 σ' 91 [(0, .ref (w.2.2 0)), (1, .long y1), (3, .int y3), (4, .int z4)] []) : ∀ (n : Nat) (y4 : Int32) (σ : ZS), fX6_feed_L41 y1 y3 n y4 σ = some (z4, σ') → Z p l e R s m args below meth c Q w zLm A 5 σ 41 [(0, .ref (w.2.2 0)), (1, .long y1), (3, .int y3), (4, .int y4)] [] := by
  intro n
  induction n with
  | zero => intro y4 σ hf; exact none_ hf
  | succ n ih =>
    intro y4 σ hf
    rw [fX6_feed_L41] at hf
    refine z_iload C 3 dX6_feed_41 rfl ?_
    refine z_iload_n C 2 dX6_feed_43 rfl rfl ?_
    refine z_icmp_ge C 91 dX6_feed_44 (by decide) (fun c_3 => ?_) (fun c_3 => ?_)
    · replace hf := if_t c_3 hf
      obtain ⟨rfl, rfl⟩ := fin_ hf
      exact hk
    · replace hf := if_f c_3 hf
      refine z_aload_n C 0 dX6_feed_47 rfl rfl ?_
      refine z_getR C ly_m0 (Cn := RX6) (T := TX6) (N := 24) rfl in_X6 0 (by decide) q1404 (Or.inl rfl) rfl dX6_feed_48 ?_
      refine z_bipush C 68 dX6_feed_51 (by decide) ?_
      refine z_aload_n C 0 dX6_feed_53 rfl rfl ?_
      refine z_getR C ly_m0 (Cn := RX6) (T := TX6) (N := 24) rfl in_X6 0 (by decide) q1404 (Or.inl rfl) rfl dX6_feed_54 ?_
      refine z_bipush C 7 dX6_feed_57 (by decide) ?_
      refine z_ialoadF C ly_m1 (by decide) dX6_feed_59 ?_
      refine z_iadd C dX6_feed_60 ?_
      refine z_lload_n C 1 dX6_feed_61 rfl rfl ?_
      refine z_bipush C 8 dX6_feed_62 (by decide) ?_
      refine z_iload C 3 dX6_feed_64 rfl ?_
      refine z_imul C dX6_feed_66 ?_
      refine z_lshr C dX6_feed_67 ?_
      refine z_ldc2_w C dX6_feed_68 q1491 ?_
      refine z_land C dX6_feed_71 ?_
      refine z_l2i C dX6_feed_72 ?_
      obtain ⟨v_4, ev_4, hf⟩ := nmo_ hf
      refine z_top ev_4 ?_
      obtain ⟨g_5, hf⟩ := gd_ hf
      refine z_iastore C ly_m1 g_5 dX6_feed_73 ?_
      refine z_aload_n C 0 dX6_feed_74 rfl rfl ?_
      refine z_getR C ly_m0 (Cn := RX6) (T := TX6) (N := 24) rfl in_X6 0 (by decide) q1404 (Or.inl rfl) rfl dX6_feed_75 ?_
      refine z_bipush C 7 dX6_feed_78 (by decide) ?_
      refine z_dup2 C dX6_feed_80 rfl rfl ?_
      refine z_ialoadF C ly_m1 (by decide) dX6_feed_81 ?_
      refine z_iconst C 1 dX6_feed_82 (by decide) ?_
      refine z_iadd C dX6_feed_83 ?_
      obtain ⟨v_6, ev_6, hf⟩ := nmo_ hf
      refine z_top ev_6 ?_
      refine z_iastore C ly_m1 (by decide) dX6_feed_84 ?_
      obtain ⟨x4_7, ex4_7, hf⟩ := nmo_ hf
      refine z_iinc C x4_7 3 dX6_feed_85 rfl (by rw [ex4_7]; rfl) (by decide) rfl (lv' := [(4, .int x4_7), (0, .ref (w.2.2 0)), (1, .long y1), (3, .int y3)]) ?_
      refine z_goto C 41 dX6_feed_88 (by decide) ?_
      exact z_lv [1, 2, 3, 0] rfl (ih _ _ hf)
set_option maxHeartbeats 4000000 in
set_option maxRecDepth 100000 in
theorem tX6_feed (l : Launch) (w : ZW) {σ σ' : ZS} {p1 : Int64} {p2 : Int32} {r : Int32} (hf : fX6_feed σ p1 p2 = some (r, σ')) : zC l w zLm yX6_feed (ws_ yX6_feed cX6_feed 5 (some .int)) 1 14 [.ref (w.2.2 0), .long p1, .int p2] σ (.returned (some (.int r))) σ' := by
  refine zC.of (plainFor_of_name (by decide)) (Nat.le_of_ble_eq_true rfl) ?_
  intro p e s m args below meth c C hnm
  show Z p l e _ s m args below meth c _ w _ _ 5 σ 0 [(0, .ref (w.2.2 0)), (1, .long p1), (3, .int p2)] []
  unfold fX6_feed at hf
  refine z_iload_n C 2 dX6_feed_0 rfl rfl ?_
  refine z_iconst C 1 dX6_feed_1 (by decide) ?_
  refine z_bipush C 8 dX6_feed_2 (by decide) ?_
  refine z_calli C (rest := []) (av := [.int p2, .int 1, .int 8]) (zPay.of q1483 q83) (fun H ls hH h2 => zInv_S C (As := [.int p2, .int 1, .int 8]) (rest := []) q1481 q1482 q83 (Or.inl rfl) q1483 mh_X6 np_X6_within dX6_feed_4) (tX6_within l w zLm σ p2 1 8) (Nat.le_of_ble_eq_true rfl) (Nat.le_of_ble_eq_true rfl) ?_
  refine z_if_ne C 17 dX6_feed_7 (by decide) (fun c_1 => ?_) (fun c_1 => ?_)
  · replace hf := if_f c_1 hf
    refine z_aload_n C 0 dX6_feed_17 rfl rfl ?_
    refine z_getR C ly_m0 (Cn := RX6) (T := TX6) (N := 24) rfl in_X6 0 (by decide) q1404 (Or.inl rfl) rfl dX6_feed_18 ?_
    refine z_bipush C 7 dX6_feed_21 (by decide) ?_
    refine z_ialoadF C ly_m1 (by decide) dX6_feed_23 ?_
    refine z_iload_n C 2 dX6_feed_24 rfl rfl ?_
    refine z_iadd C dX6_feed_25 ?_
    refine z_bipush C 50 dX6_feed_26 (by decide) ?_
    refine z_icmp_le C 38 dX6_feed_28 (by decide) (fun c_2 => ?_) (fun c_2 => ?_)
    · replace hf := if_t c_2 hf
      refine z_iconst C 0 dX6_feed_38 (by decide) ?_
      refine z_istore C dX6_feed_39 (by decide) rfl (lv' := [(4, .int 0), (0, .ref (w.2.2 0)), (1, .long p1), (3, .int p2)]) ?_
      obtain ⟨x4_8, σ_9, e_10, hf⟩ := bd_ hf
      refine z_lv (lv' := [(0, .ref (w.2.2 0)), (1, .long p1), (3, .int p2), (4, .int 0)]) [1, 2, 3, 0] rfl ?_
      refine lfX6_feed_L41 C (Nat.le_of_ble_eq_true rfl) (Nat.le_of_ble_eq_true rfl) p1 p2 ?_ _ _ _ e_10
      refine z_aload_n C 0 dX6_feed_91 rfl rfl ?_
      refine z_getR C ly_m0 (Cn := RX6) (T := TX6) (N := 24) rfl in_X6 0 (by decide) q1404 (Or.inl rfl) rfl dX6_feed_92 ?_
      refine z_bipush C 7 dX6_feed_95 (by decide) ?_
      refine z_ialoadF C ly_m1 (by decide) dX6_feed_97 ?_
      obtain ⟨rfl, rfl⟩ := fin_ hf
      exact z_iret C rfl dX6_feed_98
    · replace hf := if_f c_2 hf
      refine z_aload_n C 0 dX6_feed_31 rfl rfl ?_
      refine z_ldc C dX6_feed_32 q1490 ?_
      obtain ⟨r_11, σ_13, e_12, hf⟩ := bd_ hf
      refine z_calli C (rest := []) (av := (.ref (w.2.2 0) :: [.int (-1000000004)])) (zPay.of q1488 q83) (fun H ls hH h2 => zInv_V C (As := [.int (-1000000004)]) (rest := []) (ci := 6) (T := TX6) (N := 24) rfl (zSee.fix ly_m0) hH q1485 q1487 qs32 (Or.inl rfl) q1488 mh_X6 np_X6_finding dX6_feed_34) (tX6_finding l w e_12) (Nat.le_of_ble_eq_true rfl) (Nat.le_of_ble_eq_true rfl) ?_
      obtain ⟨rfl, rfl⟩ := fin_ hf
      exact z_iret C rfl dX6_feed_37
  · replace hf := if_t c_1 hf
    refine z_aload_n C 0 dX6_feed_10 rfl rfl ?_
    refine z_ldc C dX6_feed_11 q1484 ?_
    obtain ⟨r_14, σ_16, e_15, hf⟩ := bd_ hf
    refine z_calli C (rest := []) (av := (.ref (w.2.2 0) :: [.int (-1000000001)])) (zPay.of q1488 q83) (fun H ls hH h2 => zInv_V C (As := [.int (-1000000001)]) (rest := []) (ci := 6) (T := TX6) (N := 24) rfl (zSee.fix ly_m0) hH q1485 q1487 qs32 (Or.inl rfl) q1488 mh_X6 np_X6_finding dX6_feed_13) (tX6_finding l w e_15) (Nat.le_of_ble_eq_true rfl) (Nat.le_of_ble_eq_true rfl) ?_
    obtain ⟨rfl, rfl⟩ := fin_ hf
    exact z_iret C rfl dX6_feed_16
def fX6_worked_L4 (y1 : Int32) : Nat → Int32 → Int32 → ZS → Option ((Int32 × Int32) × ZS)
  | 0, _, _, _ => none
  | n + 1, y2, y3, σ => gd (¬ ((y1 - 1) < 0 ∨ 242 ≤ (y1 - 1).toNatClampNeg)) (if (y1 + (σ.1 1 (y1 - 1).toNatClampNeg)) ≤ y3 then (some ((y2, y3), σ)) else (gd (¬ (y3 < 0 ∨ 242 ≤ y3.toNatClampNeg)) (nm (σ.1 1 y3.toNatClampNeg) (fun (x4_4 : Int32) => bd (if 20000 ≤ x4_4 then (if x4_4 = 20010 then (gd (¬ ((y2 - 1) < 0 ∨ 60 ≤ (y2 - 1).toNatClampNeg)) (nm (if (σ.1 15 (y2 - 1).toNatClampNeg) = 0 then 1 else 0) (fun (j_17 : Int32) => some (y2, sI σ 15 ((y2 - 1).toNatClampNeg) j_17)))) else (nm (y2 + (-1)) (fun (x2_11 : Int32) => gd (¬ ((x2_11 - 1) < 0 ∨ 60 ≤ (x2_11 - 1).toNatClampNeg)) (gd (¬ (x2_11 < 0 ∨ 60 ≤ x2_11.toNatClampNeg)) (bo (fX6_done x4_4 (σ.1 15 (x2_11 - 1).toNatClampNeg) (σ.1 15 x2_11.toNatClampNeg)) (fun r_14 => some (x2_11, sI σ 15 ((x2_11 - 1).toNatClampNeg) r_14))))))) else (bo (if 10000 ≤ x4_4 then (gd (¬ ((x4_4 - 10000) < 0 ∨ 4 ≤ (x4_4 - 10000).toNatClampNeg)) (some (σ.1 14 (x4_4 - 10000).toNatClampNeg))) else (some x4_4)) (fun (j_19 : Int32) => gd (¬ (y2 < 0 ∨ 60 ≤ y2.toNatClampNeg)) (nm (y2 + 1) (fun (x2_23 : Int32) => some (x2_23, sI σ 15 (y2.toNatClampNeg) j_19)))))) (fun (x2_5 : Int32) σ_6 => nm (y3 + 1) (fun (x3_8 : Int32) => fX6_worked_L4 y1 n x2_5 x3_8 σ_6))))))
def fX6_worked (σ : ZS) (p1 : Int32) : Option (Int32 × ZS) := bd (fX6_worked_L4 p1 10000 0 p1 σ) (fun uu28 σ_28 => some (σ_28.1 15 (0 : Int32).toNatClampNeg, σ_28))
set_option maxHeartbeats 4000000 in
set_option maxRecDepth 100000 in
theorem lfX6_worked_L4 {p : Program} {l : Launch} {e : Env} {R : Room} {s : State} {m : MethodId} {args : Array Value} {below : List Frame} {meth : Method} {c : Code} {Q : State → Prop} {w : ZW} {A : Nat → Prop} {ret : Option FieldType} {hh : List (Nat × Nat × Nat × Nat)} (C : zCx p s m args meth c w zLm A 5 cX6_worked RX6 ret hh) (hfr : 1 ≤ R.frames) (hlo : 16 ≤ R.locals) (y1 : Int32) {z2 : Int32} {z3 : Int32} {σ' : ZS} (hk : Z p l e R s m args below meth c Q w zLm A 5 σ' 141 [(0, .ref (w.2.2 0)), (1, .int y1), (2, .int z2), (3, .int z3)] []) : ∀ (n : Nat) (y2 : Int32) (y3 : Int32) (σ : ZS), fX6_worked_L4 y1 n y2 y3 σ = some ((z2, z3), σ') → Z p l e R s m args below meth c Q w zLm A 5 σ 4 [(0, .ref (w.2.2 0)), (1, .int y1), (2, .int y2), (3, .int y3)] [] := by
  intro n
  induction n with
  | zero => intro y2 y3 σ hf; exact none_ hf
  | succ n ih =>
    intro y2 y3 σ hf
    rw [fX6_worked_L4] at hf
    refine z_iload_n C 3 dX6_worked_4 rfl rfl ?_
    refine z_iload_n C 1 dX6_worked_5 rfl rfl ?_
    refine z_aload_n C 0 dX6_worked_6 rfl rfl ?_
    refine z_getR C ly_m0 (Cn := RX6) (T := TX6) (N := 24) rfl in_X6 0 (by decide) q1404 (Or.inl rfl) rfl dX6_worked_7 ?_
    refine z_iload_n C 1 dX6_worked_10 rfl rfl ?_
    refine z_iconst C 1 dX6_worked_11 (by decide) ?_
    refine z_isub C dX6_worked_12 ?_
    obtain ⟨g_1, hf⟩ := gd_ hf
    refine z_ialoadF C ly_m1 g_1 dX6_worked_13 ?_
    refine z_iadd C dX6_worked_14 ?_
    refine z_icmp_ge C 141 dX6_worked_15 (by decide) (fun c_2 => ?_) (fun c_2 => ?_)
    · replace hf := if_t c_2 hf
      obtain ⟨hf1, rfl⟩ := fin_ hf
      simp only [Prod.mk.injEq] at hf1
      obtain ⟨rfl, rfl⟩ := hf1
      exact hk
    · replace hf := if_f c_2 hf
      refine z_aload_n C 0 dX6_worked_18 rfl rfl ?_
      refine z_getR C ly_m0 (Cn := RX6) (T := TX6) (N := 24) rfl in_X6 0 (by decide) q1404 (Or.inl rfl) rfl dX6_worked_19 ?_
      refine z_iload_n C 3 dX6_worked_22 rfl rfl ?_
      obtain ⟨g_3, hf⟩ := gd_ hf
      refine z_ialoadF C ly_m1 g_3 dX6_worked_23 ?_
      obtain ⟨x4_4, ex4_4, hf⟩ := nmo_ hf
      refine z_top ex4_4 ?_
      refine z_istore C dX6_worked_24 (by decide) rfl (lv' := [(4, .int x4_4), (0, .ref (w.2.2 0)), (1, .int y1), (2, .int y2), (3, .int y3)]) ?_
      refine z_iload C 0 dX6_worked_26 rfl ?_
      refine z_sipush C 20000 dX6_worked_28 (by decide) ?_
      obtain ⟨x2_5, σ_6, e_7, hf⟩ := bd_ hf
      have hje_7 : Z p l e R s m args below meth c Q w zLm A 5 σ_6 135 [(0, .ref (w.2.2 0)), (1, .int y1), (2, .int x2_5), (3, .int y3), (4, .int x4_4)] [] := by
        obtain ⟨x3_8, ex3_8, hf⟩ := nmo_ hf
        refine z_iinc C x3_8 3 dX6_worked_135 rfl (by rw [ex3_8]; rfl) (by decide) rfl (lv' := [(3, .int x3_8), (0, .ref (w.2.2 0)), (1, .int y1), (2, .int x2_5), (4, .int x4_4)]) ?_
        refine z_goto C 4 dX6_worked_138 (by decide) ?_
        exact z_lv [1, 2, 3, 0] rfl (ih _ _ _ hf)
      replace hf := e_7
      refine z_icmp_ge C 70 dX6_worked_31 (by decide) (fun c_9 => ?_) (fun c_9 => ?_)
      · replace hf := if_t c_9 hf
        refine z_iload C 0 dX6_worked_70 rfl ?_
        refine z_sipush C 20010 dX6_worked_72 (by decide) ?_
        refine z_icmp_ne C 105 dX6_worked_75 (by decide) (fun c_10 => ?_) (fun c_10 => ?_)
        · replace hf := if_f c_10 hf
          obtain ⟨x2_11, ex2_11, hf⟩ := nmo_ hf
          refine z_iinc C x2_11 3 dX6_worked_105 rfl (by rw [ex2_11]; rfl) (by decide) rfl (lv' := [(2, .int x2_11), (4, .int x4_4), (0, .ref (w.2.2 0)), (1, .int y1), (3, .int y3)]) ?_
          refine z_aload_n C 2 dX6_worked_108 rfl rfl ?_
          refine z_getR C ly_m0 (Cn := RX6) (T := TX6) (N := 24) rfl in_X6 14 (by decide) q1418 (Or.inl rfl) rfl dX6_worked_109 ?_
          refine z_iload_n C 0 dX6_worked_112 rfl rfl ?_
          refine z_iconst C 1 dX6_worked_113 (by decide) ?_
          refine z_isub C dX6_worked_114 ?_
          refine z_iload C 1 dX6_worked_115 rfl ?_
          refine z_aload_n C 2 dX6_worked_117 rfl rfl ?_
          refine z_getR C ly_m0 (Cn := RX6) (T := TX6) (N := 24) rfl in_X6 14 (by decide) q1418 (Or.inl rfl) rfl dX6_worked_118 ?_
          refine z_iload_n C 0 dX6_worked_121 rfl rfl ?_
          refine z_iconst C 1 dX6_worked_122 (by decide) ?_
          refine z_isub C dX6_worked_123 ?_
          obtain ⟨g_12, hf⟩ := gd_ hf
          refine z_ialoadF C ly_m15 g_12 dX6_worked_124 ?_
          refine z_aload_n C 2 dX6_worked_125 rfl rfl ?_
          refine z_getR C ly_m0 (Cn := RX6) (T := TX6) (N := 24) rfl in_X6 14 (by decide) q1418 (Or.inl rfl) rfl dX6_worked_126 ?_
          refine z_iload_n C 0 dX6_worked_129 rfl rfl ?_
          obtain ⟨g_13, hf⟩ := gd_ hf
          refine z_ialoadF C ly_m15 g_13 dX6_worked_130 ?_
          obtain ⟨r_14, e_15, hf⟩ := bo_ hf
          refine z_calli C (rest := [.int (x2_11 - 1), .ref (w.2.2 15)]) (av := [.int x4_4, .int (σ.1 15 (x2_11 - 1).toNatClampNeg), .int (σ.1 15 x2_11.toNatClampNeg)]) (zPay.of q1575 q83) (fun H ls hH h2 => zInv_S C (As := [.int x4_4, .int (σ.1 15 (x2_11 - 1).toNatClampNeg), .int (σ.1 15 x2_11.toNatClampNeg)]) (rest := [.int (x2_11 - 1), .ref (w.2.2 15)]) q1573 q1574 q83 (Or.inl rfl) q1575 mh_X6 np_X6_done dX6_worked_131) (tX6_done l w zLm σ e_15) (Nat.le_trans (Nat.le_of_ble_eq_true rfl) hfr) (Nat.le_trans (Nat.le_of_ble_eq_true rfl) hlo) ?_
          refine z_iastore C ly_m15 g_12 dX6_worked_134 ?_
          obtain ⟨rfl, rfl⟩ := fin_ hf
          exact z_lv [2, 3, 0, 4, 1] rfl hje_7
        · replace hf := if_t c_10 hf
          refine z_aload_n C 1 dX6_worked_78 rfl rfl ?_
          refine z_getR C ly_m0 (Cn := RX6) (T := TX6) (N := 24) rfl in_X6 14 (by decide) q1418 (Or.inl rfl) rfl dX6_worked_79 ?_
          refine z_iload_n C 3 dX6_worked_82 rfl rfl ?_
          refine z_iconst C 1 dX6_worked_83 (by decide) ?_
          refine z_isub C dX6_worked_84 ?_
          refine z_aload_n C 1 dX6_worked_85 rfl rfl ?_
          refine z_getR C ly_m0 (Cn := RX6) (T := TX6) (N := 24) rfl in_X6 14 (by decide) q1418 (Or.inl rfl) rfl dX6_worked_86 ?_
          refine z_iload_n C 3 dX6_worked_89 rfl rfl ?_
          refine z_iconst C 1 dX6_worked_90 (by decide) ?_
          refine z_isub C dX6_worked_91 ?_
          obtain ⟨g_16, hf⟩ := gd_ hf
          refine z_ialoadF C ly_m15 g_16 dX6_worked_92 ?_
          obtain ⟨j_17, ej_17, hf⟩ := nmo_ hf
          have hj_17 : j_17 = 0 ∨ j_17 = 1 := by rw [ej_17]; (repeat' split) <;> first | exact Or.inl rfl | exact Or.inr rfl
          have hjj_17 : Z p l e R s m args below meth c Q w zLm A 5 σ 101 [(0, .ref (w.2.2 0)), (1, .int y1), (2, .int y2), (3, .int y3), (4, .int x4_4)] [.int j_17, .int (y2 - 1), .ref (w.2.2 15)] := by
            refine z_iastore C ly_m15 g_16 dX6_worked_101 ?_
            refine z_goto C 135 dX6_worked_102 (by decide) ?_
            obtain ⟨rfl, rfl⟩ := fin_ hf
            exact hje_7
          replace hf := ej_17
          refine z_if_ne C 100 dX6_worked_93 (by decide) (fun c_18 => ?_) (fun c_18 => ?_)
          · replace hf := ifp_f c_18 hf
            refine z_iconst C 0 dX6_worked_100 (by decide) ?_
            subst hf
            exact z_lv [1, 2, 3, 4, 0] rfl hjj_17
          · replace hf := ifp_t c_18 hf
            refine z_iconst C 1 dX6_worked_96 (by decide) ?_
            refine z_goto C 101 dX6_worked_97 (by decide) ?_
            subst hf
            exact z_lv [1, 2, 3, 4, 0] rfl hjj_17
      · replace hf := if_f c_9 hf
        refine z_aload_n C 1 dX6_worked_34 rfl rfl ?_
        refine z_getR C ly_m0 (Cn := RX6) (T := TX6) (N := 24) rfl in_X6 14 (by decide) q1418 (Or.inl rfl) rfl dX6_worked_35 ?_
        refine z_iload_n C 3 dX6_worked_38 rfl rfl ?_
        refine z_iload C 0 dX6_worked_39 rfl ?_
        refine z_sipush C 10000 dX6_worked_41 (by decide) ?_
        obtain ⟨j_19, e_21, hf⟩ := bo_ hf
        have hje_21 : Z p l e R s m args below meth c Q w zLm A 5 σ 63 [(0, .ref (w.2.2 0)), (1, .int y1), (2, .int y2), (3, .int y3), (4, .int x4_4)] [.int j_19, .int y2, .ref (w.2.2 15)] := by
          obtain ⟨g_22, hf⟩ := gd_ hf
          refine z_iastore C ly_m15 g_22 dX6_worked_63 ?_
          obtain ⟨x2_23, ex2_23, hf⟩ := nmo_ hf
          refine z_iinc C x2_23 2 dX6_worked_64 rfl (by rw [ex2_23]; rfl) (by decide) rfl (lv' := [(2, .int x2_23), (0, .ref (w.2.2 0)), (1, .int y1), (3, .int y3), (4, .int x4_4)]) ?_
          refine z_goto C 135 dX6_worked_67 (by decide) ?_
          obtain ⟨rfl, rfl⟩ := fin_ hf
          exact z_lv [1, 2, 0, 3, 4] rfl hje_7
        replace hf := e_21
        refine z_icmp_ge C 52 dX6_worked_44 (by decide) (fun c_24 => ?_) (fun c_24 => ?_)
        · replace hf := if_t c_24 hf
          refine z_aload_n C 1 dX6_worked_52 rfl rfl ?_
          refine z_getR C ly_m0 (Cn := RX6) (T := TX6) (N := 24) rfl in_X6 13 (by decide) q1417 (Or.inl rfl) rfl dX6_worked_53 ?_
          refine z_iload C 0 dX6_worked_56 rfl ?_
          refine z_sipush C 10000 dX6_worked_58 (by decide) ?_
          refine z_isub C dX6_worked_61 ?_
          obtain ⟨g_25, hf⟩ := gd_ hf
          refine z_ialoadF C ly_m14 g_25 dX6_worked_62 ?_
          obtain rfl := fino_ hf
          exact z_lv [1, 2, 3, 4, 0] rfl hje_21
        · replace hf := if_f c_24 hf
          refine z_iload C 0 dX6_worked_47 rfl ?_
          refine z_goto C 63 dX6_worked_49 (by decide) ?_
          obtain rfl := fino_ hf
          exact z_lv [1, 2, 3, 4, 0] rfl hje_21
set_option maxHeartbeats 4000000 in
set_option maxRecDepth 100000 in
theorem tX6_worked (l : Launch) (w : ZW) {σ σ' : ZS} {p1 : Int32} {r : Int32} (hf : fX6_worked σ p1 = some (r, σ')) : zC l w zLm yX6_worked (ws_ yX6_worked cX6_worked 5 (some .int)) 1 16 [.ref (w.2.2 0), .int p1] σ (.returned (some (.int r))) σ' := by
  refine zC.of (plainFor_of_name (by decide)) (Nat.le_of_ble_eq_true rfl) ?_
  intro p e s m args below meth c C hnm
  show Z p l e _ s m args below meth c _ w _ _ 5 σ 0 [(0, .ref (w.2.2 0)), (1, .int p1)] []
  unfold fX6_worked at hf
  refine z_iconst C 0 dX6_worked_0 (by decide) ?_
  refine z_istore_n C dX6_worked_1 rfl (by decide) rfl (lv' := [(2, .int 0), (0, .ref (w.2.2 0)), (1, .int p1)]) ?_
  refine z_iload_n C 2 dX6_worked_2 rfl rfl ?_
  refine z_istore_n C dX6_worked_3 rfl (by decide) rfl (lv' := [(3, .int p1), (2, .int 0), (0, .ref (w.2.2 0)), (1, .int p1)]) ?_
  obtain ⟨⟨x2_26, x3_27⟩, σ_28, e_29, hf⟩ := bd_ hf
  try dsimp only at hf
  refine z_lv (lv' := [(0, .ref (w.2.2 0)), (1, .int p1), (2, .int 0), (3, .int p1)]) [2, 3, 1, 0] rfl ?_
  refine lfX6_worked_L4 C (Nat.le_of_ble_eq_true rfl) (Nat.le_of_ble_eq_true rfl) p1 ?_ _ _ _ _ e_29
  refine z_aload_n C 0 dX6_worked_141 rfl rfl ?_
  refine z_getR C ly_m0 (Cn := RX6) (T := TX6) (N := 24) rfl in_X6 14 (by decide) q1418 (Or.inl rfl) rfl dX6_worked_142 ?_
  refine z_iconst C 0 dX6_worked_145 (by decide) ?_
  refine z_ialoadF C ly_m15 (by decide) dX6_worked_146 ?_
  obtain ⟨rfl, rfl⟩ := fin_ hf
  exact z_iret C rfl dX6_worked_147
def fX6_bay (σ : ZS) (p1 : Int32) : Option (Int32 × ZS) := if (fX6_within p1 3 8) = 0 then (bd (fX6_finding σ (-1000000001)) (fun r_12 σ_14 => some (r_12, σ_14))) else (bd (if (σ.1 1 (2 : Int32).toNatClampNeg) ≤ 0 then (bd (fX6_flat σ p1) (fun r_6 σ_8 => some (r_6, σ_8))) else (bd (fX6_finding σ (-1000000003)) (fun r_9 σ_11 => some (r_9, σ_11)))) (fun (j_2 : Int32) σ_3 => some (j_2, σ_3)))
set_option maxHeartbeats 4000000 in
set_option maxRecDepth 100000 in
theorem tX6_bay (l : Launch) (w : ZW) {σ σ' : ZS} {p1 : Int32} {r : Int32} (hf : fX6_bay σ p1 = some (r, σ')) : zC l w zLm yX6_bay (ws_ yX6_bay cX6_bay 2 (some .int)) 2 29 [.ref (w.2.2 0), .int p1] σ (.returned (some (.int r))) σ' := by
  refine zC.of (plainFor_of_name (by decide)) (Nat.le_of_ble_eq_true rfl) ?_
  intro p e s m args below meth c C hnm
  show Z p l e _ s m args below meth c _ w _ _ 2 σ 0 [(0, .ref (w.2.2 0)), (1, .int p1)] []
  unfold fX6_bay at hf
  refine z_iload_n C 1 dX6_bay_0 rfl rfl ?_
  refine z_iconst C 3 dX6_bay_1 (by decide) ?_
  refine z_bipush C 8 dX6_bay_2 (by decide) ?_
  refine z_calli C (rest := []) (av := [.int p1, .int 3, .int 8]) (zPay.of q1483 q83) (fun H ls hH h2 => zInv_S C (As := [.int p1, .int 3, .int 8]) (rest := []) q1481 q1482 q83 (Or.inl rfl) q1483 mh_X6 np_X6_within dX6_bay_4) (tX6_within l w zLm σ p1 3 8) (Nat.le_of_ble_eq_true rfl) (Nat.le_of_ble_eq_true rfl) ?_
  refine z_if_ne C 17 dX6_bay_7 (by decide) (fun c_1 => ?_) (fun c_1 => ?_)
  · replace hf := if_f c_1 hf
    refine z_aload_n C 0 dX6_bay_17 rfl rfl ?_
    refine z_getR C ly_m0 (Cn := RX6) (T := TX6) (N := 24) rfl in_X6 0 (by decide) q1404 (Or.inl rfl) rfl dX6_bay_18 ?_
    refine z_iconst C 2 dX6_bay_21 (by decide) ?_
    refine z_ialoadF C ly_m1 (by decide) dX6_bay_22 ?_
    obtain ⟨j_2, σ_3, e_4, hf⟩ := bd_ hf
    have hje_4 : Z p l e (zRm 2 29 σ) s m args below meth c (zQ below w zLm σ (.returned (some (.int r))) σ' args s) w zLm (zA w zLm σ) 2 σ_3 40 [(0, .ref (w.2.2 0)), (1, .int p1)] [.int j_2] := by
      obtain ⟨rfl, rfl⟩ := fin_ hf
      exact z_iret C rfl dX6_bay_40
    replace hf := e_4
    refine z_if_le C 35 dX6_bay_23 (by decide) (fun c_5 => ?_) (fun c_5 => ?_)
    · replace hf := if_t c_5 hf
      refine z_aload_n C 0 dX6_bay_35 rfl rfl ?_
      refine z_iload_n C 1 dX6_bay_36 rfl rfl ?_
      obtain ⟨r_6, σ_8, e_7, hf⟩ := bd_ hf
      refine z_calli C (rest := []) (av := (.ref (w.2.2 0) :: [.int p1])) (zPay.of q1392 q83) (fun H ls hH h2 => zInv_V C (As := [.int p1]) (rest := []) (ci := 6) (T := TX6) (N := 24) rfl (zSee.fix ly_m0) hH q1389 q1391 qs29 (Or.inl rfl) q1392 mh_X6 np_X6_flat dX6_bay_37) (tX6_flat l w e_7) (Nat.le_of_ble_eq_true rfl) (Nat.le_of_ble_eq_true rfl) ?_
      obtain ⟨rfl, rfl⟩ := fin_ hf
      exact hje_4
    · replace hf := if_f c_5 hf
      refine z_aload_n C 0 dX6_bay_26 rfl rfl ?_
      refine z_ldc C dX6_bay_27 q1585 ?_
      obtain ⟨r_9, σ_11, e_10, hf⟩ := bd_ hf
      refine z_calli C (rest := []) (av := (.ref (w.2.2 0) :: [.int (-1000000003)])) (zPay.of q1488 q83) (fun H ls hH h2 => zInv_V C (As := [.int (-1000000003)]) (rest := []) (ci := 6) (T := TX6) (N := 24) rfl (zSee.fix ly_m0) hH q1485 q1487 qs32 (Or.inl rfl) q1488 mh_X6 np_X6_finding dX6_bay_29) (tX6_finding l w e_10) (Nat.le_of_ble_eq_true rfl) (Nat.le_of_ble_eq_true rfl) ?_
      refine z_goto C 40 dX6_bay_32 (by decide) ?_
      obtain ⟨rfl, rfl⟩ := fin_ hf
      exact hje_4
  · replace hf := if_t c_1 hf
    refine z_aload_n C 0 dX6_bay_10 rfl rfl ?_
    refine z_ldc C dX6_bay_11 q1484 ?_
    obtain ⟨r_12, σ_14, e_13, hf⟩ := bd_ hf
    refine z_calli C (rest := []) (av := (.ref (w.2.2 0) :: [.int (-1000000001)])) (zPay.of q1488 q83) (fun H ls hH h2 => zInv_V C (As := [.int (-1000000001)]) (rest := []) (ci := 6) (T := TX6) (N := 24) rfl (zSee.fix ly_m0) hH q1485 q1487 qs32 (Or.inl rfl) q1488 mh_X6 np_X6_finding dX6_bay_13) (tX6_finding l w e_13) (Nat.le_of_ble_eq_true rfl) (Nat.le_of_ble_eq_true rfl) ?_
    obtain ⟨rfl, rfl⟩ := fin_ hf
    exact z_iret C rfl dX6_bay_16
def fX6_lay (σ : ZS) (p1 : Int32) (p2 : Int32) (p3 : Int32) : Option (Int32 × ZS) := if (fX6_isCell σ p1) = 0 then (bd (fX6_finding σ (-1000000001)) (fun r_2 σ_4 => some (r_2, σ_4))) else (if (fX6_within p2 0 2) = 0 then (bd (fX6_finding σ (-1000000001)) (fun r_6 σ_8 => some (r_6, σ_8))) else (nm (if p2 = 0 then 9 else 999) (fun (j_9 : Int32) => if (fX6_within p3 0 j_9) = 0 then (bd (fX6_finding σ (-1000000001)) (fun r_17 σ_19 => some (r_17, σ_19))) else (bd (fX6_forgetDepths σ) (fun _ σ_13 => bd (fX6_turn σ_13 (fX6_cellAt p1 p2) p3) (fun r_14 σ_16 => some (r_14, σ_16)))))))
set_option maxHeartbeats 4000000 in
set_option maxRecDepth 100000 in
theorem tX6_lay (l : Launch) (w : ZW) {σ σ' : ZS} {p1 : Int32} {p2 : Int32} {p3 : Int32} {r : Int32} (hf : fX6_lay σ p1 p2 p3 = some (r, σ')) : zC l w zLm yX6_lay (ws_ yX6_lay cX6_lay 4 (some .int)) 2 27 [.ref (w.2.2 0), .int p1, .int p2, .int p3] σ (.returned (some (.int r))) σ' := by
  refine zC.of (plainFor_of_name (by decide)) (Nat.le_of_ble_eq_true rfl) ?_
  intro p e s m args below meth c C hnm
  show Z p l e _ s m args below meth c _ w _ _ 4 σ 0 [(0, .ref (w.2.2 0)), (1, .int p1), (2, .int p2), (3, .int p3)] []
  unfold fX6_lay at hf
  refine z_aload_n C 0 dX6_lay_0 rfl rfl ?_
  refine z_iload_n C 1 dX6_lay_1 rfl rfl ?_
  refine z_calli C (rest := []) (av := (.ref (w.2.2 0) :: [.int p1])) (zPay.of q1593 q83) (fun H ls hH h2 => zInv_V C (As := [.int p1]) (rest := []) (ci := 6) (T := TX6) (N := 24) rfl (zSee.fix ly_m0) hH q1590 q1592 qs46 (Or.inl rfl) q1593 mh_X6 np_X6_isCell dX6_lay_2) (tX6_isCell l w σ p1) (Nat.le_of_ble_eq_true rfl) (Nat.le_of_ble_eq_true rfl) ?_
  refine z_if_eq C 37 dX6_lay_5 (by decide) (fun c_1 => ?_) (fun c_1 => ?_)
  · replace hf := if_t c_1 hf
    refine z_aload_n C 0 dX6_lay_37 rfl rfl ?_
    refine z_ldc C dX6_lay_38 q1484 ?_
    obtain ⟨r_2, σ_4, e_3, hf⟩ := bd_ hf
    refine z_calli C (rest := []) (av := (.ref (w.2.2 0) :: [.int (-1000000001)])) (zPay.of q1488 q83) (fun H ls hH h2 => zInv_V C (As := [.int (-1000000001)]) (rest := []) (ci := 6) (T := TX6) (N := 24) rfl (zSee.fix ly_m0) hH q1485 q1487 qs32 (Or.inl rfl) q1488 mh_X6 np_X6_finding dX6_lay_40) (tX6_finding l w e_3) (Nat.le_of_ble_eq_true rfl) (Nat.le_of_ble_eq_true rfl) ?_
    obtain ⟨rfl, rfl⟩ := fin_ hf
    exact z_iret C rfl dX6_lay_43
  · replace hf := if_f c_1 hf
    refine z_iload_n C 2 dX6_lay_8 rfl rfl ?_
    refine z_iconst C 0 dX6_lay_9 (by decide) ?_
    refine z_iconst C 2 dX6_lay_10 (by decide) ?_
    refine z_calli C (rest := []) (av := [.int p2, .int 0, .int 2]) (zPay.of q1483 q83) (fun H ls hH h2 => zInv_S C (As := [.int p2, .int 0, .int 2]) (rest := []) q1481 q1482 q83 (Or.inl rfl) q1483 mh_X6 np_X6_within dX6_lay_11) (tX6_within l w zLm σ p2 0 2) (Nat.le_of_ble_eq_true rfl) (Nat.le_of_ble_eq_true rfl) ?_
    refine z_if_eq C 37 dX6_lay_14 (by decide) (fun c_5 => ?_) (fun c_5 => ?_)
    · replace hf := if_t c_5 hf
      refine z_aload_n C 0 dX6_lay_37 rfl rfl ?_
      refine z_ldc C dX6_lay_38 q1484 ?_
      obtain ⟨r_6, σ_8, e_7, hf⟩ := bd_ hf
      refine z_calli C (rest := []) (av := (.ref (w.2.2 0) :: [.int (-1000000001)])) (zPay.of q1488 q83) (fun H ls hH h2 => zInv_V C (As := [.int (-1000000001)]) (rest := []) (ci := 6) (T := TX6) (N := 24) rfl (zSee.fix ly_m0) hH q1485 q1487 qs32 (Or.inl rfl) q1488 mh_X6 np_X6_finding dX6_lay_40) (tX6_finding l w e_7) (Nat.le_of_ble_eq_true rfl) (Nat.le_of_ble_eq_true rfl) ?_
      obtain ⟨rfl, rfl⟩ := fin_ hf
      exact z_iret C rfl dX6_lay_43
    · replace hf := if_f c_5 hf
      refine z_iload_n C 3 dX6_lay_17 rfl rfl ?_
      refine z_iconst C 0 dX6_lay_18 (by decide) ?_
      refine z_iload_n C 2 dX6_lay_19 rfl rfl ?_
      obtain ⟨j_9, ej_9, hf⟩ := nmo_ hf
      have hjj_9 : Z p l e (zRm 2 27 σ) s m args below meth c (zQ below w zLm σ (.returned (some (.int r))) σ' args s) w zLm (zA w zLm σ) 4 σ 31 [(0, .ref (w.2.2 0)), (1, .int p1), (2, .int p2), (3, .int p3)] [.int j_9, .int 0, .int p3] := by
        refine z_calli C (rest := []) (av := [.int p3, .int 0, .int j_9]) (zPay.of q1483 q83) (fun H ls hH h2 => zInv_S C (As := [.int p3, .int 0, .int j_9]) (rest := []) q1481 q1482 q83 (Or.inl rfl) q1483 mh_X6 np_X6_within dX6_lay_31) (tX6_within l w zLm σ p3 0 j_9) (Nat.le_of_ble_eq_true rfl) (Nat.le_of_ble_eq_true rfl) ?_
        refine z_if_ne C 44 dX6_lay_34 (by decide) (fun c_10 => ?_) (fun c_10 => ?_)
        · replace hf := if_f c_10 hf
          refine z_aload_n C 0 dX6_lay_44 rfl rfl ?_
          obtain ⟨⟨⟩, σ_13, e_12, hf⟩ := bd_ hf
          refine z_callv C (rest := []) (av := (.ref (w.2.2 0) :: [])) (zPay.of q1399 q83) (fun H ls hH h2 => zInv_V C (As := []) (rest := []) (ci := 6) (T := TX6) (N := 24) rfl (zSee.fix ly_m0) hH q1396 q1398 qs30 (Or.inl rfl) q1399 mh_X6 np_X6_forgetDepths dX6_lay_45) (tX6_forgetDepths l w e_12) (Nat.le_of_ble_eq_true rfl) (Nat.le_of_ble_eq_true rfl) ?_
          refine z_aload_n C 0 dX6_lay_48 rfl rfl ?_
          refine z_iload_n C 1 dX6_lay_49 rfl rfl ?_
          refine z_iload_n C 2 dX6_lay_50 rfl rfl ?_
          refine z_calli C (rest := [.ref (w.2.2 0)]) (av := [.int p1, .int p2]) (zPay.of q1395 q83) (fun H ls hH h2 => zInv_S C (As := [.int p1, .int p2]) (rest := [.ref (w.2.2 0)]) q1393 q1394 q83 (Or.inl rfl) q1395 mh_X6 np_X6_cellAt dX6_lay_51) (tX6_cellAt l w zLm σ_13 p1 p2) (Nat.le_of_ble_eq_true rfl) (Nat.le_of_ble_eq_true rfl) ?_
          refine z_iload_n C 3 dX6_lay_54 rfl rfl ?_
          obtain ⟨r_14, σ_16, e_15, hf⟩ := bd_ hf
          refine z_calli C (rest := []) (av := (.ref (w.2.2 0) :: [.int (fX6_cellAt p1 p2), .int p3])) (zPay.of q1403 q83) (fun H ls hH h2 => zInv_V C (As := [.int (fX6_cellAt p1 p2), .int p3]) (rest := []) (ci := 6) (T := TX6) (N := 24) rfl (zSee.fix ly_m0) hH q1400 q1402 qs31 (Or.inl rfl) q1403 mh_X6 np_X6_turn dX6_lay_55) (tX6_turn l w e_15) (Nat.le_of_ble_eq_true rfl) (Nat.le_of_ble_eq_true rfl) ?_
          obtain ⟨rfl, rfl⟩ := fin_ hf
          exact z_iret C rfl dX6_lay_58
        · replace hf := if_t c_10 hf
          refine z_aload_n C 0 dX6_lay_37 rfl rfl ?_
          refine z_ldc C dX6_lay_38 q1484 ?_
          obtain ⟨r_17, σ_19, e_18, hf⟩ := bd_ hf
          refine z_calli C (rest := []) (av := (.ref (w.2.2 0) :: [.int (-1000000001)])) (zPay.of q1488 q83) (fun H ls hH h2 => zInv_V C (As := [.int (-1000000001)]) (rest := []) (ci := 6) (T := TX6) (N := 24) rfl (zSee.fix ly_m0) hH q1485 q1487 qs32 (Or.inl rfl) q1488 mh_X6 np_X6_finding dX6_lay_40) (tX6_finding l w e_18) (Nat.le_of_ble_eq_true rfl) (Nat.le_of_ble_eq_true rfl) ?_
          obtain ⟨rfl, rfl⟩ := fin_ hf
          exact z_iret C rfl dX6_lay_43
      replace hf := ej_9
      refine z_if_ne C 28 dX6_lay_20 (by decide) (fun c_20 => ?_) (fun c_20 => ?_)
      · replace hf := ifp_f c_20 hf
        refine z_sipush C 999 dX6_lay_28 (by decide) ?_
        subst hf
        exact hjj_9
      · replace hf := ifp_t c_20 hf
        refine z_bipush C 9 dX6_lay_23 (by decide) ?_
        refine z_goto C 31 dX6_lay_25 (by decide) ?_
        subst hf
        exact hjj_9
def fX6_shipIs (σ : ZS) (p1 : Int32) (p2 : Int32) : Option Int32 := gd (¬ ((fX6_shipAt p1 p2) < 0 ∨ 242 ≤ (fX6_shipAt p1 p2).toNatClampNeg)) (some (σ.1 1 (fX6_shipAt p1 p2).toNatClampNeg))
set_option maxHeartbeats 4000000 in
set_option maxRecDepth 100000 in
theorem tX6_shipIs (l : Launch) (w : ZW) {σ : ZS} {p1 : Int32} {p2 : Int32} {r : Int32} (hf : fX6_shipIs σ p1 p2 = some r) : zC l w zLm yX6_shipIs (ws_ yX6_shipIs cX6_shipIs 3 (some .int)) 1 14 [.ref (w.2.2 0), .int p1, .int p2] σ (.returned (some (.int r))) σ := by
  refine zC.of (plainFor_of_name (by decide)) (Nat.le_of_ble_eq_true rfl) ?_
  intro p e s m args below meth c C hnm
  show Z p l e _ s m args below meth c _ w _ _ 3 σ 0 [(0, .ref (w.2.2 0)), (1, .int p1), (2, .int p2)] []
  unfold fX6_shipIs at hf
  refine z_aload_n C 0 dX6_shipIs_0 rfl rfl ?_
  refine z_getR C ly_m0 (Cn := RX6) (T := TX6) (N := 24) rfl in_X6 0 (by decide) q1404 (Or.inl rfl) rfl dX6_shipIs_1 ?_
  refine z_iload_n C 1 dX6_shipIs_4 rfl rfl ?_
  refine z_iload_n C 2 dX6_shipIs_5 rfl rfl ?_
  refine z_calli C (rest := [.ref (w.2.2 1)]) (av := [.int p1, .int p2]) (zPay.of q1631 q83) (fun H ls hH h2 => zInv_S C (As := [.int p1, .int p2]) (rest := [.ref (w.2.2 1)]) q1629 q1630 q83 (Or.inl rfl) q1631 mh_X6 np_X6_shipAt dX6_shipIs_6) (tX6_shipAt l w zLm σ p1 p2) (Nat.le_of_ble_eq_true rfl) (Nat.le_of_ble_eq_true rfl) ?_
  obtain ⟨g_1, hf⟩ := gd_ hf
  refine z_ialoadF C ly_m1 g_1 dX6_shipIs_9 ?_
  obtain rfl := fino_ hf
  exact z_iret C rfl dX6_shipIs_10
