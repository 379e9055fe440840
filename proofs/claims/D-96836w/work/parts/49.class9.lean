/-! the class, walked (written by gen/main_x.py) -/
def fX16_read (w : ZW) (σ : ZS) (a : Nat) (i : Nat) (bn : List Int32) : Option ((Nat ⊕ Nat) × ZS) := bo (oRd w i (σ.2.2.1 a)) (fun rd1 => bd (fX16_P w a i bn  50 0 σ) (fun r_6 σ_8 => sc r_6 (fun (r_9 : Nat) => bo (oRd w i (σ_8.2.2.1 a)) (fun rd11 => nm (if (rd11.2.1) = (rd11.1) then 1 else 0) (fun (j_16 : Int32) => bd (fX16_fault w σ_8 a i bn j_16) (fun r_17 σ_19 => sc r_17 (fun _ => some (.inl r_9, σ_19)) (fun (t_21 : Nat) => some (.inr t_21, σ_19)))))) (fun (t_10 : Nat) => some (.inr t_10, σ_8))))
set_option maxHeartbeats 4000000 in
set_option maxRecDepth 100000 in
theorem tX16_read (l : Launch) (w : ZW) {σ σ' : ZS} {a : Nat} {i : Nat} {bn : List Int32} (hbn : zsB[i]? = some bn) {r : Nat ⊕ Nat} (hf : fX16_read w σ a i bn = some (r, σ')) : zC l w zLx yX16_read (ws_ yX16_read cX16_read 2 (some (.object "OldLight$Term"))) 1201 15013 [.ref a] σ (ocA2 r) σ' := by
  refine zC.of (plainFor_of_name (by decide)) (Nat.le_of_ble_eq_true rfl) ?_
  intro p e s m args below meth c C hnm
  show Z p l e _ s m args below meth c _ w _ _ 2 σ 0 [(0, .ref a)] []
  unfold fX16_read at hf
  refine z_aload_n C 0 dX16_read_0 rfl rfl ?_
  obtain ⟨⟨rs_1, rt_2, ro_3⟩, e_4, hf⟩ := bo_ hf
  try dsimp only at hf
  have hP_5 := oRd_ e_4
  obtain ⟨r_6, σ_8, e_7, hf⟩ := bd_ hf
  rcases r_6 with r_9 | t_10
  · dsimp only [sc] at hf
    refine z_callr C (rest := []) (av := (.ref a :: [])) (zPay.of q710 q94) (fun H ls hH h2 => zInv_V C (As := []) (rest := []) (ci := 15) (T := TX16) (N := 5) rfl (zSee.pool hP_5) hH q707 q709 qs11 (Or.inl rfl) q710 mh_X16 np_X16_either dX16_read_1) ((tX16_P l w hbn 50).1 _ _ _ e_7) (Nat.le_of_ble_eq_true rfl) (Nat.le_of_ble_eq_true rfl) ?_
    refine z_astore_n C dX16_read_4 rfl (by decide) rfl (lv' := [(1, .ref r_9), (0, .ref a)]) ?_
    refine z_aload_n C 1 dX16_read_5 rfl rfl ?_
    refine z_aload_n C 1 dX16_read_6 rfl rfl ?_
    obtain ⟨⟨rs_11, rt_12, ro_13⟩, e_14, hf⟩ := bo_ hf
    try dsimp only at hf
    have hP_15 := oRd_ e_14
    refine z_get C (ci := 15) (Cn := RX16) (T := TX16) (N := 5) (fs := [.ref (zsK w i), .ref (w.2.2 (100 + 16)), .int rs_11, .int rt_12, .int ro_13]) (v := .int rt_12) rfl in_X16 (zSee.pool hP_15) 3 (by decide) q690 (Or.inl rfl) rfl dX16_read_7 ?_
    refine z_aload_n C 1 dX16_read_10 rfl rfl ?_
    refine z_get C (ci := 15) (Cn := RX16) (T := TX16) (N := 5) (fs := [.ref (zsK w i), .ref (w.2.2 (100 + 16)), .int rs_11, .int rt_12, .int ro_13]) (v := .int rs_11) rfl in_X16 (zSee.pool hP_15) 2 (by decide) q689 (Or.inl rfl) rfl dX16_read_11 ?_
    obtain ⟨j_16, ej_16, hf⟩ := nmo_ hf
    have hj_16 : j_16 = 0 ∨ j_16 = 1 := by rw [ej_16]; (try dsimp only [nm]); (repeat' split) <;> first | exact Or.inl rfl | exact Or.inr rfl
    have hjj_16 : Z p l e (zRm 1201 15013 σ) s m args below meth c (zQ below w zLx σ (ocA2 r) σ' args s) w zLx (zA w zLx σ) 2 σ_8 22 [(0, .ref a), (1, .ref r_9)] [.int j_16, .ref a] := by
      obtain ⟨r_17, σ_19, e_18, hf⟩ := bd_ hf
      rcases r_17 with ⟨⟩ | t_21
      · dsimp only [sc] at hf
        refine z_callv C (rest := []) (av := (.ref a :: [.int j_16])) (zPay.of q842 q94) (fun H ls hH h2 => zInv_V C (As := [.int j_16]) (rest := []) (ci := 15) (T := TX16) (N := 5) rfl (zSee.pool hP_15) hH q839 q841 qs20 (Or.inl rfl) q842 mh_X16 np_X16_fault dX16_read_22) (tX16_fault l w hbn e_18) (Nat.le_of_ble_eq_true rfl) (Nat.le_of_ble_eq_true rfl) ?_
        refine z_aload_n C 1 dX16_read_25 rfl rfl ?_
        obtain ⟨rfl, rfl⟩ := fin_ hf
        exact z_aret C (Or.inl ⟨_, rfl⟩) (Or.inr ⟨_, rfl⟩) dX16_read_26
      · dsimp only [sc] at hf
        refine z_callt C (rest := []) (av := (.ref a :: [.int j_16])) (zPay.of q842 q94) (fun H ls hH h2 => zInv_V C (As := [.int j_16]) (rest := []) (ci := 15) (T := TX16) (N := 5) rfl (zSee.pool hP_15) hH q839 q841 qs20 (Or.inl rfl) q842 mh_X16 np_X16_fault dX16_read_22) (tX16_fault l w hbn e_18) (Nat.le_of_ble_eq_true rfl) (Nat.le_of_ble_eq_true rfl) ?_
        obtain ⟨rfl, rfl⟩ := fin_ hf
        exact z_tout C (by decide)
    replace hf := ej_16
    refine z_icmp_ne C 21 dX16_read_14 (by decide) (fun c_22 => ?_) (fun c_22 => ?_)
    · replace hf := ifp_f c_22 hf
      refine z_iconst C 0 dX16_read_21 (by decide) ?_
      subst hf
      exact z_lv [1, 0] rfl hjj_16
    · replace hf := ifp_t c_22 hf
      refine z_iconst C 1 dX16_read_17 (by decide) ?_
      refine z_goto C 22 dX16_read_18 (by decide) ?_
      subst hf
      exact z_lv [1, 0] rfl hjj_16
  · dsimp only [sc] at hf
    refine z_callt C (rest := []) (av := (.ref a :: [])) (zPay.of q710 q94) (fun H ls hH h2 => zInv_V C (As := []) (rest := []) (ci := 15) (T := TX16) (N := 5) rfl (zSee.pool hP_5) hH q707 q709 qs11 (Or.inl rfl) q710 mh_X16 np_X16_either dX16_read_1) ((tX16_P l w hbn 50).1 _ _ _ e_7) (Nat.le_of_ble_eq_true rfl) (Nat.le_of_ble_eq_true rfl) ?_
    obtain ⟨rfl, rfl⟩ := fin_ hf
    exact z_tout C (by decide)
def fX0_text (w : ZW) (σ : ZS) (p1 : Int32) : Option (Int32 × ZS) := bd (fX0_need σ (fX0_in p1 0 1) 1) (fun r_1 σ_3 => sc r_1 (fun _ => nm (σ_3.1 100 16) (fun (x2_6 : Int32) => gd (1 ≤ (sI σ_3 100 16 0).2.2.2.2.1) (gd (5 ≤ (sI σ_3 100 16 0).2.2.2.2.2) (nm ((sI σ_3 100 16 0).2.2.2.1) (fun (a_10 : Nat) => nm (sN (sI σ_3 100 16 0) (.inr (15, [.null, .null, .int 0, .int 0, .int 0])) 5) (fun (σ_9 : ZS) => if p1 = 0 then (bd (fX16_init w σ_9 a_10 0 x2_6) (fun _ σ_37 => bo (oRd w 0 (σ_37.2.2.1 a_10)) (fun rd38 => bd (fX16_read w σ_37 a_10 0 [99, 121, 98] ) (fun r_43 σ_45 => sc r_43 (fun (r_46 : Nat) => bo (oTm (σ_45.2.2.1 r_46)) (fun tm48 => gd (¬ (p1 < 0 ∨ 2 ≤ p1.toNatClampNeg)) (some (1, sG σ_45 (100 + 14) (p1.toNatClampNeg) (some r_46))))) (fun (t_47 : Nat) => bo (oFt (σ_45.2.2.1 t_47)) (fun (v_54 : Int32) => some ((-10) - v_54, σ_45))))))) else (bd (fX16_init w σ_9 a_10 1 x2_6) (fun _ σ_15 => bo (oRd w 1 (σ_15.2.2.1 a_10)) (fun rd16 => bd (fX16_read w σ_15 a_10 1 [100, 109, 104] ) (fun r_21 σ_23 => sc r_21 (fun (r_24 : Nat) => bo (oTm (σ_23.2.2.1 r_24)) (fun tm26 => gd (¬ (p1 < 0 ∨ 2 ≤ p1.toNatClampNeg)) (some (1, sG σ_23 (100 + 14) (p1.toNatClampNeg) (some r_24))))) (fun (t_25 : Nat) => bo (oFt (σ_23.2.2.1 t_25)) (fun (v_32 : Int32) => some ((-10) - v_32, σ_23))))))))))))) (fun _ => bd (fX0_finds σ_3) (fun r_57 σ_59 => some (r_57, σ_59))))
set_option maxHeartbeats 4000000 in
set_option maxRecDepth 100000 in
theorem tX0_text (l : Launch) (w : ZW) {σ σ' : ZS} {p1 : Int32} {r : Int32} (hf : fX0_text w σ p1 = some (r, σ')) : zC l w zLx yX0_text (wsW_ yX0_text cX0_text 3 (some .int) [(0, 66, 67, 215), (0, 66, 76, 8)]) 1202 15028 [.ref (w.2.2 0), .int p1] σ (.returned (some (.int r))) σ' := by
  refine zC.ofW (plainFor_of_name (by decide)) (Nat.le_of_ble_eq_true rfl) ?_
  intro p e s m args below meth c C hnm
  show Z p l e _ s m args below meth c _ w _ _ 3 σ 0 [(0, .ref (w.2.2 0)), (1, .int p1)] []
  unfold fX0_text at hf
  refine z_aload_n C 0 dX0_text_0 rfl rfl ?_
  refine z_iload_n C 1 dX0_text_1 rfl rfl ?_
  refine z_iconst C 0 dX0_text_2 (by decide) ?_
  refine z_iconst C 1 dX0_text_3 (by decide) ?_
  refine z_calli C (rest := [.ref (w.2.2 0)]) (av := [.int p1, .int 0, .int 1]) (zPay.of q350 q74) (fun H ls hH h2 => zInv_S C (As := [.int p1, .int 0, .int 1]) (rest := [.ref (w.2.2 0)]) q348 q349 q74 (Or.inl rfl) q350 mh_X0 np_X0_in dX0_text_4) (tX0_in l w zLx σ p1 0 1) (Nat.le_of_ble_eq_true rfl) (Nat.le_of_ble_eq_true rfl) ?_
  refine z_iconst C 1 dX0_text_7 (by decide) ?_
  obtain ⟨r_1, σ_3, e_2, hf⟩ := bd_ hf
  rcases r_1 with ⟨⟩ | ⟨⟩
  · dsimp only [sc] at hf
    refine z_callv C (rest := []) (av := (.ref (w.2.2 0) :: [.int (fX0_in p1 0 1), .int 1])) (zPay.of q354 q74) (fun H ls hH h2 => zInv_V C (As := [.int (fX0_in p1 0 1), .int 1]) (rest := []) (ci := 0) (T := TX0) (N := 8) rfl (zSee.fix ly_x0) hH q351 q353 qs1 (Or.inl rfl) q354 mh_X0 np_X0_need dX0_text_8) (tX0_need l w e_2) (Nat.le_of_ble_eq_true rfl) (Nat.le_of_ble_eq_true rfl) ?_
    refine z_aload_n C 0 dX0_text_11 rfl rfl ?_
    refine z_getR C ly_x0 (Cn := RX0) (T := TX0) (N := 8) rfl in_X0 1 (by decide) q320 (Or.inl rfl) rfl dX0_text_12 ?_
    refine z_getIN C (ly_b0 zb100) (Cn := RX2) (T := TX2) (N := 20) rfl in_X2 16 (by decide) q246 (Or.inl rfl) rfl dX0_text_15 ?_
    obtain ⟨x2_6, ex2_6, hf⟩ := nmo_ hf
    refine z_top ex2_6 ?_
    refine z_istore_n C dX0_text_18 rfl (by decide) rfl (lv' := [(2, .int x2_6), (0, .ref (w.2.2 0)), (1, .int p1)]) ?_
    refine z_aload_n C 1 dX0_text_19 rfl rfl ?_
    refine z_getR C ly_x0 (Cn := RX0) (T := TX0) (N := 8) rfl in_X0 1 (by decide) q320 (Or.inl rfl) rfl dX0_text_20 ?_
    refine z_iconst C 0 dX0_text_23 (by decide) ?_
    refine z_putI C (ly_b0 zb100) (k := 16) rfl (zPutN C (Cn := RX2) (T := TX2) (N := 20) rfl in_X2 tyX2 tyX2_ok nmX2 16 (by decide) q246 (Or.inl rfl) rfl rfl rfl (zFs_lt (Nat.le_of_ble_eq_true rfl)) dX0_text_24) ?_
    refine z_aload_n C 1 dX0_text_27 rfl rfl ?_
    refine z_getR C ly_x0 (Cn := RX0) (T := TX0) (N := 8) rfl in_X0 1 (by decide) q320 (Or.inl rfl) rfl dX0_text_28 ?_
    refine z_getRN C (ly_b0 zb100) (Cn := RX2) (T := TX2) (N := 20) rfl in_X2 13 (by decide) q240 (Or.inl rfl) rfl dX0_text_31 ?_
    refine z_iload_n C 2 dX0_text_34 rfl rfl ?_
    obtain ⟨g_7, hf⟩ := gd_ hf
    obtain ⟨g_8, hf⟩ := gd_ hf
    refine z_new C (ci := 15) (Cn := RX16) (T := TX16) (N := 5) rfl in_X16 tyX16 tyX16_ok q679 q680 q94 [.null, .null, .int 0, .int 0, .int 0] (fun j hj => by rcases (show j = 0 ∨ j = 1 ∨ j = 2 ∨ j = 3 ∨ j = 4 by omega) with rfl | rfl | rfl | rfl | rfl <;> rfl) g_7 g_8 dX0_text_35 ?_
    obtain ⟨a_10, ea_10, hf⟩ := nmo_ hf
    refine z_eq (congrArg Value.ref ea_10.symm) ?_
    obtain ⟨σ_9, eσ_9, hf⟩ := nmo_ hf
    refine z_w eσ_9.symm ?_
    refine z_dup C dX0_text_38 rfl ?_
    refine z_iload_n C 2 dX0_text_39 rfl rfl ?_
    refine z_if_ne C 48 dX0_text_40 (by decide) (fun c_12 => ?_) (fun c_12 => ?_)
    · replace hf := if_f c_12 hf
      refine z_ldcS C (i := 1) rfl dX0_text_48 ?_
      refine z_aload_n C 1 dX0_text_50 rfl rfl ?_
      refine z_getR C ly_x0 (Cn := RX0) (T := TX0) (N := 8) rfl in_X0 1 (by decide) q320 (Or.inl rfl) rfl dX0_text_51 ?_
      refine z_getRN C (ly_b0 zb100) (Cn := RX2) (T := TX2) (N := 20) rfl in_X2 15 (by decide) q244 (Or.inl rfl) rfl dX0_text_54 ?_
      refine z_iload_n C 0 dX0_text_57 rfl rfl ?_
      obtain ⟨⟨⟩, σ_15, e_14, hf⟩ := bd_ hf
      refine z_callv C (rest := [.ref a_10, .int p1, .ref (w.2.2 (100 + 14))]) (av := (.ref a_10 :: [.ref (zsK w 1), .ref (w.2.2 (100 + 16)), .int x2_6])) (zPay.of q685 q94) (fun H ls hH h2 => zInv_I C (As := [.ref (zsK w 1), .ref (w.2.2 (100 + 16)), .int x2_6]) (rest := [.ref a_10, .int p1, .ref (w.2.2 (100 + 14))]) q683 q684 q685 rfl mh_X16 np_X16_init dX0_text_58) (tX16_init l w e_14) (Nat.le_of_ble_eq_true rfl) (Nat.le_of_ble_eq_true rfl) ?_
      obtain ⟨⟨rs_16, rt_17, ro_18⟩, e_19, hf⟩ := bo_ hf
      try dsimp only at hf
      have hP_20 := oRd_ e_19
      obtain ⟨r_21, σ_23, e_22, hf⟩ := bd_ hf
      rcases r_21 with r_24 | t_25
      · dsimp only [sc] at hf
        refine z_callr C (rest := [.int p1, .ref (w.2.2 (100 + 14))]) (av := (.ref a_10 :: [])) (zPay.of q706 q94) (fun H ls hH h2 => zInv_V C (As := []) (rest := [.int p1, .ref (w.2.2 (100 + 14))]) (ci := 15) (T := TX16) (N := 5) rfl (zSee.pool hP_20) hH q703 q704 q705 (Or.inl rfl) q706 mh_X16 np_X16_read dX0_text_61) (tX16_read l w (show zsB[1]? = some [100, 109, 104] from rfl) e_22) (Nat.le_of_ble_eq_true rfl) (Nat.le_of_ble_eq_true rfl) ?_
        obtain ⟨⟨ci_26, vs_27⟩, e_28, hf⟩ := bo_ hf
        try dsimp only at hf
        obtain ⟨hP_29, hc_30⟩ := oTm_ e_28
        obtain ⟨g_31, hf⟩ := gd_ hf
        refine z_aastoreT C hc_30 hP_29 (ly_b14 zb100) g_31 dX0_text_64 ?_
        refine z_iconst C 1 dX0_text_65 (by decide) ?_
        obtain ⟨rfl, rfl⟩ := fin_ hf
        exact z_iret C rfl dX0_text_66
      · dsimp only [sc] at hf
        refine z_callt C (rest := [.int p1, .ref (w.2.2 (100 + 14))]) (av := (.ref a_10 :: [])) (zPay.of q706 q94) (fun H ls hH h2 => zInv_V C (As := []) (rest := [.int p1, .ref (w.2.2 (100 + 14))]) (ci := 15) (T := TX16) (N := 5) rfl (zSee.pool hP_20) hH q703 q704 q705 (Or.inl rfl) q706 mh_X16 np_X16_read dX0_text_61) (tX16_read l w (show zsB[1]? = some [100, 109, 104] from rfl) e_22) (Nat.le_of_ble_eq_true rfl) (Nat.le_of_ble_eq_true rfl) ?_
        obtain ⟨v_32, e_33, hf⟩ := bo_ hf
        obtain ⟨c0w32, c1w32, c2w32, c3w32, c4w32, c5w32, hP_34⟩ := oFt_ e_33
        refine z_catch C [] 0 66 67 215 [(0, 66, 76, 8)] rfl (by decide) (by decide) (by decide) (ci := 17) (Cn := RX18) (T0 := TX18) (N := 7) rfl (zSee.pool hP_34) q678 ?_
        refine z_astore_n C dX0_text_67 rfl (by decide) rfl (lv' := [(2, .ref t_25), (0, .ref (w.2.2 0)), (1, .int p1)]) ?_
        refine z_bipush C (-10) dX0_text_68 (by decide) ?_
        refine z_aload_n C 0 dX0_text_70 rfl rfl ?_
        refine z_getN C (ci := 17) (Cn := RX18) (T := TX18) (N := 7) (fs := [c0w32, c1w32, c2w32, c3w32, c4w32, c5w32, .int v_32]) (v := .int v_32) rfl in_X18 (zSee.pool hP_34) 6 (by decide) q857 (Or.inl rfl) rfl dX0_text_71 ?_
        refine z_isub C dX0_text_74 ?_
        obtain ⟨rfl, rfl⟩ := fin_ hf
        exact z_iret C rfl dX0_text_75
    · replace hf := if_t c_12 hf
      refine z_ldcS C (i := 0) rfl dX0_text_43 ?_
      refine z_goto C 50 dX0_text_45 (by decide) ?_
      refine z_aload_n C 1 dX0_text_50 rfl rfl ?_
      refine z_getR C ly_x0 (Cn := RX0) (T := TX0) (N := 8) rfl in_X0 1 (by decide) q320 (Or.inl rfl) rfl dX0_text_51 ?_
      refine z_getRN C (ly_b0 zb100) (Cn := RX2) (T := TX2) (N := 20) rfl in_X2 15 (by decide) q244 (Or.inl rfl) rfl dX0_text_54 ?_
      refine z_iload_n C 0 dX0_text_57 rfl rfl ?_
      obtain ⟨⟨⟩, σ_37, e_36, hf⟩ := bd_ hf
      refine z_callv C (rest := [.ref a_10, .int p1, .ref (w.2.2 (100 + 14))]) (av := (.ref a_10 :: [.ref (zsK w 0), .ref (w.2.2 (100 + 16)), .int x2_6])) (zPay.of q685 q94) (fun H ls hH h2 => zInv_I C (As := [.ref (zsK w 0), .ref (w.2.2 (100 + 16)), .int x2_6]) (rest := [.ref a_10, .int p1, .ref (w.2.2 (100 + 14))]) q683 q684 q685 rfl mh_X16 np_X16_init dX0_text_58) (tX16_init l w e_36) (Nat.le_of_ble_eq_true rfl) (Nat.le_of_ble_eq_true rfl) ?_
      obtain ⟨⟨rs_38, rt_39, ro_40⟩, e_41, hf⟩ := bo_ hf
      try dsimp only at hf
      have hP_42 := oRd_ e_41
      obtain ⟨r_43, σ_45, e_44, hf⟩ := bd_ hf
      rcases r_43 with r_46 | t_47
      · dsimp only [sc] at hf
        refine z_callr C (rest := [.int p1, .ref (w.2.2 (100 + 14))]) (av := (.ref a_10 :: [])) (zPay.of q706 q94) (fun H ls hH h2 => zInv_V C (As := []) (rest := [.int p1, .ref (w.2.2 (100 + 14))]) (ci := 15) (T := TX16) (N := 5) rfl (zSee.pool hP_42) hH q703 q704 q705 (Or.inl rfl) q706 mh_X16 np_X16_read dX0_text_61) (tX16_read l w (show zsB[0]? = some [99, 121, 98] from rfl) e_44) (Nat.le_of_ble_eq_true rfl) (Nat.le_of_ble_eq_true rfl) ?_
        obtain ⟨⟨ci_48, vs_49⟩, e_50, hf⟩ := bo_ hf
        try dsimp only at hf
        obtain ⟨hP_51, hc_52⟩ := oTm_ e_50
        obtain ⟨g_53, hf⟩ := gd_ hf
        refine z_aastoreT C hc_52 hP_51 (ly_b14 zb100) g_53 dX0_text_64 ?_
        refine z_iconst C 1 dX0_text_65 (by decide) ?_
        obtain ⟨rfl, rfl⟩ := fin_ hf
        exact z_iret C rfl dX0_text_66
      · dsimp only [sc] at hf
        refine z_callt C (rest := [.int p1, .ref (w.2.2 (100 + 14))]) (av := (.ref a_10 :: [])) (zPay.of q706 q94) (fun H ls hH h2 => zInv_V C (As := []) (rest := [.int p1, .ref (w.2.2 (100 + 14))]) (ci := 15) (T := TX16) (N := 5) rfl (zSee.pool hP_42) hH q703 q704 q705 (Or.inl rfl) q706 mh_X16 np_X16_read dX0_text_61) (tX16_read l w (show zsB[0]? = some [99, 121, 98] from rfl) e_44) (Nat.le_of_ble_eq_true rfl) (Nat.le_of_ble_eq_true rfl) ?_
        obtain ⟨v_54, e_55, hf⟩ := bo_ hf
        obtain ⟨c0w54, c1w54, c2w54, c3w54, c4w54, c5w54, hP_56⟩ := oFt_ e_55
        refine z_catch C [] 0 66 67 215 [(0, 66, 76, 8)] rfl (by decide) (by decide) (by decide) (ci := 17) (Cn := RX18) (T0 := TX18) (N := 7) rfl (zSee.pool hP_56) q678 ?_
        refine z_astore_n C dX0_text_67 rfl (by decide) rfl (lv' := [(2, .ref t_47), (0, .ref (w.2.2 0)), (1, .int p1)]) ?_
        refine z_bipush C (-10) dX0_text_68 (by decide) ?_
        refine z_aload_n C 0 dX0_text_70 rfl rfl ?_
        refine z_getN C (ci := 17) (Cn := RX18) (T := TX18) (N := 7) (fs := [c0w54, c1w54, c2w54, c3w54, c4w54, c5w54, .int v_54]) (v := .int v_54) rfl in_X18 (zSee.pool hP_56) 6 (by decide) q857 (Or.inl rfl) rfl dX0_text_71 ?_
        refine z_isub C dX0_text_74 ?_
        obtain ⟨rfl, rfl⟩ := fin_ hf
        exact z_iret C rfl dX0_text_75
  · dsimp only [sc] at hf
    refine z_callt C (rest := []) (av := (.ref (w.2.2 0) :: [.int (fX0_in p1 0 1), .int 1])) (zPay.of q354 q74) (fun H ls hH h2 => zInv_V C (As := [.int (fX0_in p1 0 1), .int 1]) (rest := []) (ci := 0) (T := TX0) (N := 8) rfl (zSee.fix ly_x0) hH q351 q353 qs1 (Or.inl rfl) q354 mh_X0 np_X0_need dX0_text_8) (tX0_need l w e_2) (Nat.le_of_ble_eq_true rfl) (Nat.le_of_ble_eq_true rfl) ?_
    refine z_catch2 C 0 66 67 215 0 66 76 8 [] rfl (by decide) (by decide) (by decide) (by decide) (ci := 1) (Cn := RX1) (T0 := TX1) (N := 7) rfl (zSee.fix ly_x1) (ci1 := 17) (Cn1 := RX18) (T1 := TX18) (N1 := 7) rfl C.2.2.2.2.2.1.2.2.2.2.2 q678 q118 ?_
    refine z_astore_n C dX0_text_76 rfl (by decide) rfl (lv' := [(2, .ref (w.2.2 1)), (0, .ref (w.2.2 0)), (1, .int p1)]) ?_
    refine z_aload_n C 1 dX0_text_77 rfl rfl ?_
    refine z_aload_n C 0 dX0_text_78 rfl rfl ?_
    obtain ⟨r_57, σ_59, e_58, hf⟩ := bd_ hf
    refine z_calli C (rest := []) (av := (.ref (w.2.2 0) :: [.ref (w.2.2 1)])) (zPay.of q362 q74) (fun H ls hH h2 => zInv_V C (As := [.ref (w.2.2 1)]) (rest := []) (ci := 0) (T := TX0) (N := 8) rfl (zSee.fix ly_x0) hH q359 q361 qs2 (Or.inl rfl) q362 mh_X0 np_X0_finds dX0_text_79) (tX0_finds l w e_58) (Nat.le_of_ble_eq_true rfl) (Nat.le_of_ble_eq_true rfl) ?_
    obtain ⟨rfl, rfl⟩ := fin_ hf
    exact z_iret C rfl dX0_text_82
