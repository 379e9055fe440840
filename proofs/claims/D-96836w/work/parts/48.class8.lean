/-! the class, walked (written by gen/main_x.py) -/
def fX0_draws_L35 (w : ZW) (y1 : Int32) : Nat → Int32 → ZS → Option ((Int32) × ZS)
  | 0, _, _ => none
  | n + 1, y2, σ => if y2 < 0 then (some (y2, σ)) else (bd (fX0_isInWith w σ y1 y2) (fun r_14 σ_16 => if r_14 = 0 then (nm (y2 + (-1)) (fun (x2_18 : Int32) => fX0_draws_L35 w y1 n x2_18 σ_16)) else (some (y2, σ_16))))
def fX0_draws (w : ZW) (σ : ZS) (p1 : Int32) : Option (Int32 × ZS) := bd (fX0_need σ (fX0_isShip σ p1) 1) (fun r_1 σ_3 => sc r_1 (fun _ => gd (¬ (p1 < 0 ∨ 7 ≤ p1.toNatClampNeg)) (nm (if (σ_3.1 (100 + 13) p1.toNatClampNeg) = 0 then 1 else 0) (fun (j_7 : Int32) => bd (fX0_need σ_3 j_7 3) (fun r_8 σ_10 => sc r_8 (fun _ => bd (fX0_draws_L35 w p1 10000 9 σ_10) (fun x2_19 σ_20 => nm (if x2_19 < 0 then 0 else 1) (fun (j_22 : Int32) => bd (fX0_need σ_20 j_22 2) (fun r_23 σ_25 => sc r_23 (fun _ => some (x2_19, σ_25)) (fun _ => bd (fX0_finds σ_25) (fun r_28 σ_30 => some (r_28, σ_30))))))) (fun _ => bd (fX0_finds σ_10) (fun r_32 σ_34 => some (r_32, σ_34))))))) (fun _ => bd (fX0_finds σ_3) (fun r_36 σ_38 => some (r_36, σ_38))))
set_option maxHeartbeats 4000000 in
set_option maxRecDepth 100000 in
theorem lfX0_draws_L35 {p : Program} {l : Launch} {e : Env} {R : Room} {s : State} {m : MethodId} {args : Array Value} {below : List Frame} {meth : Method} {c : Code} {Q : State → Prop} {w : ZW} {A : Nat → Prop} {ret : Option FieldType} {hh : List (Nat × Nat × Nat × Nat)} (C : zCx p s m args meth c w zLx A 3 cX0_draws RX0 ret hh) (hfr : 732 ≤ R.frames) (hlo : 6169 ≤ R.locals) (y1 : Int32) {z2 : Int32} {σ' : ZS} (hk : Z p l e R s m args below meth c Q w zLx A 3 σ' 54 [(0, .ref (w.2.2 0)), (1, .int y1), (2, .int z2)] []) : ∀ (n : Nat) (y2 : Int32) (σ : ZS), fX0_draws_L35 w y1 n y2 σ = some (z2, σ') → Z p l e R s m args below meth c Q w zLx A 3 σ 35 [(0, .ref (w.2.2 0)), (1, .int y1), (2, .int y2)] [] := by
  intro n
  induction n with
  | zero => intro y2 σ hf; exact none_ hf
  | succ n ih =>
    intro y2 σ hf
    rw [fX0_draws_L35] at hf
    refine z_iload_n C 2 dX0_draws_35 rfl rfl ?_
    refine z_if_lt C 54 dX0_draws_36 (by decide) (fun c_13 => ?_) (fun c_13 => ?_)
    · replace hf := if_t c_13 hf
      obtain ⟨rfl, rfl⟩ := fin_ hf
      exact hk
    · replace hf := if_f c_13 hf
      refine z_aload_n C 0 dX0_draws_39 rfl rfl ?_
      refine z_iload_n C 1 dX0_draws_40 rfl rfl ?_
      refine z_iload_n C 2 dX0_draws_41 rfl rfl ?_
      obtain ⟨r_14, σ_16, e_15, hf⟩ := bd_ hf
      refine z_calli C (rest := []) (av := (.ref (w.2.2 0) :: [.int y1, .int y2])) (zPay.of q1071 q74) (fun H ls hH h2 => zInv_V C (As := [.int y1, .int y2]) (rest := []) (ci := 0) (T := TX0) (N := 8) rfl (zSee.fix ly_x0) hH q1068 q1070 qs28 (Or.inl rfl) q1071 mh_X0 np_X0_isInWith dX0_draws_42) (tX0_isInWith l w e_15) (Nat.le_trans (Nat.le_of_ble_eq_true rfl) hfr) (Nat.le_trans (Nat.le_of_ble_eq_true rfl) hlo) ?_
      refine z_if_ne C 54 dX0_draws_45 (by decide) (fun c_17 => ?_) (fun c_17 => ?_)
      · replace hf := if_f c_17 hf
        obtain ⟨rfl, rfl⟩ := fin_ hf
        exact hk
      · replace hf := if_t c_17 hf
        obtain ⟨x2_18, ex2_18, hf⟩ := nmo_ hf
        refine z_iinc C x2_18 2 dX0_draws_48 rfl (by rw [ex2_18]; rfl) (by decide) rfl (lv' := [(2, .int x2_18), (0, .ref (w.2.2 0)), (1, .int y1)]) ?_
        refine z_goto C 35 dX0_draws_51 (by decide) ?_
        exact z_lv [1, 2, 0] rfl (ih _ _ hf)
set_option maxHeartbeats 4000000 in
set_option maxRecDepth 100000 in
theorem tX0_draws (l : Launch) (w : ZW) {σ σ' : ZS} {p1 : Int32} {r : Int32} (hf : fX0_draws w σ p1 = some (r, σ')) : zC l w zLx yX0_draws (wsW_ yX0_draws cX0_draws 3 (some .int) [(0, 69, 70, 8)]) 732 6169 [.ref (w.2.2 0), .int p1] σ (.returned (some (.int r))) σ' := by
  refine zC.ofW (plainFor_of_name (by decide)) (Nat.le_of_ble_eq_true rfl) ?_
  intro p e s m args below meth c C hnm
  show Z p l e _ s m args below meth c _ w _ _ 3 σ 0 [(0, .ref (w.2.2 0)), (1, .int p1)] []
  unfold fX0_draws at hf
  refine z_aload_n C 0 dX0_draws_0 rfl rfl ?_
  refine z_aload_n C 0 dX0_draws_1 rfl rfl ?_
  refine z_iload_n C 1 dX0_draws_2 rfl rfl ?_
  refine z_calli C (rest := [.ref (w.2.2 0)]) (av := (.ref (w.2.2 0) :: [.int p1])) (zPay.of q561 q74) (fun H ls hH h2 => zInv_V C (As := [.int p1]) (rest := [.ref (w.2.2 0)]) (ci := 0) (T := TX0) (N := 8) rfl (zSee.fix ly_x0) hH q558 q560 qs8 (Or.inl rfl) q561 mh_X0 np_X0_isShip dX0_draws_3) (tX0_isShip l w σ p1) (Nat.le_of_ble_eq_true rfl) (Nat.le_of_ble_eq_true rfl) ?_
  refine z_iconst C 1 dX0_draws_6 (by decide) ?_
  obtain ⟨r_1, σ_3, e_2, hf⟩ := bd_ hf
  rcases r_1 with ⟨⟩ | ⟨⟩
  · dsimp only [sc] at hf
    refine z_callv C (rest := []) (av := (.ref (w.2.2 0) :: [.int (fX0_isShip σ p1), .int 1])) (zPay.of q354 q74) (fun H ls hH h2 => zInv_V C (As := [.int (fX0_isShip σ p1), .int 1]) (rest := []) (ci := 0) (T := TX0) (N := 8) rfl (zSee.fix ly_x0) hH q351 q353 qs1 (Or.inl rfl) q354 mh_X0 np_X0_need dX0_draws_7) (tX0_need l w e_2) (Nat.le_of_ble_eq_true rfl) (Nat.le_of_ble_eq_true rfl) ?_
    refine z_aload_n C 0 dX0_draws_10 rfl rfl ?_
    refine z_aload_n C 0 dX0_draws_11 rfl rfl ?_
    refine z_getR C ly_x0 (Cn := RX0) (T := TX0) (N := 8) rfl in_X0 1 (by decide) q320 (Or.inl rfl) rfl dX0_draws_12 ?_
    refine z_getRN C (ly_b0 zb100) (Cn := RX2) (T := TX2) (N := 20) rfl in_X2 12 (by decide) q238 (Or.inl rfl) rfl dX0_draws_15 ?_
    refine z_iload_n C 1 dX0_draws_18 rfl rfl ?_
    obtain ⟨g_6, hf⟩ := gd_ hf
    refine z_ialoadF C (ly_b13 zb100) g_6 dX0_draws_19 ?_
    obtain ⟨j_7, ej_7, hf⟩ := nmo_ hf
    have hj_7 : j_7 = 0 ∨ j_7 = 1 := by rw [ej_7]; (try dsimp only [nm]); (repeat' split) <;> first | exact Or.inl rfl | exact Or.inr rfl
    have hjj_7 : Z p l e (zRm 732 6169 σ) s m args below meth c (zQ below w zLx σ (.returned (some (.int r))) σ' args s) w zLx (zA w zLx σ) 3 σ_3 28 [(0, .ref (w.2.2 0)), (1, .int p1)] [.int j_7, .ref (w.2.2 0)] := by
      refine z_iconst C 3 dX0_draws_28 (by decide) ?_
      obtain ⟨r_8, σ_10, e_9, hf⟩ := bd_ hf
      rcases r_8 with ⟨⟩ | ⟨⟩
      · dsimp only [sc] at hf
        refine z_callv C (rest := []) (av := (.ref (w.2.2 0) :: [.int j_7, .int 3])) (zPay.of q354 q74) (fun H ls hH h2 => zInv_V C (As := [.int j_7, .int 3]) (rest := []) (ci := 0) (T := TX0) (N := 8) rfl (zSee.fix ly_x0) hH q351 q353 qs1 (Or.inl rfl) q354 mh_X0 np_X0_need dX0_draws_29) (tX0_need l w e_9) (Nat.le_of_ble_eq_true rfl) (Nat.le_of_ble_eq_true rfl) ?_
        refine z_bipush C 9 dX0_draws_32 (by decide) ?_
        refine z_istore_n C dX0_draws_34 rfl (by decide) rfl (lv' := [(2, .int 9), (0, .ref (w.2.2 0)), (1, .int p1)]) ?_
        obtain ⟨x2_19, σ_20, e_21, hf⟩ := bd_ hf
        refine z_lv (lv' := [(0, .ref (w.2.2 0)), (1, .int p1), (2, .int 9)]) [1, 2, 0] rfl ?_
        refine lfX0_draws_L35 C (Nat.le_of_ble_eq_true rfl) (Nat.le_of_ble_eq_true rfl) p1 ?_ _ _ _ e_21
        refine z_aload_n C 0 dX0_draws_54 rfl rfl ?_
        refine z_iload_n C 2 dX0_draws_55 rfl rfl ?_
        obtain ⟨j_22, ej_22, hf⟩ := nmo_ hf
        have hj_22 : j_22 = 0 ∨ j_22 = 1 := by rw [ej_22]; (try dsimp only [nm]); (repeat' split) <;> first | exact Or.inl rfl | exact Or.inr rfl
        have hjj_22 : Z p l e (zRm 732 6169 σ) s m args below meth c (zQ below w zLx σ (.returned (some (.int r))) σ' args s) w zLx (zA w zLx σ) 3 σ_20 64 [(0, .ref (w.2.2 0)), (1, .int p1), (2, .int x2_19)] [.int j_22, .ref (w.2.2 0)] := by
          refine z_iconst C 2 dX0_draws_64 (by decide) ?_
          obtain ⟨r_23, σ_25, e_24, hf⟩ := bd_ hf
          rcases r_23 with ⟨⟩ | ⟨⟩
          · dsimp only [sc] at hf
            refine z_callv C (rest := []) (av := (.ref (w.2.2 0) :: [.int j_22, .int 2])) (zPay.of q354 q74) (fun H ls hH h2 => zInv_V C (As := [.int j_22, .int 2]) (rest := []) (ci := 0) (T := TX0) (N := 8) rfl (zSee.fix ly_x0) hH q351 q353 qs1 (Or.inl rfl) q354 mh_X0 np_X0_need dX0_draws_65) (tX0_need l w e_24) (Nat.le_of_ble_eq_true rfl) (Nat.le_of_ble_eq_true rfl) ?_
            refine z_iload_n C 2 dX0_draws_68 rfl rfl ?_
            obtain ⟨rfl, rfl⟩ := fin_ hf
            exact z_iret C rfl dX0_draws_69
          · dsimp only [sc] at hf
            refine z_callt C (rest := []) (av := (.ref (w.2.2 0) :: [.int j_22, .int 2])) (zPay.of q354 q74) (fun H ls hH h2 => zInv_V C (As := [.int j_22, .int 2]) (rest := []) (ci := 0) (T := TX0) (N := 8) rfl (zSee.fix ly_x0) hH q351 q353 qs1 (Or.inl rfl) q354 mh_X0 np_X0_need dX0_draws_65) (tX0_need l w e_24) (Nat.le_of_ble_eq_true rfl) (Nat.le_of_ble_eq_true rfl) ?_
            refine z_catch C [] 0 69 70 8 [] rfl (by decide) (by decide) (by decide) (ci := 1) (Cn := RX1) (T0 := TX1) (N := 7) rfl (zSee.fix ly_x1) q118 ?_
            refine z_astore_n C dX0_draws_70 rfl (by decide) rfl (lv' := [(2, .ref (w.2.2 1)), (0, .ref (w.2.2 0)), (1, .int p1)]) ?_
            refine z_aload_n C 1 dX0_draws_71 rfl rfl ?_
            refine z_aload_n C 0 dX0_draws_72 rfl rfl ?_
            obtain ⟨r_28, σ_30, e_29, hf⟩ := bd_ hf
            refine z_calli C (rest := []) (av := (.ref (w.2.2 0) :: [.ref (w.2.2 1)])) (zPay.of q362 q74) (fun H ls hH h2 => zInv_V C (As := [.ref (w.2.2 1)]) (rest := []) (ci := 0) (T := TX0) (N := 8) rfl (zSee.fix ly_x0) hH q359 q361 qs2 (Or.inl rfl) q362 mh_X0 np_X0_finds dX0_draws_73) (tX0_finds l w e_29) (Nat.le_of_ble_eq_true rfl) (Nat.le_of_ble_eq_true rfl) ?_
            obtain ⟨rfl, rfl⟩ := fin_ hf
            exact z_iret C rfl dX0_draws_76
        replace hf := ej_22
        refine z_if_lt C 63 dX0_draws_56 (by decide) (fun c_31 => ?_) (fun c_31 => ?_)
        · replace hf := ifp_t c_31 hf
          refine z_iconst C 0 dX0_draws_63 (by decide) ?_
          subst hf
          exact hjj_22
        · replace hf := ifp_f c_31 hf
          refine z_iconst C 1 dX0_draws_59 (by decide) ?_
          refine z_goto C 64 dX0_draws_60 (by decide) ?_
          subst hf
          exact hjj_22
      · dsimp only [sc] at hf
        refine z_callt C (rest := []) (av := (.ref (w.2.2 0) :: [.int j_7, .int 3])) (zPay.of q354 q74) (fun H ls hH h2 => zInv_V C (As := [.int j_7, .int 3]) (rest := []) (ci := 0) (T := TX0) (N := 8) rfl (zSee.fix ly_x0) hH q351 q353 qs1 (Or.inl rfl) q354 mh_X0 np_X0_need dX0_draws_29) (tX0_need l w e_9) (Nat.le_of_ble_eq_true rfl) (Nat.le_of_ble_eq_true rfl) ?_
        refine z_catch C [] 0 69 70 8 [] rfl (by decide) (by decide) (by decide) (ci := 1) (Cn := RX1) (T0 := TX1) (N := 7) rfl (zSee.fix ly_x1) q118 ?_
        refine z_astore_n C dX0_draws_70 rfl (by decide) rfl (lv' := [(2, .ref (w.2.2 1)), (0, .ref (w.2.2 0)), (1, .int p1)]) ?_
        refine z_aload_n C 1 dX0_draws_71 rfl rfl ?_
        refine z_aload_n C 0 dX0_draws_72 rfl rfl ?_
        obtain ⟨r_32, σ_34, e_33, hf⟩ := bd_ hf
        refine z_calli C (rest := []) (av := (.ref (w.2.2 0) :: [.ref (w.2.2 1)])) (zPay.of q362 q74) (fun H ls hH h2 => zInv_V C (As := [.ref (w.2.2 1)]) (rest := []) (ci := 0) (T := TX0) (N := 8) rfl (zSee.fix ly_x0) hH q359 q361 qs2 (Or.inl rfl) q362 mh_X0 np_X0_finds dX0_draws_73) (tX0_finds l w e_33) (Nat.le_of_ble_eq_true rfl) (Nat.le_of_ble_eq_true rfl) ?_
        obtain ⟨rfl, rfl⟩ := fin_ hf
        exact z_iret C rfl dX0_draws_76
    replace hf := ej_7
    refine z_if_ne C 27 dX0_draws_20 (by decide) (fun c_35 => ?_) (fun c_35 => ?_)
    · replace hf := ifp_f c_35 hf
      refine z_iconst C 0 dX0_draws_27 (by decide) ?_
      subst hf
      exact hjj_7
    · replace hf := ifp_t c_35 hf
      refine z_iconst C 1 dX0_draws_23 (by decide) ?_
      refine z_goto C 28 dX0_draws_24 (by decide) ?_
      subst hf
      exact hjj_7
  · dsimp only [sc] at hf
    refine z_callt C (rest := []) (av := (.ref (w.2.2 0) :: [.int (fX0_isShip σ p1), .int 1])) (zPay.of q354 q74) (fun H ls hH h2 => zInv_V C (As := [.int (fX0_isShip σ p1), .int 1]) (rest := []) (ci := 0) (T := TX0) (N := 8) rfl (zSee.fix ly_x0) hH q351 q353 qs1 (Or.inl rfl) q354 mh_X0 np_X0_need dX0_draws_7) (tX0_need l w e_2) (Nat.le_of_ble_eq_true rfl) (Nat.le_of_ble_eq_true rfl) ?_
    refine z_catch C [] 0 69 70 8 [] rfl (by decide) (by decide) (by decide) (ci := 1) (Cn := RX1) (T0 := TX1) (N := 7) rfl (zSee.fix ly_x1) q118 ?_
    refine z_astore_n C dX0_draws_70 rfl (by decide) rfl (lv' := [(2, .ref (w.2.2 1)), (0, .ref (w.2.2 0)), (1, .int p1)]) ?_
    refine z_aload_n C 1 dX0_draws_71 rfl rfl ?_
    refine z_aload_n C 0 dX0_draws_72 rfl rfl ?_
    obtain ⟨r_36, σ_38, e_37, hf⟩ := bd_ hf
    refine z_calli C (rest := []) (av := (.ref (w.2.2 0) :: [.ref (w.2.2 1)])) (zPay.of q362 q74) (fun H ls hH h2 => zInv_V C (As := [.ref (w.2.2 1)]) (rest := []) (ci := 0) (T := TX0) (N := 8) rfl (zSee.fix ly_x0) hH q359 q361 qs2 (Or.inl rfl) q362 mh_X0 np_X0_finds dX0_draws_73) (tX0_finds l w e_37) (Nat.le_of_ble_eq_true rfl) (Nat.le_of_ble_eq_true rfl) ?_
    obtain ⟨rfl, rfl⟩ := fin_ hf
    exact z_iret C rfl dX0_draws_76
theorem np_X16_either : zNp yX16_either.desc 0 := by unfold zNp; decide +kernel
theorem np_X16_both : zNp yX16_both.desc 0 := by unfold zNp; decide +kernel
theorem np_X16_relation : zNp yX16_relation.desc 0 := by unfold zNp; decide +kernel
theorem np_X16_sum : zNp yX16_sum.desc 0 := by unfold zNp; decide +kernel
theorem np_X16_product : zNp yX16_product.desc 0 := by unfold zNp; decide +kernel
theorem np_X16_single : zNp yX16_single.desc 0 := by unfold zNp; decide +kernel
def zRecR (l : Launch) (w : ZW) (a : Nat) (rc : Nat → ZS → Option ((Nat ⊕ Nat) × ZS)) (fr lo : Nat) : Prop :=
  (∀ σ σ' r, rc 0 σ = some (r, σ') → zC l w zLx yX16_either (ws_ yX16_either cX16_either 2 (some (.object "OldLight$Term"))) fr lo [.ref a] σ (ocA2 r) σ') ∧
  (∀ σ σ' r, rc 1 σ = some (r, σ') → zC l w zLx yX16_both (ws_ yX16_both cX16_both 2 (some (.object "OldLight$Term"))) fr lo [.ref a] σ (ocA2 r) σ') ∧
  (∀ σ σ' r, rc 2 σ = some (r, σ') → zC l w zLx yX16_relation (ws_ yX16_relation cX16_relation 3 (some (.object "OldLight$Term"))) fr lo [.ref a] σ (ocA2 r) σ') ∧
  (∀ σ σ' r, rc 3 σ = some (r, σ') → zC l w zLx yX16_sum (ws_ yX16_sum cX16_sum 3 (some (.object "OldLight$Term"))) fr lo [.ref a] σ (ocA2 r) σ') ∧
  (∀ σ σ' r, rc 4 σ = some (r, σ') → zC l w zLx yX16_product (ws_ yX16_product cX16_product 3 (some (.object "OldLight$Term"))) fr lo [.ref a] σ (ocA2 r) σ') ∧
  (∀ σ σ' r, rc 5 σ = some (r, σ') → zC l w zLx yX16_single (ws_ yX16_single cX16_single 3 (some (.object "OldLight$Term"))) fr lo [.ref a] σ (ocA2 r) σ')
def fX16_either_L5 (rc : Nat → ZS → Option ((Nat ⊕ Nat) × ZS)) (w : ZW) (a i : Nat) (bn : List Int32) : Nat → Nat → ZS → Option ((Nat ⊕ Nat) × ZS)
  | 0, _, _ => none
  | n + 1, y1, σ => bo (oRd w i (σ.2.2.1 a)) (fun rd11 => bo (fX16_isOne w σ a i bn ([124])) (fun r_16 => if r_16 = 0 then (some (.inl y1, σ)) else (nm ((rd11.2.1) + 1) (fun (f_19 : Int32) => nm (sP σ a (.inr (15, [.ref (zsK w i), .ref (w.2.2 (100 + 16)), .int (rd11.1), .int f_19, .int (rd11.2.2)]))) (fun (σ_20 : ZS) => gd (1 ≤ σ_20.2.2.2.2.1) (gd (3 ≤ σ_20.2.2.2.2.2) (nm (σ_20.2.2.2.1) (fun (a_25 : Nat) => nm (sN σ_20 (.inr (7, [.int 0, .null, .null])) 3) (fun (σ_24 : ZS) => bo (oRd w i (σ_24.2.2.1 a)) (fun rd27 => bd (rc 1 σ_24) (fun r_32 σ_34 => sc r_32 (fun (r_35 : Nat) => bd (fX8_init σ_34 a_25 124 y1 r_35) (fun _ σ_39 => fX16_either_L5 rc w a i bn n a_25 σ_39)) (fun (t_36 : Nat) => some (.inr t_36, σ_34)))))))))))))
def fX16_either (rc : Nat → ZS → Option ((Nat ⊕ Nat) × ZS)) (w : ZW) (σ : ZS) (a : Nat) (i : Nat) (bn : List Int32) : Option ((Nat ⊕ Nat) × ZS) := bo (oRd w i (σ.2.2.1 a)) (fun rd1 => bd (rc 1 σ) (fun r_6 σ_8 => sc r_6 (fun (r_9 : Nat) => bd (fX16_either_L5 rc w a i bn 10000 r_9 σ_8) (fun r_40 σ_41 => sc r_40 (fun (z_43 : Nat) => some (.inl z_43, σ_41)) (fun (t_44 : Nat) => some (.inr t_44, σ_41)))) (fun (t_10 : Nat) => some (.inr t_10, σ_8))))
set_option maxHeartbeats 4000000 in
set_option maxRecDepth 100000 in
theorem lfX16_either_L5 {p : Program} {l : Launch} {e : Env} {R : Room} {s : State} {m : MethodId} {args : Array Value} {below : List Frame} {meth : Method} {c : Code} {Q : State → Prop} {w : ZW} {A : Nat → Prop} {ret : Option FieldType} (C : zCx p s m args meth c w zLx A 2 cX16_either RX16 ret []) {rc : Nat → ZS → Option ((Nat ⊕ Nat) × ZS)} {fr lo : Nat} {a i : Nat} {bn : List Int32} (hbn : zsB[i]? = some bn) (hrc : zRecR l w a rc fr lo) (hfr : fr + 24 ≤ R.frames) (hlo : lo + 300 ≤ R.locals) {r : Nat ⊕ Nat} {σ' : ZS} (hk : ∀ z, r = .inl z → Z p l e R s m args below meth c Q w zLx A 2 σ' 42 [(0, .ref a), (1, .ref z)] []) (hkt : ∀ x pc lv st, r = .inr x → ZT p l e R s m args below meth c Q w zLx A 2 σ' pc lv st x) : ∀ (n : Nat) (y1 : Nat) (σ : ZS), fX16_either_L5 rc w a i bn n y1 σ = some (r, σ') → Z p l e R s m args below meth c Q w zLx A 2 σ 5 [(0, .ref a), (1, .ref y1)] [] := by
  intro n
  induction n with
  | zero => intro y1 σ hf; exact none_ hf
  | succ n ih =>
    intro y1 σ hf
    rw [fX16_either_L5] at hf
    refine z_aload_n C 0 dX16_either_5 rfl rfl ?_
    refine z_ldcS C (i := 8) rfl dX16_either_6 ?_
    obtain ⟨⟨rs_11, rt_12, ro_13⟩, e_14, hf⟩ := bo_ hf
    try dsimp only at hf
    have hP_15 := oRd_ e_14
    obtain ⟨r_16, e_17, hf⟩ := bo_ hf
    refine z_calli C (rest := []) (av := (.ref a :: [.ref (zsK w 8)])) (zPay.of q734 q94) (fun H ls hH h2 => zInv_V C (As := [.ref (zsK w 8)]) (rest := []) (ci := 15) (T := TX16) (N := 5) rfl (zSee.pool hP_15) hH q731 q733 qs17 (Or.inl rfl) q734 mh_X16 np_X16_isOne dX16_either_8) (tX16_isOne l w hbn (show zsB[8]? = some [124] from rfl) e_17) (Nat.le_trans (by show 4 + 1 ≤ fr + 24; omega) hfr) (Nat.le_trans (by show 0 + (2 + 11) + 59 ≤ lo + 300; omega) hlo) ?_
    refine z_if_eq C 42 dX16_either_11 (by decide) (fun c_18 => ?_) (fun c_18 => ?_)
    · replace hf := if_t c_18 hf
      obtain ⟨rfl, rfl⟩ := fin_ hf
      exact hk _ rfl
    · replace hf := if_f c_18 hf
      refine z_aload_n C 0 dX16_either_14 rfl rfl ?_
      refine z_dup C dX16_either_15 rfl ?_
      refine z_get C (ci := 15) (Cn := RX16) (T := TX16) (N := 5) (fs := [.ref (zsK w i), .ref (w.2.2 (100 + 16)), .int rs_11, .int rt_12, .int ro_13]) (v := .int rt_12) rfl in_X16 (zSee.pool hP_15) 3 (by decide) q690 (Or.inl rfl) rfl dX16_either_16 ?_
      refine z_iconst C 1 dX16_either_19 (by decide) ?_
      refine z_iadd C dX16_either_20 ?_
      obtain ⟨f_19, ef_19, hf⟩ := nmo_ hf
      refine z_top ef_19 ?_
      refine z_putP C hP_15 (zPut C (T := TX16) (N := 5) rfl in_X16 tyX16 tyX16_ok nmX16 3 (by decide) q690 (Or.inl rfl) rfl rfl rfl (Nat.le_of_ble_eq_true rfl) dX16_either_21) ?_
      obtain ⟨σ_20, eσ_20, hf⟩ := nmo_ hf
      refine z_w eσ_20.symm ?_
      have hP_21 : σ_20.2.2.1 a = some (.inr (15, [.ref (zsK w i), .ref (w.2.2 (100 + 16)), .int rs_11, .int f_19, .int ro_13])) := by rw [eσ_20]; exact sP_self
      obtain ⟨g_22, hf⟩ := gd_ hf
      obtain ⟨g_23, hf⟩ := gd_ hf
      refine z_new C (ci := 7) (Cn := RX8) (T := TX8) (N := 3) rfl in_X8 tyX8 tyX8_ok q885 q886 q86 [.int 0, .null, .null] (fun j hj => by rcases (show j = 0 ∨ j = 1 ∨ j = 2 by omega) with rfl | rfl | rfl <;> rfl) g_22 g_23 dX16_either_24 ?_
      obtain ⟨a_25, ea_25, hf⟩ := nmo_ hf
      refine z_eq (congrArg Value.ref ea_25.symm) ?_
      obtain ⟨σ_24, eσ_24, hf⟩ := nmo_ hf
      refine z_w eσ_24.symm ?_
      refine z_dup C dX16_either_27 rfl ?_
      refine z_bipush C 124 dX16_either_28 (by decide) ?_
      refine z_aload_n C 1 dX16_either_30 rfl rfl ?_
      refine z_aload_n C 0 dX16_either_31 rfl rfl ?_
      obtain ⟨⟨rs_27, rt_28, ro_29⟩, e_30, hf⟩ := bo_ hf
      try dsimp only at hf
      have hP_31 := oRd_ e_30
      obtain ⟨r_32, σ_34, e_33, hf⟩ := bd_ hf
      rcases r_32 with r_35 | t_36
      · dsimp only [sc] at hf
        refine z_callr C (rest := [.ref y1, .int 124, .ref a_25, .ref a_25]) (av := (.ref a :: [])) (zPay.of q714 q94) (fun H ls hH h2 => zInv_V C (As := []) (rest := [.ref y1, .int 124, .ref a_25, .ref a_25]) (ci := 15) (T := TX16) (N := 5) rfl (zSee.pool hP_31) hH q711 q713 qs12 (Or.inl rfl) q714 mh_X16 np_X16_both dX16_either_32) (hrc.2.1 _ _ _ e_33) (Nat.le_trans (by show fr + 1 ≤ fr + 24; omega) hfr) (Nat.le_trans (by show 4 + (2 + 11) + lo ≤ lo + 300; omega) hlo) ?_
        obtain ⟨⟨⟩, σ_39, e_38, hf⟩ := bd_ hf
        refine z_callv C (rest := [.ref a_25]) (av := (.ref a_25 :: [.int 124, .ref y1, .ref r_35])) (zPay.of q889 q86) (fun H ls hH h2 => zInv_I C (As := [.int 124, .ref y1, .ref r_35]) (rest := [.ref a_25]) q887 q888 q889 rfl mh_X8 np_X8_init dX16_either_35) (tX8_init l w e_38) (Nat.le_trans (by show 2 + 1 ≤ fr + 24; omega) hfr) (Nat.le_trans (by show 1 + (4 + 11) + 24 ≤ lo + 300; omega) hlo) ?_
        refine z_astore_n C dX16_either_38 rfl (by decide) rfl (lv' := [(1, .ref a_25), (0, .ref a)]) ?_
        refine z_goto C 5 dX16_either_39 (by decide) ?_
        exact z_lv [1, 0] rfl (ih _ _ hf)
      · dsimp only [sc] at hf
        refine z_callt C (rest := [.ref y1, .int 124, .ref a_25, .ref a_25]) (av := (.ref a :: [])) (zPay.of q714 q94) (fun H ls hH h2 => zInv_V C (As := []) (rest := [.ref y1, .int 124, .ref a_25, .ref a_25]) (ci := 15) (T := TX16) (N := 5) rfl (zSee.pool hP_31) hH q711 q713 qs12 (Or.inl rfl) q714 mh_X16 np_X16_both dX16_either_32) (hrc.2.1 _ _ _ e_33) (Nat.le_trans (by show fr + 1 ≤ fr + 24; omega) hfr) (Nat.le_trans (by show 4 + (2 + 11) + lo ≤ lo + 300; omega) hlo) ?_
        obtain ⟨rfl, rfl⟩ := fin_ hf
        exact hkt _ _ _ _ rfl
set_option maxHeartbeats 4000000 in
set_option maxRecDepth 100000 in
theorem tX16_either (l : Launch) (w : ZW) {σ σ' : ZS} {a : Nat} {i : Nat} {bn : List Int32} (hbn : zsB[i]? = some bn) {rc : Nat → ZS → Option ((Nat ⊕ Nat) × ZS)} {fr lo : Nat} (hrc : zRecR l w a rc fr lo) {r : Nat ⊕ Nat} (hf : fX16_either rc w σ a i bn = some (r, σ')) : zC l w zLx yX16_either (ws_ yX16_either cX16_either 2 (some (.object "OldLight$Term"))) (fr + 24) (lo + 300) [.ref a] σ (ocA2 r) σ' := by
  refine zC.of (plainFor_of_name (by decide)) (Nat.le_of_ble_eq_true rfl) ?_
  intro p e s m args below meth c C hnm
  show Z p l e _ s m args below meth c _ w _ _ 2 σ 0 [(0, .ref a)] []
  unfold fX16_either at hf
  refine z_aload_n C 0 dX16_either_0 rfl rfl ?_
  obtain ⟨⟨rs_1, rt_2, ro_3⟩, e_4, hf⟩ := bo_ hf
  try dsimp only at hf
  have hP_5 := oRd_ e_4
  obtain ⟨r_6, σ_8, e_7, hf⟩ := bd_ hf
  rcases r_6 with r_9 | t_10
  · dsimp only [sc] at hf
    refine z_callr C (rest := []) (av := (.ref a :: [])) (zPay.of q714 q94) (fun H ls hH h2 => zInv_V C (As := []) (rest := []) (ci := 15) (T := TX16) (N := 5) rfl (zSee.pool hP_5) hH q711 q713 qs12 (Or.inl rfl) q714 mh_X16 np_X16_both dX16_either_1) (hrc.2.1 _ _ _ e_7) (by show fr + 1 ≤ fr + 24; omega) (by show 0 + (2 + 11) + lo ≤ lo + 300; omega) ?_
    refine z_astore_n C dX16_either_4 rfl (by decide) rfl (lv' := [(1, .ref r_9), (0, .ref a)]) ?_
    obtain ⟨r_40, σ_41, e_42, hf⟩ := bd_ hf
    refine z_lv (lv' := [(0, .ref a), (1, .ref r_9)]) [1, 0] rfl ?_
    refine lfX16_either_L5 C hbn hrc (by show fr + 24 ≤ fr + 24; omega) (by show lo + 300 ≤ lo + 300; omega) (fun z_43 hz => ?_) (fun t_44 pc9 lv9 st9 hx => ?_) _ _ _ e_42
    · subst hz
      dsimp only [sc] at hf
      refine z_aload_n C 1 dX16_either_42 rfl rfl ?_
      obtain ⟨rfl, rfl⟩ := fin_ hf
      exact z_aret C (Or.inl ⟨_, rfl⟩) (Or.inr ⟨_, rfl⟩) dX16_either_43
    · subst hx
      dsimp only [sc] at hf
      obtain ⟨rfl, rfl⟩ := fin_ hf
      exact z_tout C rfl
  · dsimp only [sc] at hf
    refine z_callt C (rest := []) (av := (.ref a :: [])) (zPay.of q714 q94) (fun H ls hH h2 => zInv_V C (As := []) (rest := []) (ci := 15) (T := TX16) (N := 5) rfl (zSee.pool hP_5) hH q711 q713 qs12 (Or.inl rfl) q714 mh_X16 np_X16_both dX16_either_1) (hrc.2.1 _ _ _ e_7) (by show fr + 1 ≤ fr + 24; omega) (by show 0 + (2 + 11) + lo ≤ lo + 300; omega) ?_
    obtain ⟨rfl, rfl⟩ := fin_ hf
    exact z_tout C (by decide)
def fX16_both_L5 (rc : Nat → ZS → Option ((Nat ⊕ Nat) × ZS)) (w : ZW) (a i : Nat) (bn : List Int32) : Nat → Nat → ZS → Option ((Nat ⊕ Nat) × ZS)
  | 0, _, _ => none
  | n + 1, y1, σ => bo (oRd w i (σ.2.2.1 a)) (fun rd11 => bo (fX16_isOne w σ a i bn ([38])) (fun r_16 => if r_16 = 0 then (some (.inl y1, σ)) else (nm ((rd11.2.1) + 1) (fun (f_19 : Int32) => nm (sP σ a (.inr (15, [.ref (zsK w i), .ref (w.2.2 (100 + 16)), .int (rd11.1), .int f_19, .int (rd11.2.2)]))) (fun (σ_20 : ZS) => gd (1 ≤ σ_20.2.2.2.2.1) (gd (3 ≤ σ_20.2.2.2.2.2) (nm (σ_20.2.2.2.1) (fun (a_25 : Nat) => nm (sN σ_20 (.inr (7, [.int 0, .null, .null])) 3) (fun (σ_24 : ZS) => bo (oRd w i (σ_24.2.2.1 a)) (fun rd27 => bd (rc 2 σ_24) (fun r_32 σ_34 => sc r_32 (fun (r_35 : Nat) => bd (fX8_init σ_34 a_25 38 y1 r_35) (fun _ σ_39 => fX16_both_L5 rc w a i bn n a_25 σ_39)) (fun (t_36 : Nat) => some (.inr t_36, σ_34)))))))))))))
def fX16_both (rc : Nat → ZS → Option ((Nat ⊕ Nat) × ZS)) (w : ZW) (σ : ZS) (a : Nat) (i : Nat) (bn : List Int32) : Option ((Nat ⊕ Nat) × ZS) := bo (oRd w i (σ.2.2.1 a)) (fun rd1 => bd (rc 2 σ) (fun r_6 σ_8 => sc r_6 (fun (r_9 : Nat) => bd (fX16_both_L5 rc w a i bn 10000 r_9 σ_8) (fun r_40 σ_41 => sc r_40 (fun (z_43 : Nat) => some (.inl z_43, σ_41)) (fun (t_44 : Nat) => some (.inr t_44, σ_41)))) (fun (t_10 : Nat) => some (.inr t_10, σ_8))))
set_option maxHeartbeats 4000000 in
set_option maxRecDepth 100000 in
theorem lfX16_both_L5 {p : Program} {l : Launch} {e : Env} {R : Room} {s : State} {m : MethodId} {args : Array Value} {below : List Frame} {meth : Method} {c : Code} {Q : State → Prop} {w : ZW} {A : Nat → Prop} {ret : Option FieldType} (C : zCx p s m args meth c w zLx A 2 cX16_both RX16 ret []) {rc : Nat → ZS → Option ((Nat ⊕ Nat) × ZS)} {fr lo : Nat} {a i : Nat} {bn : List Int32} (hbn : zsB[i]? = some bn) (hrc : zRecR l w a rc fr lo) (hfr : fr + 24 ≤ R.frames) (hlo : lo + 300 ≤ R.locals) {r : Nat ⊕ Nat} {σ' : ZS} (hk : ∀ z, r = .inl z → Z p l e R s m args below meth c Q w zLx A 2 σ' 42 [(0, .ref a), (1, .ref z)] []) (hkt : ∀ x pc lv st, r = .inr x → ZT p l e R s m args below meth c Q w zLx A 2 σ' pc lv st x) : ∀ (n : Nat) (y1 : Nat) (σ : ZS), fX16_both_L5 rc w a i bn n y1 σ = some (r, σ') → Z p l e R s m args below meth c Q w zLx A 2 σ 5 [(0, .ref a), (1, .ref y1)] [] := by
  intro n
  induction n with
  | zero => intro y1 σ hf; exact none_ hf
  | succ n ih =>
    intro y1 σ hf
    rw [fX16_both_L5] at hf
    refine z_aload_n C 0 dX16_both_5 rfl rfl ?_
    refine z_ldcS C (i := 7) rfl dX16_both_6 ?_
    obtain ⟨⟨rs_11, rt_12, ro_13⟩, e_14, hf⟩ := bo_ hf
    try dsimp only at hf
    have hP_15 := oRd_ e_14
    obtain ⟨r_16, e_17, hf⟩ := bo_ hf
    refine z_calli C (rest := []) (av := (.ref a :: [.ref (zsK w 7)])) (zPay.of q734 q94) (fun H ls hH h2 => zInv_V C (As := [.ref (zsK w 7)]) (rest := []) (ci := 15) (T := TX16) (N := 5) rfl (zSee.pool hP_15) hH q731 q733 qs17 (Or.inl rfl) q734 mh_X16 np_X16_isOne dX16_both_8) (tX16_isOne l w hbn (show zsB[7]? = some [38] from rfl) e_17) (Nat.le_trans (by show 4 + 1 ≤ fr + 24; omega) hfr) (Nat.le_trans (by show 0 + (2 + 11) + 59 ≤ lo + 300; omega) hlo) ?_
    refine z_if_eq C 42 dX16_both_11 (by decide) (fun c_18 => ?_) (fun c_18 => ?_)
    · replace hf := if_t c_18 hf
      obtain ⟨rfl, rfl⟩ := fin_ hf
      exact hk _ rfl
    · replace hf := if_f c_18 hf
      refine z_aload_n C 0 dX16_both_14 rfl rfl ?_
      refine z_dup C dX16_both_15 rfl ?_
      refine z_get C (ci := 15) (Cn := RX16) (T := TX16) (N := 5) (fs := [.ref (zsK w i), .ref (w.2.2 (100 + 16)), .int rs_11, .int rt_12, .int ro_13]) (v := .int rt_12) rfl in_X16 (zSee.pool hP_15) 3 (by decide) q690 (Or.inl rfl) rfl dX16_both_16 ?_
      refine z_iconst C 1 dX16_both_19 (by decide) ?_
      refine z_iadd C dX16_both_20 ?_
      obtain ⟨f_19, ef_19, hf⟩ := nmo_ hf
      refine z_top ef_19 ?_
      refine z_putP C hP_15 (zPut C (T := TX16) (N := 5) rfl in_X16 tyX16 tyX16_ok nmX16 3 (by decide) q690 (Or.inl rfl) rfl rfl rfl (Nat.le_of_ble_eq_true rfl) dX16_both_21) ?_
      obtain ⟨σ_20, eσ_20, hf⟩ := nmo_ hf
      refine z_w eσ_20.symm ?_
      have hP_21 : σ_20.2.2.1 a = some (.inr (15, [.ref (zsK w i), .ref (w.2.2 (100 + 16)), .int rs_11, .int f_19, .int ro_13])) := by rw [eσ_20]; exact sP_self
      obtain ⟨g_22, hf⟩ := gd_ hf
      obtain ⟨g_23, hf⟩ := gd_ hf
      refine z_new C (ci := 7) (Cn := RX8) (T := TX8) (N := 3) rfl in_X8 tyX8 tyX8_ok q885 q886 q86 [.int 0, .null, .null] (fun j hj => by rcases (show j = 0 ∨ j = 1 ∨ j = 2 by omega) with rfl | rfl | rfl <;> rfl) g_22 g_23 dX16_both_24 ?_
      obtain ⟨a_25, ea_25, hf⟩ := nmo_ hf
      refine z_eq (congrArg Value.ref ea_25.symm) ?_
      obtain ⟨σ_24, eσ_24, hf⟩ := nmo_ hf
      refine z_w eσ_24.symm ?_
      refine z_dup C dX16_both_27 rfl ?_
      refine z_bipush C 38 dX16_both_28 (by decide) ?_
      refine z_aload_n C 1 dX16_both_30 rfl rfl ?_
      refine z_aload_n C 0 dX16_both_31 rfl rfl ?_
      obtain ⟨⟨rs_27, rt_28, ro_29⟩, e_30, hf⟩ := bo_ hf
      try dsimp only at hf
      have hP_31 := oRd_ e_30
      obtain ⟨r_32, σ_34, e_33, hf⟩ := bd_ hf
      rcases r_32 with r_35 | t_36
      · dsimp only [sc] at hf
        refine z_callr C (rest := [.ref y1, .int 38, .ref a_25, .ref a_25]) (av := (.ref a :: [])) (zPay.of q718 q94) (fun H ls hH h2 => zInv_V C (As := []) (rest := [.ref y1, .int 38, .ref a_25, .ref a_25]) (ci := 15) (T := TX16) (N := 5) rfl (zSee.pool hP_31) hH q715 q717 qs13 (Or.inl rfl) q718 mh_X16 np_X16_relation dX16_both_32) (hrc.2.2.1 _ _ _ e_33) (Nat.le_trans (by show fr + 1 ≤ fr + 24; omega) hfr) (Nat.le_trans (by show 4 + (3 + 11) + lo ≤ lo + 300; omega) hlo) ?_
        obtain ⟨⟨⟩, σ_39, e_38, hf⟩ := bd_ hf
        refine z_callv C (rest := [.ref a_25]) (av := (.ref a_25 :: [.int 38, .ref y1, .ref r_35])) (zPay.of q889 q86) (fun H ls hH h2 => zInv_I C (As := [.int 38, .ref y1, .ref r_35]) (rest := [.ref a_25]) q887 q888 q889 rfl mh_X8 np_X8_init dX16_both_35) (tX8_init l w e_38) (Nat.le_trans (by show 2 + 1 ≤ fr + 24; omega) hfr) (Nat.le_trans (by show 1 + (4 + 11) + 24 ≤ lo + 300; omega) hlo) ?_
        refine z_astore_n C dX16_both_38 rfl (by decide) rfl (lv' := [(1, .ref a_25), (0, .ref a)]) ?_
        refine z_goto C 5 dX16_both_39 (by decide) ?_
        exact z_lv [1, 0] rfl (ih _ _ hf)
      · dsimp only [sc] at hf
        refine z_callt C (rest := [.ref y1, .int 38, .ref a_25, .ref a_25]) (av := (.ref a :: [])) (zPay.of q718 q94) (fun H ls hH h2 => zInv_V C (As := []) (rest := [.ref y1, .int 38, .ref a_25, .ref a_25]) (ci := 15) (T := TX16) (N := 5) rfl (zSee.pool hP_31) hH q715 q717 qs13 (Or.inl rfl) q718 mh_X16 np_X16_relation dX16_both_32) (hrc.2.2.1 _ _ _ e_33) (Nat.le_trans (by show fr + 1 ≤ fr + 24; omega) hfr) (Nat.le_trans (by show 4 + (3 + 11) + lo ≤ lo + 300; omega) hlo) ?_
        obtain ⟨rfl, rfl⟩ := fin_ hf
        exact hkt _ _ _ _ rfl
set_option maxHeartbeats 4000000 in
set_option maxRecDepth 100000 in
theorem tX16_both (l : Launch) (w : ZW) {σ σ' : ZS} {a : Nat} {i : Nat} {bn : List Int32} (hbn : zsB[i]? = some bn) {rc : Nat → ZS → Option ((Nat ⊕ Nat) × ZS)} {fr lo : Nat} (hrc : zRecR l w a rc fr lo) {r : Nat ⊕ Nat} (hf : fX16_both rc w σ a i bn = some (r, σ')) : zC l w zLx yX16_both (ws_ yX16_both cX16_both 2 (some (.object "OldLight$Term"))) (fr + 24) (lo + 300) [.ref a] σ (ocA2 r) σ' := by
  refine zC.of (plainFor_of_name (by decide)) (Nat.le_of_ble_eq_true rfl) ?_
  intro p e s m args below meth c C hnm
  show Z p l e _ s m args below meth c _ w _ _ 2 σ 0 [(0, .ref a)] []
  unfold fX16_both at hf
  refine z_aload_n C 0 dX16_both_0 rfl rfl ?_
  obtain ⟨⟨rs_1, rt_2, ro_3⟩, e_4, hf⟩ := bo_ hf
  try dsimp only at hf
  have hP_5 := oRd_ e_4
  obtain ⟨r_6, σ_8, e_7, hf⟩ := bd_ hf
  rcases r_6 with r_9 | t_10
  · dsimp only [sc] at hf
    refine z_callr C (rest := []) (av := (.ref a :: [])) (zPay.of q718 q94) (fun H ls hH h2 => zInv_V C (As := []) (rest := []) (ci := 15) (T := TX16) (N := 5) rfl (zSee.pool hP_5) hH q715 q717 qs13 (Or.inl rfl) q718 mh_X16 np_X16_relation dX16_both_1) (hrc.2.2.1 _ _ _ e_7) (by show fr + 1 ≤ fr + 24; omega) (by show 0 + (3 + 11) + lo ≤ lo + 300; omega) ?_
    refine z_astore_n C dX16_both_4 rfl (by decide) rfl (lv' := [(1, .ref r_9), (0, .ref a)]) ?_
    obtain ⟨r_40, σ_41, e_42, hf⟩ := bd_ hf
    refine z_lv (lv' := [(0, .ref a), (1, .ref r_9)]) [1, 0] rfl ?_
    refine lfX16_both_L5 C hbn hrc (by show fr + 24 ≤ fr + 24; omega) (by show lo + 300 ≤ lo + 300; omega) (fun z_43 hz => ?_) (fun t_44 pc9 lv9 st9 hx => ?_) _ _ _ e_42
    · subst hz
      dsimp only [sc] at hf
      refine z_aload_n C 1 dX16_both_42 rfl rfl ?_
      obtain ⟨rfl, rfl⟩ := fin_ hf
      exact z_aret C (Or.inl ⟨_, rfl⟩) (Or.inr ⟨_, rfl⟩) dX16_both_43
    · subst hx
      dsimp only [sc] at hf
      obtain ⟨rfl, rfl⟩ := fin_ hf
      exact z_tout C rfl
  · dsimp only [sc] at hf
    refine z_callt C (rest := []) (av := (.ref a :: [])) (zPay.of q718 q94) (fun H ls hH h2 => zInv_V C (As := []) (rest := []) (ci := 15) (T := TX16) (N := 5) rfl (zSee.pool hP_5) hH q715 q717 qs13 (Or.inl rfl) q718 mh_X16 np_X16_relation dX16_both_1) (hrc.2.2.1 _ _ _ e_7) (by show fr + 1 ≤ fr + 24; omega) (by show 0 + (3 + 11) + lo ≤ lo + 300; omega) ?_
    obtain ⟨rfl, rfl⟩ := fin_ hf
    exact z_tout C (by decide)
def fX16_relation (rc : Nat → ZS → Option ((Nat ⊕ Nat) × ZS)) (w : ZW) (σ : ZS) (a : Nat) (i : Nat) (bn : List Int32) : Option ((Nat ⊕ Nat) × ZS) := bo (oRd w i (σ.2.2.1 a)) (fun rd1 => bd (rc 3 σ) (fun r_6 σ_8 => sc r_6 (fun (r_9 : Nat) => bo (oRd w i (σ_8.2.2.1 a)) (fun rd11 => bo (fX16_isOne w σ_8 a i bn ([60, 61, 62])) (fun r_16 => if r_16 = 0 then (some (.inl r_9, σ_8)) else (bo (fX16_look w σ_8 a i bn ) (fun r_19 => nm ((rd11.2.1) + 1) (fun (f_21 : Int32) => nm (sP σ_8 a (.inr (15, [.ref (zsK w i), .ref (w.2.2 (100 + 16)), .int (rd11.1), .int f_21, .int (rd11.2.2)]))) (fun (σ_22 : ZS) => gd (1 ≤ σ_22.2.2.2.2.1) (gd (3 ≤ σ_22.2.2.2.2.2) (nm (σ_22.2.2.2.1) (fun (a_27 : Nat) => nm (sN σ_22 (.inr (7, [.int 0, .null, .null])) 3) (fun (σ_26 : ZS) => bo (oRd w i (σ_26.2.2.1 a)) (fun rd29 => bd (rc 3 σ_26) (fun r_34 σ_36 => sc r_34 (fun (r_37 : Nat) => bd (fX8_init σ_36 a_27 r_19 r_9 r_37) (fun _ σ_41 => some (.inl a_27, σ_41))) (fun (t_38 : Nat) => some (.inr t_38, σ_36))))))))))))))) (fun (t_10 : Nat) => some (.inr t_10, σ_8))))
set_option maxHeartbeats 4000000 in
set_option maxRecDepth 100000 in
theorem tX16_relation (l : Launch) (w : ZW) {σ σ' : ZS} {a : Nat} {i : Nat} {bn : List Int32} (hbn : zsB[i]? = some bn) {rc : Nat → ZS → Option ((Nat ⊕ Nat) × ZS)} {fr lo : Nat} (hrc : zRecR l w a rc fr lo) {r : Nat ⊕ Nat} (hf : fX16_relation rc w σ a i bn = some (r, σ')) : zC l w zLx yX16_relation (ws_ yX16_relation cX16_relation 3 (some (.object "OldLight$Term"))) (fr + 24) (lo + 300) [.ref a] σ (ocA2 r) σ' := by
  refine zC.of (plainFor_of_name (by decide)) (Nat.le_of_ble_eq_true rfl) ?_
  intro p e s m args below meth c C hnm
  show Z p l e _ s m args below meth c _ w _ _ 3 σ 0 [(0, .ref a)] []
  unfold fX16_relation at hf
  refine z_aload_n C 0 dX16_relation_0 rfl rfl ?_
  obtain ⟨⟨rs_1, rt_2, ro_3⟩, e_4, hf⟩ := bo_ hf
  try dsimp only at hf
  have hP_5 := oRd_ e_4
  obtain ⟨r_6, σ_8, e_7, hf⟩ := bd_ hf
  rcases r_6 with r_9 | t_10
  · dsimp only [sc] at hf
    refine z_callr C (rest := []) (av := (.ref a :: [])) (zPay.of q722 q94) (fun H ls hH h2 => zInv_V C (As := []) (rest := []) (ci := 15) (T := TX16) (N := 5) rfl (zSee.pool hP_5) hH q719 q721 qs14 (Or.inl rfl) q722 mh_X16 np_X16_sum dX16_relation_1) (hrc.2.2.2.1 _ _ _ e_7) (by show fr + 1 ≤ fr + 24; omega) (by show 0 + (3 + 11) + lo ≤ lo + 300; omega) ?_
    refine z_astore_n C dX16_relation_4 rfl (by decide) rfl (lv' := [(1, .ref r_9), (0, .ref a)]) ?_
    refine z_aload_n C 1 dX16_relation_5 rfl rfl ?_
    refine z_ldcS C (i := 6) rfl dX16_relation_6 ?_
    obtain ⟨⟨rs_11, rt_12, ro_13⟩, e_14, hf⟩ := bo_ hf
    try dsimp only at hf
    have hP_15 := oRd_ e_14
    obtain ⟨r_16, e_17, hf⟩ := bo_ hf
    refine z_calli C (rest := []) (av := (.ref a :: [.ref (zsK w 6)])) (zPay.of q734 q94) (fun H ls hH h2 => zInv_V C (As := [.ref (zsK w 6)]) (rest := []) (ci := 15) (T := TX16) (N := 5) rfl (zSee.pool hP_15) hH q731 q733 qs17 (Or.inl rfl) q734 mh_X16 np_X16_isOne dX16_relation_8) (tX16_isOne l w hbn (show zsB[6]? = some [60, 61, 62] from rfl) e_17) (by show 4 + 1 ≤ fr + 24; omega) (by show 0 + (2 + 11) + 59 ≤ lo + 300; omega) ?_
    refine z_if_ne C 16 dX16_relation_11 (by decide) (fun c_18 => ?_) (fun c_18 => ?_)
    · replace hf := if_f c_18 hf
      refine z_aload_n C 1 dX16_relation_16 rfl rfl ?_
      obtain ⟨r_19, e_20, hf⟩ := bo_ hf
      refine z_calli C (rest := []) (av := (.ref a :: [])) (zPay.of q738 q94) (fun H ls hH h2 => zInv_V C (As := []) (rest := []) (ci := 15) (T := TX16) (N := 5) rfl (zSee.pool hP_15) hH q735 q737 qs18 (Or.inl rfl) q738 mh_X16 np_X16_look dX16_relation_17) (tX16_look l w hbn e_20) (by show 0 + 1 ≤ fr + 24; omega) (by show 0 + (1 + 11) + 0 ≤ lo + 300; omega) ?_
      refine z_istore_n C dX16_relation_20 rfl (by decide) rfl (lv' := [(2, .int r_19), (1, .ref r_9), (0, .ref a)]) ?_
      refine z_aload_n C 2 dX16_relation_21 rfl rfl ?_
      refine z_dup C dX16_relation_22 rfl ?_
      refine z_get C (ci := 15) (Cn := RX16) (T := TX16) (N := 5) (fs := [.ref (zsK w i), .ref (w.2.2 (100 + 16)), .int rs_11, .int rt_12, .int ro_13]) (v := .int rt_12) rfl in_X16 (zSee.pool hP_15) 3 (by decide) q690 (Or.inl rfl) rfl dX16_relation_23 ?_
      refine z_iconst C 1 dX16_relation_26 (by decide) ?_
      refine z_iadd C dX16_relation_27 ?_
      obtain ⟨f_21, ef_21, hf⟩ := nmo_ hf
      refine z_top ef_21 ?_
      refine z_putP C hP_15 (zPut C (T := TX16) (N := 5) rfl in_X16 tyX16 tyX16_ok nmX16 3 (by decide) q690 (Or.inl rfl) rfl rfl rfl (Nat.le_of_ble_eq_true rfl) dX16_relation_28) ?_
      obtain ⟨σ_22, eσ_22, hf⟩ := nmo_ hf
      refine z_w eσ_22.symm ?_
      have hP_23 : σ_22.2.2.1 a = some (.inr (15, [.ref (zsK w i), .ref (w.2.2 (100 + 16)), .int rs_11, .int f_21, .int ro_13])) := by rw [eσ_22]; exact sP_self
      obtain ⟨g_24, hf⟩ := gd_ hf
      obtain ⟨g_25, hf⟩ := gd_ hf
      refine z_new C (ci := 7) (Cn := RX8) (T := TX8) (N := 3) rfl in_X8 tyX8 tyX8_ok q885 q886 q86 [.int 0, .null, .null] (fun j hj => by rcases (show j = 0 ∨ j = 1 ∨ j = 2 by omega) with rfl | rfl | rfl <;> rfl) g_24 g_25 dX16_relation_31 ?_
      obtain ⟨a_27, ea_27, hf⟩ := nmo_ hf
      refine z_eq (congrArg Value.ref ea_27.symm) ?_
      obtain ⟨σ_26, eσ_26, hf⟩ := nmo_ hf
      refine z_w eσ_26.symm ?_
      refine z_dup C dX16_relation_34 rfl ?_
      refine z_iload_n C 0 dX16_relation_35 rfl rfl ?_
      refine z_aload_n C 1 dX16_relation_36 rfl rfl ?_
      refine z_aload_n C 2 dX16_relation_37 rfl rfl ?_
      obtain ⟨⟨rs_29, rt_30, ro_31⟩, e_32, hf⟩ := bo_ hf
      try dsimp only at hf
      have hP_33 := oRd_ e_32
      obtain ⟨r_34, σ_36, e_35, hf⟩ := bd_ hf
      rcases r_34 with r_37 | t_38
      · dsimp only [sc] at hf
        refine z_callr C (rest := [.ref r_9, .int r_19, .ref a_27, .ref a_27]) (av := (.ref a :: [])) (zPay.of q722 q94) (fun H ls hH h2 => zInv_V C (As := []) (rest := [.ref r_9, .int r_19, .ref a_27, .ref a_27]) (ci := 15) (T := TX16) (N := 5) rfl (zSee.pool hP_33) hH q719 q721 qs14 (Or.inl rfl) q722 mh_X16 np_X16_sum dX16_relation_38) (hrc.2.2.2.1 _ _ _ e_35) (by show fr + 1 ≤ fr + 24; omega) (by show 4 + (3 + 11) + lo ≤ lo + 300; omega) ?_
        obtain ⟨⟨⟩, σ_41, e_40, hf⟩ := bd_ hf
        refine z_callv C (rest := [.ref a_27]) (av := (.ref a_27 :: [.int r_19, .ref r_9, .ref r_37])) (zPay.of q889 q86) (fun H ls hH h2 => zInv_I C (As := [.int r_19, .ref r_9, .ref r_37]) (rest := [.ref a_27]) q887 q888 q889 rfl mh_X8 np_X8_init dX16_relation_41) (tX8_init l w e_40) (by show 2 + 1 ≤ fr + 24; omega) (by show 1 + (4 + 11) + 24 ≤ lo + 300; omega) ?_
        obtain ⟨rfl, rfl⟩ := fin_ hf
        exact z_aret C (Or.inl ⟨_, rfl⟩) (Or.inr ⟨_, rfl⟩) dX16_relation_44
      · dsimp only [sc] at hf
        refine z_callt C (rest := [.ref r_9, .int r_19, .ref a_27, .ref a_27]) (av := (.ref a :: [])) (zPay.of q722 q94) (fun H ls hH h2 => zInv_V C (As := []) (rest := [.ref r_9, .int r_19, .ref a_27, .ref a_27]) (ci := 15) (T := TX16) (N := 5) rfl (zSee.pool hP_33) hH q719 q721 qs14 (Or.inl rfl) q722 mh_X16 np_X16_sum dX16_relation_38) (hrc.2.2.2.1 _ _ _ e_35) (by show fr + 1 ≤ fr + 24; omega) (by show 4 + (3 + 11) + lo ≤ lo + 300; omega) ?_
        obtain ⟨rfl, rfl⟩ := fin_ hf
        exact z_tout C (by decide)
    · replace hf := if_t c_18 hf
      refine z_aload_n C 0 dX16_relation_14 rfl rfl ?_
      obtain ⟨rfl, rfl⟩ := fin_ hf
      exact z_aret C (Or.inl ⟨_, rfl⟩) (Or.inr ⟨_, rfl⟩) dX16_relation_15
  · dsimp only [sc] at hf
    refine z_callt C (rest := []) (av := (.ref a :: [])) (zPay.of q722 q94) (fun H ls hH h2 => zInv_V C (As := []) (rest := []) (ci := 15) (T := TX16) (N := 5) rfl (zSee.pool hP_5) hH q719 q721 qs14 (Or.inl rfl) q722 mh_X16 np_X16_sum dX16_relation_1) (hrc.2.2.2.1 _ _ _ e_7) (by show fr + 1 ≤ fr + 24; omega) (by show 0 + (3 + 11) + lo ≤ lo + 300; omega) ?_
    obtain ⟨rfl, rfl⟩ := fin_ hf
    exact z_tout C (by decide)
def fX16_sum_L5 (rc : Nat → ZS → Option ((Nat ⊕ Nat) × ZS)) (w : ZW) (a i : Nat) (bn : List Int32) : Nat → Nat → ZS → Option ((Nat ⊕ Nat) × ZS)
  | 0, _, _ => none
  | n + 1, y1, σ => bo (oRd w i (σ.2.2.1 a)) (fun rd11 => bo (fX16_isOne w σ a i bn ([43, 45])) (fun r_16 => if r_16 = 0 then (some (.inl y1, σ)) else (bo (fX16_look w σ a i bn ) (fun r_19 => nm ((rd11.2.1) + 1) (fun (f_21 : Int32) => nm (sP σ a (.inr (15, [.ref (zsK w i), .ref (w.2.2 (100 + 16)), .int (rd11.1), .int f_21, .int (rd11.2.2)]))) (fun (σ_22 : ZS) => gd (1 ≤ σ_22.2.2.2.2.1) (gd (3 ≤ σ_22.2.2.2.2.2) (nm (σ_22.2.2.2.1) (fun (a_27 : Nat) => nm (sN σ_22 (.inr (7, [.int 0, .null, .null])) 3) (fun (σ_26 : ZS) => bo (oRd w i (σ_26.2.2.1 a)) (fun rd29 => bd (rc 4 σ_26) (fun r_34 σ_36 => sc r_34 (fun (r_37 : Nat) => bd (fX8_init σ_36 a_27 r_19 y1 r_37) (fun _ σ_41 => fX16_sum_L5 rc w a i bn n a_27 σ_41)) (fun (t_38 : Nat) => some (.inr t_38, σ_36))))))))))))))
def fX16_sum (rc : Nat → ZS → Option ((Nat ⊕ Nat) × ZS)) (w : ZW) (σ : ZS) (a : Nat) (i : Nat) (bn : List Int32) : Option ((Nat ⊕ Nat) × ZS) := bo (oRd w i (σ.2.2.1 a)) (fun rd1 => bd (rc 4 σ) (fun r_6 σ_8 => sc r_6 (fun (r_9 : Nat) => bd (fX16_sum_L5 rc w a i bn 10000 r_9 σ_8) (fun r_42 σ_43 => sc r_42 (fun (z_45 : Nat) => some (.inl z_45, σ_43)) (fun (t_46 : Nat) => some (.inr t_46, σ_43)))) (fun (t_10 : Nat) => some (.inr t_10, σ_8))))
set_option maxHeartbeats 4000000 in
set_option maxRecDepth 100000 in
theorem lfX16_sum_L5 {p : Program} {l : Launch} {e : Env} {R : Room} {s : State} {m : MethodId} {args : Array Value} {below : List Frame} {meth : Method} {c : Code} {Q : State → Prop} {w : ZW} {A : Nat → Prop} {ret : Option FieldType} (C : zCx p s m args meth c w zLx A 3 cX16_sum RX16 ret []) {rc : Nat → ZS → Option ((Nat ⊕ Nat) × ZS)} {fr lo : Nat} {a i : Nat} {bn : List Int32} (hbn : zsB[i]? = some bn) (hrc : zRecR l w a rc fr lo) (hfr : fr + 24 ≤ R.frames) (hlo : lo + 300 ≤ R.locals) {r : Nat ⊕ Nat} {σ' : ZS} (hk : ∀ z, r = .inl z → Z p l e R s m args below meth c Q w zLx A 3 σ' 46 [(0, .ref a), (1, .ref z)] []) (hkt : ∀ x pc lv st, r = .inr x → ZT p l e R s m args below meth c Q w zLx A 3 σ' pc lv st x) : ∀ (n : Nat) (y1 : Nat) (σ : ZS), fX16_sum_L5 rc w a i bn n y1 σ = some (r, σ') → Z p l e R s m args below meth c Q w zLx A 3 σ 5 [(0, .ref a), (1, .ref y1)] [] := by
  intro n
  induction n with
  | zero => intro y1 σ hf; exact none_ hf
  | succ n ih =>
    intro y1 σ hf
    rw [fX16_sum_L5] at hf
    refine z_aload_n C 0 dX16_sum_5 rfl rfl ?_
    refine z_ldcS C (i := 5) rfl dX16_sum_6 ?_
    obtain ⟨⟨rs_11, rt_12, ro_13⟩, e_14, hf⟩ := bo_ hf
    try dsimp only at hf
    have hP_15 := oRd_ e_14
    obtain ⟨r_16, e_17, hf⟩ := bo_ hf
    refine z_calli C (rest := []) (av := (.ref a :: [.ref (zsK w 5)])) (zPay.of q734 q94) (fun H ls hH h2 => zInv_V C (As := [.ref (zsK w 5)]) (rest := []) (ci := 15) (T := TX16) (N := 5) rfl (zSee.pool hP_15) hH q731 q733 qs17 (Or.inl rfl) q734 mh_X16 np_X16_isOne dX16_sum_8) (tX16_isOne l w hbn (show zsB[5]? = some [43, 45] from rfl) e_17) (Nat.le_trans (by show 4 + 1 ≤ fr + 24; omega) hfr) (Nat.le_trans (by show 0 + (2 + 11) + 59 ≤ lo + 300; omega) hlo) ?_
    refine z_if_eq C 46 dX16_sum_11 (by decide) (fun c_18 => ?_) (fun c_18 => ?_)
    · replace hf := if_t c_18 hf
      obtain ⟨rfl, rfl⟩ := fin_ hf
      exact hk _ rfl
    · replace hf := if_f c_18 hf
      refine z_aload_n C 0 dX16_sum_14 rfl rfl ?_
      obtain ⟨r_19, e_20, hf⟩ := bo_ hf
      refine z_calli C (rest := []) (av := (.ref a :: [])) (zPay.of q738 q94) (fun H ls hH h2 => zInv_V C (As := []) (rest := []) (ci := 15) (T := TX16) (N := 5) rfl (zSee.pool hP_15) hH q735 q737 qs18 (Or.inl rfl) q738 mh_X16 np_X16_look dX16_sum_15) (tX16_look l w hbn e_20) (Nat.le_trans (by show 0 + 1 ≤ fr + 24; omega) hfr) (Nat.le_trans (by show 0 + (1 + 11) + 0 ≤ lo + 300; omega) hlo) ?_
      refine z_istore_n C dX16_sum_18 rfl (by decide) rfl (lv' := [(2, .int r_19), (0, .ref a), (1, .ref y1)]) ?_
      refine z_aload_n C 1 dX16_sum_19 rfl rfl ?_
      refine z_dup C dX16_sum_20 rfl ?_
      refine z_get C (ci := 15) (Cn := RX16) (T := TX16) (N := 5) (fs := [.ref (zsK w i), .ref (w.2.2 (100 + 16)), .int rs_11, .int rt_12, .int ro_13]) (v := .int rt_12) rfl in_X16 (zSee.pool hP_15) 3 (by decide) q690 (Or.inl rfl) rfl dX16_sum_21 ?_
      refine z_iconst C 1 dX16_sum_24 (by decide) ?_
      refine z_iadd C dX16_sum_25 ?_
      obtain ⟨f_21, ef_21, hf⟩ := nmo_ hf
      refine z_top ef_21 ?_
      refine z_putP C hP_15 (zPut C (T := TX16) (N := 5) rfl in_X16 tyX16 tyX16_ok nmX16 3 (by decide) q690 (Or.inl rfl) rfl rfl rfl (Nat.le_of_ble_eq_true rfl) dX16_sum_26) ?_
      obtain ⟨σ_22, eσ_22, hf⟩ := nmo_ hf
      refine z_w eσ_22.symm ?_
      have hP_23 : σ_22.2.2.1 a = some (.inr (15, [.ref (zsK w i), .ref (w.2.2 (100 + 16)), .int rs_11, .int f_21, .int ro_13])) := by rw [eσ_22]; exact sP_self
      obtain ⟨g_24, hf⟩ := gd_ hf
      obtain ⟨g_25, hf⟩ := gd_ hf
      refine z_new C (ci := 7) (Cn := RX8) (T := TX8) (N := 3) rfl in_X8 tyX8 tyX8_ok q885 q886 q86 [.int 0, .null, .null] (fun j hj => by rcases (show j = 0 ∨ j = 1 ∨ j = 2 by omega) with rfl | rfl | rfl <;> rfl) g_24 g_25 dX16_sum_29 ?_
      obtain ⟨a_27, ea_27, hf⟩ := nmo_ hf
      refine z_eq (congrArg Value.ref ea_27.symm) ?_
      obtain ⟨σ_26, eσ_26, hf⟩ := nmo_ hf
      refine z_w eσ_26.symm ?_
      refine z_dup C dX16_sum_32 rfl ?_
      refine z_iload_n C 0 dX16_sum_33 rfl rfl ?_
      refine z_aload_n C 2 dX16_sum_34 rfl rfl ?_
      refine z_aload_n C 1 dX16_sum_35 rfl rfl ?_
      obtain ⟨⟨rs_29, rt_30, ro_31⟩, e_32, hf⟩ := bo_ hf
      try dsimp only at hf
      have hP_33 := oRd_ e_32
      obtain ⟨r_34, σ_36, e_35, hf⟩ := bd_ hf
      rcases r_34 with r_37 | t_38
      · dsimp only [sc] at hf
        refine z_callr C (rest := [.ref y1, .int r_19, .ref a_27, .ref a_27]) (av := (.ref a :: [])) (zPay.of q726 q94) (fun H ls hH h2 => zInv_V C (As := []) (rest := [.ref y1, .int r_19, .ref a_27, .ref a_27]) (ci := 15) (T := TX16) (N := 5) rfl (zSee.pool hP_33) hH q723 q725 qs15 (Or.inl rfl) q726 mh_X16 np_X16_product dX16_sum_36) (hrc.2.2.2.2.1 _ _ _ e_35) (Nat.le_trans (by show fr + 1 ≤ fr + 24; omega) hfr) (Nat.le_trans (by show 4 + (3 + 11) + lo ≤ lo + 300; omega) hlo) ?_
        obtain ⟨⟨⟩, σ_41, e_40, hf⟩ := bd_ hf
        refine z_callv C (rest := [.ref a_27]) (av := (.ref a_27 :: [.int r_19, .ref y1, .ref r_37])) (zPay.of q889 q86) (fun H ls hH h2 => zInv_I C (As := [.int r_19, .ref y1, .ref r_37]) (rest := [.ref a_27]) q887 q888 q889 rfl mh_X8 np_X8_init dX16_sum_39) (tX8_init l w e_40) (Nat.le_trans (by show 2 + 1 ≤ fr + 24; omega) hfr) (Nat.le_trans (by show 1 + (4 + 11) + 24 ≤ lo + 300; omega) hlo) ?_
        refine z_astore_n C dX16_sum_42 rfl (by decide) rfl (lv' := [(1, .ref a_27), (2, .int r_19), (0, .ref a)]) ?_
        refine z_goto C 5 dX16_sum_43 (by decide) ?_
        exact z_lv [2, 0] rfl (ih _ _ hf)
      · dsimp only [sc] at hf
        refine z_callt C (rest := [.ref y1, .int r_19, .ref a_27, .ref a_27]) (av := (.ref a :: [])) (zPay.of q726 q94) (fun H ls hH h2 => zInv_V C (As := []) (rest := [.ref y1, .int r_19, .ref a_27, .ref a_27]) (ci := 15) (T := TX16) (N := 5) rfl (zSee.pool hP_33) hH q723 q725 qs15 (Or.inl rfl) q726 mh_X16 np_X16_product dX16_sum_36) (hrc.2.2.2.2.1 _ _ _ e_35) (Nat.le_trans (by show fr + 1 ≤ fr + 24; omega) hfr) (Nat.le_trans (by show 4 + (3 + 11) + lo ≤ lo + 300; omega) hlo) ?_
        obtain ⟨rfl, rfl⟩ := fin_ hf
        exact hkt _ _ _ _ rfl
set_option maxHeartbeats 4000000 in
set_option maxRecDepth 100000 in
theorem tX16_sum (l : Launch) (w : ZW) {σ σ' : ZS} {a : Nat} {i : Nat} {bn : List Int32} (hbn : zsB[i]? = some bn) {rc : Nat → ZS → Option ((Nat ⊕ Nat) × ZS)} {fr lo : Nat} (hrc : zRecR l w a rc fr lo) {r : Nat ⊕ Nat} (hf : fX16_sum rc w σ a i bn = some (r, σ')) : zC l w zLx yX16_sum (ws_ yX16_sum cX16_sum 3 (some (.object "OldLight$Term"))) (fr + 24) (lo + 300) [.ref a] σ (ocA2 r) σ' := by
  refine zC.of (plainFor_of_name (by decide)) (Nat.le_of_ble_eq_true rfl) ?_
  intro p e s m args below meth c C hnm
  show Z p l e _ s m args below meth c _ w _ _ 3 σ 0 [(0, .ref a)] []
  unfold fX16_sum at hf
  refine z_aload_n C 0 dX16_sum_0 rfl rfl ?_
  obtain ⟨⟨rs_1, rt_2, ro_3⟩, e_4, hf⟩ := bo_ hf
  try dsimp only at hf
  have hP_5 := oRd_ e_4
  obtain ⟨r_6, σ_8, e_7, hf⟩ := bd_ hf
  rcases r_6 with r_9 | t_10
  · dsimp only [sc] at hf
    refine z_callr C (rest := []) (av := (.ref a :: [])) (zPay.of q726 q94) (fun H ls hH h2 => zInv_V C (As := []) (rest := []) (ci := 15) (T := TX16) (N := 5) rfl (zSee.pool hP_5) hH q723 q725 qs15 (Or.inl rfl) q726 mh_X16 np_X16_product dX16_sum_1) (hrc.2.2.2.2.1 _ _ _ e_7) (by show fr + 1 ≤ fr + 24; omega) (by show 0 + (3 + 11) + lo ≤ lo + 300; omega) ?_
    refine z_astore_n C dX16_sum_4 rfl (by decide) rfl (lv' := [(1, .ref r_9), (0, .ref a)]) ?_
    obtain ⟨r_42, σ_43, e_44, hf⟩ := bd_ hf
    refine z_lv (lv' := [(0, .ref a), (1, .ref r_9)]) [1, 0] rfl ?_
    refine lfX16_sum_L5 C hbn hrc (by show fr + 24 ≤ fr + 24; omega) (by show lo + 300 ≤ lo + 300; omega) (fun z_45 hz => ?_) (fun t_46 pc9 lv9 st9 hx => ?_) _ _ _ e_44
    · subst hz
      dsimp only [sc] at hf
      refine z_aload_n C 1 dX16_sum_46 rfl rfl ?_
      obtain ⟨rfl, rfl⟩ := fin_ hf
      exact z_aret C (Or.inl ⟨_, rfl⟩) (Or.inr ⟨_, rfl⟩) dX16_sum_47
    · subst hx
      dsimp only [sc] at hf
      obtain ⟨rfl, rfl⟩ := fin_ hf
      exact z_tout C rfl
  · dsimp only [sc] at hf
    refine z_callt C (rest := []) (av := (.ref a :: [])) (zPay.of q726 q94) (fun H ls hH h2 => zInv_V C (As := []) (rest := []) (ci := 15) (T := TX16) (N := 5) rfl (zSee.pool hP_5) hH q723 q725 qs15 (Or.inl rfl) q726 mh_X16 np_X16_product dX16_sum_1) (hrc.2.2.2.2.1 _ _ _ e_7) (by show fr + 1 ≤ fr + 24; omega) (by show 0 + (3 + 11) + lo ≤ lo + 300; omega) ?_
    obtain ⟨rfl, rfl⟩ := fin_ hf
    exact z_tout C (by decide)
def fX16_product_L5 (rc : Nat → ZS → Option ((Nat ⊕ Nat) × ZS)) (w : ZW) (a i : Nat) (bn : List Int32) : Nat → Nat → ZS → Option ((Nat ⊕ Nat) × ZS)
  | 0, _, _ => none
  | n + 1, y1, σ => bo (oRd w i (σ.2.2.1 a)) (fun rd11 => bo (fX16_isOne w σ a i bn ([42, 47, 37])) (fun r_16 => if r_16 = 0 then (some (.inl y1, σ)) else (bo (fX16_look w σ a i bn ) (fun r_19 => nm ((rd11.2.1) + 1) (fun (f_21 : Int32) => nm (sP σ a (.inr (15, [.ref (zsK w i), .ref (w.2.2 (100 + 16)), .int (rd11.1), .int f_21, .int (rd11.2.2)]))) (fun (σ_22 : ZS) => gd (1 ≤ σ_22.2.2.2.2.1) (gd (3 ≤ σ_22.2.2.2.2.2) (nm (σ_22.2.2.2.1) (fun (a_27 : Nat) => nm (sN σ_22 (.inr (7, [.int 0, .null, .null])) 3) (fun (σ_26 : ZS) => bo (oRd w i (σ_26.2.2.1 a)) (fun rd29 => bd (rc 5 σ_26) (fun r_34 σ_36 => sc r_34 (fun (r_37 : Nat) => bd (fX8_init σ_36 a_27 r_19 y1 r_37) (fun _ σ_41 => fX16_product_L5 rc w a i bn n a_27 σ_41)) (fun (t_38 : Nat) => some (.inr t_38, σ_36))))))))))))))
def fX16_product (rc : Nat → ZS → Option ((Nat ⊕ Nat) × ZS)) (w : ZW) (σ : ZS) (a : Nat) (i : Nat) (bn : List Int32) : Option ((Nat ⊕ Nat) × ZS) := bo (oRd w i (σ.2.2.1 a)) (fun rd1 => bd (rc 5 σ) (fun r_6 σ_8 => sc r_6 (fun (r_9 : Nat) => bd (fX16_product_L5 rc w a i bn 10000 r_9 σ_8) (fun r_42 σ_43 => sc r_42 (fun (z_45 : Nat) => some (.inl z_45, σ_43)) (fun (t_46 : Nat) => some (.inr t_46, σ_43)))) (fun (t_10 : Nat) => some (.inr t_10, σ_8))))
set_option maxHeartbeats 4000000 in
set_option maxRecDepth 100000 in
theorem lfX16_product_L5 {p : Program} {l : Launch} {e : Env} {R : Room} {s : State} {m : MethodId} {args : Array Value} {below : List Frame} {meth : Method} {c : Code} {Q : State → Prop} {w : ZW} {A : Nat → Prop} {ret : Option FieldType} (C : zCx p s m args meth c w zLx A 3 cX16_product RX16 ret []) {rc : Nat → ZS → Option ((Nat ⊕ Nat) × ZS)} {fr lo : Nat} {a i : Nat} {bn : List Int32} (hbn : zsB[i]? = some bn) (hrc : zRecR l w a rc fr lo) (hfr : fr + 24 ≤ R.frames) (hlo : lo + 300 ≤ R.locals) {r : Nat ⊕ Nat} {σ' : ZS} (hk : ∀ z, r = .inl z → Z p l e R s m args below meth c Q w zLx A 3 σ' 46 [(0, .ref a), (1, .ref z)] []) (hkt : ∀ x pc lv st, r = .inr x → ZT p l e R s m args below meth c Q w zLx A 3 σ' pc lv st x) : ∀ (n : Nat) (y1 : Nat) (σ : ZS), fX16_product_L5 rc w a i bn n y1 σ = some (r, σ') → Z p l e R s m args below meth c Q w zLx A 3 σ 5 [(0, .ref a), (1, .ref y1)] [] := by
  intro n
  induction n with
  | zero => intro y1 σ hf; exact none_ hf
  | succ n ih =>
    intro y1 σ hf
    rw [fX16_product_L5] at hf
    refine z_aload_n C 0 dX16_product_5 rfl rfl ?_
    refine z_ldcS C (i := 4) rfl dX16_product_6 ?_
    obtain ⟨⟨rs_11, rt_12, ro_13⟩, e_14, hf⟩ := bo_ hf
    try dsimp only at hf
    have hP_15 := oRd_ e_14
    obtain ⟨r_16, e_17, hf⟩ := bo_ hf
    refine z_calli C (rest := []) (av := (.ref a :: [.ref (zsK w 4)])) (zPay.of q734 q94) (fun H ls hH h2 => zInv_V C (As := [.ref (zsK w 4)]) (rest := []) (ci := 15) (T := TX16) (N := 5) rfl (zSee.pool hP_15) hH q731 q733 qs17 (Or.inl rfl) q734 mh_X16 np_X16_isOne dX16_product_8) (tX16_isOne l w hbn (show zsB[4]? = some [42, 47, 37] from rfl) e_17) (Nat.le_trans (by show 4 + 1 ≤ fr + 24; omega) hfr) (Nat.le_trans (by show 0 + (2 + 11) + 59 ≤ lo + 300; omega) hlo) ?_
    refine z_if_eq C 46 dX16_product_11 (by decide) (fun c_18 => ?_) (fun c_18 => ?_)
    · replace hf := if_t c_18 hf
      obtain ⟨rfl, rfl⟩ := fin_ hf
      exact hk _ rfl
    · replace hf := if_f c_18 hf
      refine z_aload_n C 0 dX16_product_14 rfl rfl ?_
      obtain ⟨r_19, e_20, hf⟩ := bo_ hf
      refine z_calli C (rest := []) (av := (.ref a :: [])) (zPay.of q738 q94) (fun H ls hH h2 => zInv_V C (As := []) (rest := []) (ci := 15) (T := TX16) (N := 5) rfl (zSee.pool hP_15) hH q735 q737 qs18 (Or.inl rfl) q738 mh_X16 np_X16_look dX16_product_15) (tX16_look l w hbn e_20) (Nat.le_trans (by show 0 + 1 ≤ fr + 24; omega) hfr) (Nat.le_trans (by show 0 + (1 + 11) + 0 ≤ lo + 300; omega) hlo) ?_
      refine z_istore_n C dX16_product_18 rfl (by decide) rfl (lv' := [(2, .int r_19), (0, .ref a), (1, .ref y1)]) ?_
      refine z_aload_n C 1 dX16_product_19 rfl rfl ?_
      refine z_dup C dX16_product_20 rfl ?_
      refine z_get C (ci := 15) (Cn := RX16) (T := TX16) (N := 5) (fs := [.ref (zsK w i), .ref (w.2.2 (100 + 16)), .int rs_11, .int rt_12, .int ro_13]) (v := .int rt_12) rfl in_X16 (zSee.pool hP_15) 3 (by decide) q690 (Or.inl rfl) rfl dX16_product_21 ?_
      refine z_iconst C 1 dX16_product_24 (by decide) ?_
      refine z_iadd C dX16_product_25 ?_
      obtain ⟨f_21, ef_21, hf⟩ := nmo_ hf
      refine z_top ef_21 ?_
      refine z_putP C hP_15 (zPut C (T := TX16) (N := 5) rfl in_X16 tyX16 tyX16_ok nmX16 3 (by decide) q690 (Or.inl rfl) rfl rfl rfl (Nat.le_of_ble_eq_true rfl) dX16_product_26) ?_
      obtain ⟨σ_22, eσ_22, hf⟩ := nmo_ hf
      refine z_w eσ_22.symm ?_
      have hP_23 : σ_22.2.2.1 a = some (.inr (15, [.ref (zsK w i), .ref (w.2.2 (100 + 16)), .int rs_11, .int f_21, .int ro_13])) := by rw [eσ_22]; exact sP_self
      obtain ⟨g_24, hf⟩ := gd_ hf
      obtain ⟨g_25, hf⟩ := gd_ hf
      refine z_new C (ci := 7) (Cn := RX8) (T := TX8) (N := 3) rfl in_X8 tyX8 tyX8_ok q885 q886 q86 [.int 0, .null, .null] (fun j hj => by rcases (show j = 0 ∨ j = 1 ∨ j = 2 by omega) with rfl | rfl | rfl <;> rfl) g_24 g_25 dX16_product_29 ?_
      obtain ⟨a_27, ea_27, hf⟩ := nmo_ hf
      refine z_eq (congrArg Value.ref ea_27.symm) ?_
      obtain ⟨σ_26, eσ_26, hf⟩ := nmo_ hf
      refine z_w eσ_26.symm ?_
      refine z_dup C dX16_product_32 rfl ?_
      refine z_iload_n C 0 dX16_product_33 rfl rfl ?_
      refine z_aload_n C 2 dX16_product_34 rfl rfl ?_
      refine z_aload_n C 1 dX16_product_35 rfl rfl ?_
      obtain ⟨⟨rs_29, rt_30, ro_31⟩, e_32, hf⟩ := bo_ hf
      try dsimp only at hf
      have hP_33 := oRd_ e_32
      obtain ⟨r_34, σ_36, e_35, hf⟩ := bd_ hf
      rcases r_34 with r_37 | t_38
      · dsimp only [sc] at hf
        refine z_callr C (rest := [.ref y1, .int r_19, .ref a_27, .ref a_27]) (av := (.ref a :: [])) (zPay.of q730 q94) (fun H ls hH h2 => zInv_V C (As := []) (rest := [.ref y1, .int r_19, .ref a_27, .ref a_27]) (ci := 15) (T := TX16) (N := 5) rfl (zSee.pool hP_33) hH q727 q729 qs16 (Or.inl rfl) q730 mh_X16 np_X16_single dX16_product_36) (hrc.2.2.2.2.2 _ _ _ e_35) (Nat.le_trans (by show fr + 1 ≤ fr + 24; omega) hfr) (Nat.le_trans (by show 4 + (3 + 11) + lo ≤ lo + 300; omega) hlo) ?_
        obtain ⟨⟨⟩, σ_41, e_40, hf⟩ := bd_ hf
        refine z_callv C (rest := [.ref a_27]) (av := (.ref a_27 :: [.int r_19, .ref y1, .ref r_37])) (zPay.of q889 q86) (fun H ls hH h2 => zInv_I C (As := [.int r_19, .ref y1, .ref r_37]) (rest := [.ref a_27]) q887 q888 q889 rfl mh_X8 np_X8_init dX16_product_39) (tX8_init l w e_40) (Nat.le_trans (by show 2 + 1 ≤ fr + 24; omega) hfr) (Nat.le_trans (by show 1 + (4 + 11) + 24 ≤ lo + 300; omega) hlo) ?_
        refine z_astore_n C dX16_product_42 rfl (by decide) rfl (lv' := [(1, .ref a_27), (2, .int r_19), (0, .ref a)]) ?_
        refine z_goto C 5 dX16_product_43 (by decide) ?_
        exact z_lv [2, 0] rfl (ih _ _ hf)
      · dsimp only [sc] at hf
        refine z_callt C (rest := [.ref y1, .int r_19, .ref a_27, .ref a_27]) (av := (.ref a :: [])) (zPay.of q730 q94) (fun H ls hH h2 => zInv_V C (As := []) (rest := [.ref y1, .int r_19, .ref a_27, .ref a_27]) (ci := 15) (T := TX16) (N := 5) rfl (zSee.pool hP_33) hH q727 q729 qs16 (Or.inl rfl) q730 mh_X16 np_X16_single dX16_product_36) (hrc.2.2.2.2.2 _ _ _ e_35) (Nat.le_trans (by show fr + 1 ≤ fr + 24; omega) hfr) (Nat.le_trans (by show 4 + (3 + 11) + lo ≤ lo + 300; omega) hlo) ?_
        obtain ⟨rfl, rfl⟩ := fin_ hf
        exact hkt _ _ _ _ rfl
set_option maxHeartbeats 4000000 in
set_option maxRecDepth 100000 in
theorem tX16_product (l : Launch) (w : ZW) {σ σ' : ZS} {a : Nat} {i : Nat} {bn : List Int32} (hbn : zsB[i]? = some bn) {rc : Nat → ZS → Option ((Nat ⊕ Nat) × ZS)} {fr lo : Nat} (hrc : zRecR l w a rc fr lo) {r : Nat ⊕ Nat} (hf : fX16_product rc w σ a i bn = some (r, σ')) : zC l w zLx yX16_product (ws_ yX16_product cX16_product 3 (some (.object "OldLight$Term"))) (fr + 24) (lo + 300) [.ref a] σ (ocA2 r) σ' := by
  refine zC.of (plainFor_of_name (by decide)) (Nat.le_of_ble_eq_true rfl) ?_
  intro p e s m args below meth c C hnm
  show Z p l e _ s m args below meth c _ w _ _ 3 σ 0 [(0, .ref a)] []
  unfold fX16_product at hf
  refine z_aload_n C 0 dX16_product_0 rfl rfl ?_
  obtain ⟨⟨rs_1, rt_2, ro_3⟩, e_4, hf⟩ := bo_ hf
  try dsimp only at hf
  have hP_5 := oRd_ e_4
  obtain ⟨r_6, σ_8, e_7, hf⟩ := bd_ hf
  rcases r_6 with r_9 | t_10
  · dsimp only [sc] at hf
    refine z_callr C (rest := []) (av := (.ref a :: [])) (zPay.of q730 q94) (fun H ls hH h2 => zInv_V C (As := []) (rest := []) (ci := 15) (T := TX16) (N := 5) rfl (zSee.pool hP_5) hH q727 q729 qs16 (Or.inl rfl) q730 mh_X16 np_X16_single dX16_product_1) (hrc.2.2.2.2.2 _ _ _ e_7) (by show fr + 1 ≤ fr + 24; omega) (by show 0 + (3 + 11) + lo ≤ lo + 300; omega) ?_
    refine z_astore_n C dX16_product_4 rfl (by decide) rfl (lv' := [(1, .ref r_9), (0, .ref a)]) ?_
    obtain ⟨r_42, σ_43, e_44, hf⟩ := bd_ hf
    refine z_lv (lv' := [(0, .ref a), (1, .ref r_9)]) [1, 0] rfl ?_
    refine lfX16_product_L5 C hbn hrc (by show fr + 24 ≤ fr + 24; omega) (by show lo + 300 ≤ lo + 300; omega) (fun z_45 hz => ?_) (fun t_46 pc9 lv9 st9 hx => ?_) _ _ _ e_44
    · subst hz
      dsimp only [sc] at hf
      refine z_aload_n C 1 dX16_product_46 rfl rfl ?_
      obtain ⟨rfl, rfl⟩ := fin_ hf
      exact z_aret C (Or.inl ⟨_, rfl⟩) (Or.inr ⟨_, rfl⟩) dX16_product_47
    · subst hx
      dsimp only [sc] at hf
      obtain ⟨rfl, rfl⟩ := fin_ hf
      exact z_tout C rfl
  · dsimp only [sc] at hf
    refine z_callt C (rest := []) (av := (.ref a :: [])) (zPay.of q730 q94) (fun H ls hH h2 => zInv_V C (As := []) (rest := []) (ci := 15) (T := TX16) (N := 5) rfl (zSee.pool hP_5) hH q727 q729 qs16 (Or.inl rfl) q730 mh_X16 np_X16_single dX16_product_1) (hrc.2.2.2.2.2 _ _ _ e_7) (by show fr + 1 ≤ fr + 24; omega) (by show 0 + (3 + 11) + lo ≤ lo + 300; omega) ?_
    obtain ⟨rfl, rfl⟩ := fin_ hf
    exact z_tout C (by decide)
def fX16_single_L154 (rc : Nat → ZS → Option ((Nat ⊕ Nat) × ZS)) (w : ZW) (a : Nat) (i : Nat) (bn : List Int32) : Nat → Int32 → Int32 → ZS → Option ((Int32 × Int32) × ZS)
  | 0, _, _, _ => none
  | n + 1, y1, y2, σ => if 4 ≤ y2 then (some ((y1, y2), σ)) else (bo (oRd w i (σ.2.2.1 a)) (fun rd23 => bo (fX16_look w σ a i bn ) (fun r_28 => if (fX0_in r_28 48 57) = 0 then (some ((y1, y2), σ)) else (bo (fX16_look w σ a i bn ) (fun r_31 => nm (((10 * y1) + r_31) - 48) (fun (x1_33 : Int32) => nm ((rd23.2.1) + 1) (fun (f_34 : Int32) => nm (sP σ a (.inr (15, [.ref (zsK w i), .ref (w.2.2 (100 + 16)), .int (rd23.1), .int f_34, .int (rd23.2.2)]))) (fun (σ_35 : ZS) => nm (y2 + 1) (fun (x2_37 : Int32) => fX16_single_L154 rc w a i bn n x1_33 x2_37 σ_35)))))))))
def fX16_single (rc : Nat → ZS → Option ((Nat ⊕ Nat) × ZS)) (w : ZW) (σ : ZS) (a : Nat) (i : Nat) (bn : List Int32) : Option ((Nat ⊕ Nat) × ZS) := bo (oRd w i (σ.2.2.1 a)) (fun rd1 => bo (fX16_isOne w σ a i bn bn) (fun r_6 => if r_6 = 0 then (bo (fX16_isOne w σ a i bn ([33])) (fun r_9 => if r_9 = 0 then (bo (fX16_isOne w σ a i bn ([40])) (fun r_12 => if r_12 = 0 then (bo (fX16_look w σ a i bn ) (fun r_15 => bd (fX16_fault w σ a i bn (fX0_in r_15 48 57)) (fun r_17 σ_19 => sc r_17 (fun _ => bd (fX16_single_L154 rc w a i bn 10000 0 0 σ_19) (fun uu40 σ_40 => gd (1 ≤ σ_40.2.2.2.2.1) (gd (1 ≤ σ_40.2.2.2.2.2) (nm (σ_40.2.2.2.1) (fun (a_45 : Nat) => nm (sN σ_40 (.inr (19, [.int 0])) 1) (fun (σ_44 : ZS) => bd (fX20_init σ_44 a_45 (uu40.1)) (fun _ σ_49 => some (.inl a_45, σ_49)))))))) (fun (t_21 : Nat) => some (.inr t_21, σ_19))))) else (bd (fX16_opens w σ a i bn ) (fun r_50 σ_52 => sc r_50 (fun _ => bo (oRd w i (σ_52.2.2.1 a)) (fun rd55 => bd (rc 0 σ_52) (fun r_60 σ_62 => sc r_60 (fun (r_63 : Nat) => bo (oRd w i (σ_62.2.2.1 a)) (fun rd65 => bo (fX16_look w σ_62 a i bn ) (fun r_70 => nm (if r_70 = 41 then 1 else 0) (fun (j_72 : Int32) => bd (fX16_fault w σ_62 a i bn j_72) (fun r_73 σ_75 => sc r_73 (fun _ => bo (oRd w i (σ_75.2.2.1 a)) (fun rd78 => nm ((rd78.2.1) + 1) (fun (f_83 : Int32) => nm (sP σ_75 a (.inr (15, [.ref (zsK w i), .ref (w.2.2 (100 + 16)), .int (rd78.1), .int f_83, .int (rd78.2.2)]))) (fun (σ_84 : ZS) => nm ((rd78.2.2) - 1) (fun (f_86 : Int32) => nm (sP σ_84 a (.inr (15, [.ref (zsK w i), .ref (w.2.2 (100 + 16)), .int (rd78.1), .int f_83, .int f_86]))) (fun (σ_87 : ZS) => some (.inl r_63, σ_87))))))) (fun (t_77 : Nat) => some (.inr t_77, σ_75))))))) (fun (t_64 : Nat) => some (.inr t_64, σ_62))))) (fun (t_54 : Nat) => some (.inr t_54, σ_52)))))) else (bd (fX16_opens w σ a i bn ) (fun r_90 σ_92 => sc r_90 (fun _ => bo (oRd w i (σ_92.2.2.1 a)) (fun rd95 => bd (rc 5 σ_92) (fun r_100 σ_102 => sc r_100 (fun (r_103 : Nat) => bo (oRd w i (σ_102.2.2.1 a)) (fun rd105 => nm ((rd105.2.2) - 1) (fun (f_110 : Int32) => nm (sP σ_102 a (.inr (15, [.ref (zsK w i), .ref (w.2.2 (100 + 16)), .int (rd105.1), .int (rd105.2.1), .int f_110]))) (fun (σ_111 : ZS) => gd (1 ≤ σ_111.2.2.2.2.1) (gd (1 ≤ σ_111.2.2.2.2.2) (nm (σ_111.2.2.2.1) (fun (a_116 : Nat) => nm (sN σ_111 (.inr (18, [.null])) 1) (fun (σ_115 : ZS) => bd (fX19_init σ_115 a_116 r_103) (fun _ σ_120 => some (.inl a_116, σ_120)))))))))) (fun (t_104 : Nat) => some (.inr t_104, σ_102))))) (fun (t_94 : Nat) => some (.inr t_94, σ_92)))))) else (nm ((rd1.2.1) + 1) (fun (f_121 : Int32) => nm (sP σ a (.inr (15, [.ref (zsK w i), .ref (w.2.2 (100 + 16)), .int (rd1.1), .int f_121, .int (rd1.2.2)]))) (fun (σ_122 : ZS) => gd (1 ≤ σ_122.2.2.2.2.1) (gd (1 ≤ σ_122.2.2.2.2.2) (nm (σ_122.2.2.2.1) (fun (a_127 : Nat) => nm (sN σ_122 (.inr (16, [.int 0])) 1) (fun (σ_126 : ZS) => bo (oRd w i (σ_126.2.2.1 a)) (fun rd129 => gd (¬ (((rd129.2.1) - 1) < 0 ∨ 50 ≤ ((rd129.2.1) - 1).toNatClampNeg)) (bd (fX17_init σ_126 a_127 (σ_126.1 (100 + 16) (((rd129.2.1) - 1).toNatClampNeg))) (fun _ σ_137 => some (.inl a_127, σ_137)))))))))))))
set_option maxHeartbeats 4000000 in
set_option maxRecDepth 100000 in
theorem lfX16_single_L154 {p : Program} {l : Launch} {e : Env} {R : Room} {s : State} {m : MethodId} {args : Array Value} {below : List Frame} {meth : Method} {c : Code} {Q : State → Prop} {w : ZW} {A : Nat → Prop} {ret : Option FieldType} {hh : List (Nat × Nat × Nat × Nat)} (C : zCx p s m args meth c w zLx A 3 cX16_single RX16 ret hh) {rc : Nat → ZS → Option ((Nat ⊕ Nat) × ZS)} {fr lo : Nat} (hfr : fr + 24 ≤ R.frames) (hlo : lo + 300 ≤ R.locals) {a : Nat} {i : Nat} {bn : List Int32} (hbn : zsB[i]? = some bn) (hrc : zRecR l w a rc fr lo) {z1 : Int32} {z2 : Int32} {σ' : ZS} (hk : Z p l e R s m args below meth c Q w zLx A 3 σ' 202 [(0, .ref a), (1, .int z1), (2, .int z2)] []) : ∀ (n : Nat) (y1 : Int32) (y2 : Int32) (σ : ZS), fX16_single_L154 rc w a i bn n y1 y2 σ = some ((z1, z2), σ') → Z p l e R s m args below meth c Q w zLx A 3 σ 154 [(0, .ref a), (1, .int y1), (2, .int y2)] [] := by
  intro n
  induction n with
  | zero => intro y1 y2 σ hf; exact none_ hf
  | succ n ih =>
    intro y1 y2 σ hf
    rw [fX16_single_L154] at hf
    refine z_iload_n C 2 dX16_single_154 rfl rfl ?_
    refine z_iconst C 4 dX16_single_155 (by decide) ?_
    refine z_icmp_ge C 202 dX16_single_156 (by decide) (fun c_22 => ?_) (fun c_22 => ?_)
    · replace hf := if_t c_22 hf
      obtain ⟨hf1, rfl⟩ := fin_ hf
      simp only [Prod.mk.injEq] at hf1
      obtain ⟨rfl, rfl⟩ := hf1
      exact hk
    · replace hf := if_f c_22 hf
      refine z_aload_n C 0 dX16_single_159 rfl rfl ?_
      obtain ⟨⟨rs_23, rt_24, ro_25⟩, e_26, hf⟩ := bo_ hf
      try dsimp only at hf
      have hP_27 := oRd_ e_26
      obtain ⟨r_28, e_29, hf⟩ := bo_ hf
      refine z_calli C (rest := []) (av := (.ref a :: [])) (zPay.of q738 q94) (fun H ls hH h2 => zInv_V C (As := []) (rest := []) (ci := 15) (T := TX16) (N := 5) rfl (zSee.pool hP_27) hH q735 q737 qs18 (Or.inl rfl) q738 mh_X16 np_X16_look dX16_single_160) (tX16_look l w hbn e_29) (Nat.le_trans (by show 0 + 1 ≤ fr + 24; omega) hfr) (Nat.le_trans (by show 0 + (1 + 11) + 0 ≤ lo + 300; omega) hlo) ?_
      refine z_bipush C 48 dX16_single_163 (by decide) ?_
      refine z_bipush C 57 dX16_single_165 (by decide) ?_
      refine z_calli C (rest := []) (av := [.int r_28, .int 48, .int 57]) (zPay.of q350 q74) (fun H ls hH h2 => zInv_SN C (As := [.int r_28, .int 48, .int 57]) (rest := []) q873 q349 q74 (Or.inl rfl) q350 mh_X0 np_X0_in dX16_single_167) (tX0_in l w zLx σ r_28 48 57) (Nat.le_trans (by show 0 + 1 ≤ fr + 24; omega) hfr) (Nat.le_trans (by show 0 + (3 + 11) + 0 ≤ lo + 300; omega) hlo) ?_
      refine z_if_eq C 202 dX16_single_170 (by decide) (fun c_30 => ?_) (fun c_30 => ?_)
      · replace hf := if_t c_30 hf
        obtain ⟨hf1, rfl⟩ := fin_ hf
        simp only [Prod.mk.injEq] at hf1
        obtain ⟨rfl, rfl⟩ := hf1
        exact hk
      · replace hf := if_f c_30 hf
        refine z_bipush C 10 dX16_single_173 (by decide) ?_
        refine z_iload_n C 1 dX16_single_175 rfl rfl ?_
        refine z_imul C dX16_single_176 ?_
        refine z_aload_n C 0 dX16_single_177 rfl rfl ?_
        obtain ⟨r_31, e_32, hf⟩ := bo_ hf
        refine z_calli C (rest := [.int (10 * y1)]) (av := (.ref a :: [])) (zPay.of q738 q94) (fun H ls hH h2 => zInv_V C (As := []) (rest := [.int (10 * y1)]) (ci := 15) (T := TX16) (N := 5) rfl (zSee.pool hP_27) hH q735 q737 qs18 (Or.inl rfl) q738 mh_X16 np_X16_look dX16_single_178) (tX16_look l w hbn e_32) (Nat.le_trans (by show 0 + 1 ≤ fr + 24; omega) hfr) (Nat.le_trans (by show 1 + (1 + 11) + 0 ≤ lo + 300; omega) hlo) ?_
        refine z_iadd C dX16_single_181 ?_
        refine z_bipush C 48 dX16_single_182 (by decide) ?_
        refine z_isub C dX16_single_184 ?_
        obtain ⟨x1_33, ex1_33, hf⟩ := nmo_ hf
        refine z_top ex1_33 ?_
        refine z_istore_n C dX16_single_185 rfl (by decide) rfl (lv' := [(1, .int x1_33), (0, .ref a), (2, .int y2)]) ?_
        refine z_aload_n C 1 dX16_single_186 rfl rfl ?_
        refine z_dup C dX16_single_187 rfl ?_
        refine z_get C (ci := 15) (Cn := RX16) (T := TX16) (N := 5) (fs := [.ref (zsK w i), .ref (w.2.2 (100 + 16)), .int rs_23, .int rt_24, .int ro_25]) (v := .int rt_24) rfl in_X16 (zSee.pool hP_27) 3 (by decide) q690 (Or.inl rfl) rfl dX16_single_188 ?_
        refine z_iconst C 1 dX16_single_191 (by decide) ?_
        refine z_iadd C dX16_single_192 ?_
        obtain ⟨f_34, ef_34, hf⟩ := nmo_ hf
        refine z_top ef_34 ?_
        refine z_putP C hP_27 (zPut C (T := TX16) (N := 5) rfl in_X16 tyX16 tyX16_ok nmX16 3 (by decide) q690 (Or.inl rfl) rfl rfl rfl (Nat.le_of_ble_eq_true rfl) dX16_single_193) ?_
        obtain ⟨σ_35, eσ_35, hf⟩ := nmo_ hf
        refine z_w eσ_35.symm ?_
        have hP_36 : σ_35.2.2.1 a = some (.inr (15, [.ref (zsK w i), .ref (w.2.2 (100 + 16)), .int rs_23, .int f_34, .int ro_25])) := by rw [eσ_35]; exact sP_self
        obtain ⟨x2_37, ex2_37, hf⟩ := nmo_ hf
        refine z_iinc C x2_37 2 dX16_single_196 rfl (by rw [ex2_37]; rfl) (by decide) rfl (lv' := [(2, .int x2_37), (1, .int x1_33), (0, .ref a)]) ?_
        refine z_goto C 154 dX16_single_199 (by decide) ?_
        exact z_lv [2, 1, 0] rfl (ih _ _ _ hf)
set_option maxHeartbeats 4000000 in
set_option maxRecDepth 100000 in
theorem tX16_single (l : Launch) (w : ZW) {σ σ' : ZS} {a : Nat} {i : Nat} {bn : List Int32} (hbn : zsB[i]? = some bn) {rc : Nat → ZS → Option ((Nat ⊕ Nat) × ZS)} {fr lo : Nat} (hrc : zRecR l w a rc fr lo) {r : Nat ⊕ Nat} (hf : fX16_single rc w σ a i bn = some (r, σ')) : zC l w zLx yX16_single (ws_ yX16_single cX16_single 3 (some (.object "OldLight$Term"))) (fr + 24) (lo + 300) [.ref a] σ (ocA2 r) σ' := by
  refine zC.of (plainFor_of_name (by decide)) (Nat.le_of_ble_eq_true rfl) ?_
  intro p e s m args below meth c C hnm
  show Z p l e _ s m args below meth c _ w _ _ 3 σ 0 [(0, .ref a)] []
  unfold fX16_single at hf
  refine z_aload_n C 0 dX16_single_0 rfl rfl ?_
  refine z_aload_n C 0 dX16_single_1 rfl rfl ?_
  obtain ⟨⟨rs_1, rt_2, ro_3⟩, e_4, hf⟩ := bo_ hf
  try dsimp only at hf
  have hP_5 := oRd_ e_4
  refine z_get C (ci := 15) (Cn := RX16) (T := TX16) (N := 5) (fs := [.ref (zsK w i), .ref (w.2.2 (100 + 16)), .int rs_1, .int rt_2, .int ro_3]) (v := .ref (zsK w i)) rfl in_X16 (zSee.pool hP_5) 0 (by decide) q687 (Or.inl rfl) rfl dX16_single_2 ?_
  obtain ⟨r_6, e_7, hf⟩ := bo_ hf
  refine z_calli C (rest := []) (av := (.ref a :: [.ref (zsK w i)])) (zPay.of q734 q94) (fun H ls hH h2 => zInv_V C (As := [.ref (zsK w i)]) (rest := []) (ci := 15) (T := TX16) (N := 5) rfl (zSee.pool hP_5) hH q731 q733 qs17 (Or.inl rfl) q734 mh_X16 np_X16_isOne dX16_single_5) (tX16_isOne l w hbn hbn e_7) (by show 4 + 1 ≤ fr + 24; omega) (by show 0 + (2 + 11) + 59 ≤ lo + 300; omega) ?_
  refine z_if_eq C 40 dX16_single_8 (by decide) (fun c_8 => ?_) (fun c_8 => ?_)
  · replace hf := if_t c_8 hf
    refine z_aload_n C 0 dX16_single_40 rfl rfl ?_
    refine z_ldcS C (i := 2) rfl dX16_single_41 ?_
    obtain ⟨r_9, e_10, hf⟩ := bo_ hf
    refine z_calli C (rest := []) (av := (.ref a :: [.ref (zsK w 2)])) (zPay.of q734 q94) (fun H ls hH h2 => zInv_V C (As := [.ref (zsK w 2)]) (rest := []) (ci := 15) (T := TX16) (N := 5) rfl (zSee.pool hP_5) hH q731 q733 qs17 (Or.inl rfl) q734 mh_X16 np_X16_isOne dX16_single_43) (tX16_isOne l w hbn (show zsB[2]? = some [33] from rfl) e_10) (by show 4 + 1 ≤ fr + 24; omega) (by show 0 + (2 + 11) + 59 ≤ lo + 300; omega) ?_
    refine z_if_eq C 77 dX16_single_46 (by decide) (fun c_11 => ?_) (fun c_11 => ?_)
    · replace hf := if_t c_11 hf
      refine z_aload_n C 0 dX16_single_77 rfl rfl ?_
      refine z_ldcS C (i := 3) rfl dX16_single_78 ?_
      obtain ⟨r_12, e_13, hf⟩ := bo_ hf
      refine z_calli C (rest := []) (av := (.ref a :: [.ref (zsK w 3)])) (zPay.of q734 q94) (fun H ls hH h2 => zInv_V C (As := [.ref (zsK w 3)]) (rest := []) (ci := 15) (T := TX16) (N := 5) rfl (zSee.pool hP_5) hH q731 q733 qs17 (Or.inl rfl) q734 mh_X16 np_X16_isOne dX16_single_80) (tX16_isOne l w hbn (show zsB[3]? = some [40] from rfl) e_13) (by show 4 + 1 ≤ fr + 24; omega) (by show 0 + (2 + 11) + 59 ≤ lo + 300; omega) ?_
      refine z_if_eq C 135 dX16_single_83 (by decide) (fun c_14 => ?_) (fun c_14 => ?_)
      · replace hf := if_t c_14 hf
        refine z_aload_n C 0 dX16_single_135 rfl rfl ?_
        refine z_aload_n C 0 dX16_single_136 rfl rfl ?_
        obtain ⟨r_15, e_16, hf⟩ := bo_ hf
        refine z_calli C (rest := [.ref a]) (av := (.ref a :: [])) (zPay.of q738 q94) (fun H ls hH h2 => zInv_V C (As := []) (rest := [.ref a]) (ci := 15) (T := TX16) (N := 5) rfl (zSee.pool hP_5) hH q735 q737 qs18 (Or.inl rfl) q738 mh_X16 np_X16_look dX16_single_137) (tX16_look l w hbn e_16) (by show 0 + 1 ≤ fr + 24; omega) (by show 1 + (1 + 11) + 0 ≤ lo + 300; omega) ?_
        refine z_bipush C 48 dX16_single_140 (by decide) ?_
        refine z_bipush C 57 dX16_single_142 (by decide) ?_
        refine z_calli C (rest := [.ref a]) (av := [.int r_15, .int 48, .int 57]) (zPay.of q350 q74) (fun H ls hH h2 => zInv_SN C (As := [.int r_15, .int 48, .int 57]) (rest := [.ref a]) q873 q349 q74 (Or.inl rfl) q350 mh_X0 np_X0_in dX16_single_144) (tX0_in l w zLx σ r_15 48 57) (by show 0 + 1 ≤ fr + 24; omega) (by show 1 + (3 + 11) + 0 ≤ lo + 300; omega) ?_
        obtain ⟨r_17, σ_19, e_18, hf⟩ := bd_ hf
        rcases r_17 with ⟨⟩ | t_21
        · dsimp only [sc] at hf
          refine z_callv C (rest := []) (av := (.ref a :: [.int (fX0_in r_15 48 57)])) (zPay.of q842 q94) (fun H ls hH h2 => zInv_V C (As := [.int (fX0_in r_15 48 57)]) (rest := []) (ci := 15) (T := TX16) (N := 5) rfl (zSee.pool hP_5) hH q839 q841 qs20 (Or.inl rfl) q842 mh_X16 np_X16_fault dX16_single_147) (tX16_fault l w hbn e_18) (by show 5 + 1 ≤ fr + 24; omega) (by show 0 + (2 + 11) + 74 ≤ lo + 300; omega) ?_
          refine z_iconst C 0 dX16_single_150 (by decide) ?_
          refine z_istore_n C dX16_single_151 rfl (by decide) rfl (lv' := [(1, .int 0), (0, .ref a)]) ?_
          refine z_iconst C 0 dX16_single_152 (by decide) ?_
          refine z_istore_n C dX16_single_153 rfl (by decide) rfl (lv' := [(2, .int 0), (1, .int 0), (0, .ref a)]) ?_
          obtain ⟨⟨x1_38, x2_39⟩, σ_40, e_41, hf⟩ := bd_ hf
          try dsimp only at hf
          refine z_lv (lv' := [(0, .ref a), (1, .int 0), (2, .int 0)]) [2, 1, 0] rfl ?_
          refine lfX16_single_L154 C (by show fr + 24 ≤ fr + 24; omega) (by show lo + 300 ≤ lo + 300; omega) hbn hrc ?_ _ _ _ _ e_41
          obtain ⟨g_42, hf⟩ := gd_ hf
          obtain ⟨g_43, hf⟩ := gd_ hf
          refine z_new C (ci := 19) (Cn := RX20) (T := TX20) (N := 1) rfl in_X20 tyX20 tyX20_ok q874 q875 q103 [.int 0] (fun j hj => by rcases (show j = 0 by omega) with rfl <;> rfl) g_42 g_43 dX16_single_202 ?_
          obtain ⟨a_45, ea_45, hf⟩ := nmo_ hf
          refine z_eq (congrArg Value.ref ea_45.symm) ?_
          obtain ⟨σ_44, eσ_44, hf⟩ := nmo_ hf
          refine z_w eσ_44.symm ?_
          refine z_dup C dX16_single_205 rfl ?_
          refine z_iload_n C 1 dX16_single_206 rfl rfl ?_
          obtain ⟨⟨⟩, σ_49, e_48, hf⟩ := bd_ hf
          refine z_callv C (rest := [.ref a_45]) (av := (.ref a_45 :: [.int x1_38])) (zPay.of q878 q103) (fun H ls hH h2 => zInv_I C (As := [.int x1_38]) (rest := [.ref a_45]) q876 q877 q878 rfl mh_X20 np_X20_init dX16_single_207) (tX20_init l w e_48) (by show 2 + 1 ≤ fr + 24; omega) (by show 1 + (2 + 11) + 24 ≤ lo + 300; omega) ?_
          obtain ⟨rfl, rfl⟩ := fin_ hf
          exact z_aret C (Or.inl ⟨_, rfl⟩) (Or.inr ⟨_, rfl⟩) dX16_single_210
        · dsimp only [sc] at hf
          refine z_callt C (rest := []) (av := (.ref a :: [.int (fX0_in r_15 48 57)])) (zPay.of q842 q94) (fun H ls hH h2 => zInv_V C (As := [.int (fX0_in r_15 48 57)]) (rest := []) (ci := 15) (T := TX16) (N := 5) rfl (zSee.pool hP_5) hH q839 q841 qs20 (Or.inl rfl) q842 mh_X16 np_X16_fault dX16_single_147) (tX16_fault l w hbn e_18) (by show 5 + 1 ≤ fr + 24; omega) (by show 0 + (2 + 11) + 74 ≤ lo + 300; omega) ?_
          obtain ⟨rfl, rfl⟩ := fin_ hf
          exact z_tout C (by decide)
      · replace hf := if_f c_14 hf
        refine z_aload_n C 0 dX16_single_86 rfl rfl ?_
        obtain ⟨r_50, σ_52, e_51, hf⟩ := bd_ hf
        rcases r_50 with ⟨⟩ | t_54
        · dsimp only [sc] at hf
          refine z_callv C (rest := []) (av := (.ref a :: [])) (zPay.of q838 q94) (fun H ls hH h2 => zInv_V C (As := []) (rest := []) (ci := 15) (T := TX16) (N := 5) rfl (zSee.pool hP_5) hH q835 q837 qs19 (Or.inl rfl) q838 mh_X16 np_X16_opens dX16_single_87) (tX16_opens l w hbn e_51) (by show 6 + 1 ≤ fr + 24; omega) (by show 0 + (1 + 11) + 87 ≤ lo + 300; omega) ?_
          refine z_aload_n C 0 dX16_single_90 rfl rfl ?_
          obtain ⟨⟨rs_55, rt_56, ro_57⟩, e_58, hf⟩ := bo_ hf
          try dsimp only at hf
          have hP_59 := oRd_ e_58
          obtain ⟨r_60, σ_62, e_61, hf⟩ := bd_ hf
          rcases r_60 with r_63 | t_64
          · dsimp only [sc] at hf
            refine z_callr C (rest := []) (av := (.ref a :: [])) (zPay.of q710 q94) (fun H ls hH h2 => zInv_V C (As := []) (rest := []) (ci := 15) (T := TX16) (N := 5) rfl (zSee.pool hP_59) hH q707 q709 qs11 (Or.inl rfl) q710 mh_X16 np_X16_either dX16_single_91) (hrc.1 _ _ _ e_61) (by show fr + 1 ≤ fr + 24; omega) (by show 0 + (2 + 11) + lo ≤ lo + 300; omega) ?_
            refine z_astore_n C dX16_single_94 rfl (by decide) rfl (lv' := [(1, .ref r_63), (0, .ref a)]) ?_
            refine z_aload_n C 1 dX16_single_95 rfl rfl ?_
            refine z_aload_n C 1 dX16_single_96 rfl rfl ?_
            obtain ⟨⟨rs_65, rt_66, ro_67⟩, e_68, hf⟩ := bo_ hf
            try dsimp only at hf
            have hP_69 := oRd_ e_68
            obtain ⟨r_70, e_71, hf⟩ := bo_ hf
            refine z_calli C (rest := [.ref a]) (av := (.ref a :: [])) (zPay.of q738 q94) (fun H ls hH h2 => zInv_V C (As := []) (rest := [.ref a]) (ci := 15) (T := TX16) (N := 5) rfl (zSee.pool hP_69) hH q735 q737 qs18 (Or.inl rfl) q738 mh_X16 np_X16_look dX16_single_97) (tX16_look l w hbn e_71) (by show 0 + 1 ≤ fr + 24; omega) (by show 1 + (1 + 11) + 0 ≤ lo + 300; omega) ?_
            refine z_bipush C 41 dX16_single_100 (by decide) ?_
            obtain ⟨j_72, ej_72, hf⟩ := nmo_ hf
            have hj_72 : j_72 = 0 ∨ j_72 = 1 := by rw [ej_72]; (try dsimp only [nm]); (repeat' split) <;> first | exact Or.inl rfl | exact Or.inr rfl
            have hjj_72 : Z p l e (zRm (fr + 24) (lo + 300) σ) s m args below meth c (zQ below w zLx σ (ocA2 r) σ' args s) w zLx (zA w zLx σ) 3 σ_62 110 [(0, .ref a), (1, .ref r_63)] [.int j_72, .ref a] := by
              obtain ⟨r_73, σ_75, e_74, hf⟩ := bd_ hf
              rcases r_73 with ⟨⟩ | t_77
              · dsimp only [sc] at hf
                refine z_callv C (rest := []) (av := (.ref a :: [.int j_72])) (zPay.of q842 q94) (fun H ls hH h2 => zInv_V C (As := [.int j_72]) (rest := []) (ci := 15) (T := TX16) (N := 5) rfl (zSee.pool hP_69) hH q839 q841 qs20 (Or.inl rfl) q842 mh_X16 np_X16_fault dX16_single_110) (tX16_fault l w hbn e_74) (by show 5 + 1 ≤ fr + 24; omega) (by show 0 + (2 + 11) + 74 ≤ lo + 300; omega) ?_
                refine z_aload_n C 0 dX16_single_113 rfl rfl ?_
                refine z_dup C dX16_single_114 rfl ?_
                obtain ⟨⟨rs_78, rt_79, ro_80⟩, e_81, hf⟩ := bo_ hf
                try dsimp only at hf
                have hP_82 := oRd_ e_81
                refine z_get C (ci := 15) (Cn := RX16) (T := TX16) (N := 5) (fs := [.ref (zsK w i), .ref (w.2.2 (100 + 16)), .int rs_78, .int rt_79, .int ro_80]) (v := .int rt_79) rfl in_X16 (zSee.pool hP_82) 3 (by decide) q690 (Or.inl rfl) rfl dX16_single_115 ?_
                refine z_iconst C 1 dX16_single_118 (by decide) ?_
                refine z_iadd C dX16_single_119 ?_
                obtain ⟨f_83, ef_83, hf⟩ := nmo_ hf
                refine z_top ef_83 ?_
                refine z_putP C hP_82 (zPut C (T := TX16) (N := 5) rfl in_X16 tyX16 tyX16_ok nmX16 3 (by decide) q690 (Or.inl rfl) rfl rfl rfl (Nat.le_of_ble_eq_true rfl) dX16_single_120) ?_
                obtain ⟨σ_84, eσ_84, hf⟩ := nmo_ hf
                refine z_w eσ_84.symm ?_
                have hP_85 : σ_84.2.2.1 a = some (.inr (15, [.ref (zsK w i), .ref (w.2.2 (100 + 16)), .int rs_78, .int f_83, .int ro_80])) := by rw [eσ_84]; exact sP_self
                refine z_aload_n C 0 dX16_single_123 rfl rfl ?_
                refine z_dup C dX16_single_124 rfl ?_
                refine z_get C (ci := 15) (Cn := RX16) (T := TX16) (N := 5) (fs := [.ref (zsK w i), .ref (w.2.2 (100 + 16)), .int rs_78, .int f_83, .int ro_80]) (v := .int ro_80) rfl in_X16 (zSee.pool hP_85) 4 (by decide) q691 (Or.inl rfl) rfl dX16_single_125 ?_
                refine z_iconst C 1 dX16_single_128 (by decide) ?_
                refine z_isub C dX16_single_129 ?_
                obtain ⟨f_86, ef_86, hf⟩ := nmo_ hf
                refine z_top ef_86 ?_
                refine z_putP C hP_85 (zPut C (T := TX16) (N := 5) rfl in_X16 tyX16 tyX16_ok nmX16 4 (by decide) q691 (Or.inl rfl) rfl rfl rfl (Nat.le_of_ble_eq_true rfl) dX16_single_130) ?_
                obtain ⟨σ_87, eσ_87, hf⟩ := nmo_ hf
                refine z_w eσ_87.symm ?_
                have hP_88 : σ_87.2.2.1 a = some (.inr (15, [.ref (zsK w i), .ref (w.2.2 (100 + 16)), .int rs_78, .int f_83, .int f_86])) := by rw [eσ_87]; exact sP_self
                refine z_aload_n C 1 dX16_single_133 rfl rfl ?_
                obtain ⟨rfl, rfl⟩ := fin_ hf
                exact z_aret C (Or.inl ⟨_, rfl⟩) (Or.inr ⟨_, rfl⟩) dX16_single_134
              · dsimp only [sc] at hf
                refine z_callt C (rest := []) (av := (.ref a :: [.int j_72])) (zPay.of q842 q94) (fun H ls hH h2 => zInv_V C (As := [.int j_72]) (rest := []) (ci := 15) (T := TX16) (N := 5) rfl (zSee.pool hP_69) hH q839 q841 qs20 (Or.inl rfl) q842 mh_X16 np_X16_fault dX16_single_110) (tX16_fault l w hbn e_74) (by show 5 + 1 ≤ fr + 24; omega) (by show 0 + (2 + 11) + 74 ≤ lo + 300; omega) ?_
                obtain ⟨rfl, rfl⟩ := fin_ hf
                exact z_tout C (by decide)
            replace hf := ej_72
            refine z_icmp_ne C 109 dX16_single_102 (by decide) (fun c_89 => ?_) (fun c_89 => ?_)
            · replace hf := ifp_f c_89 hf
              refine z_iconst C 0 dX16_single_109 (by decide) ?_
              subst hf
              exact z_lv [1, 0] rfl hjj_72
            · replace hf := ifp_t c_89 hf
              refine z_iconst C 1 dX16_single_105 (by decide) ?_
              refine z_goto C 110 dX16_single_106 (by decide) ?_
              subst hf
              exact z_lv [1, 0] rfl hjj_72
          · dsimp only [sc] at hf
            refine z_callt C (rest := []) (av := (.ref a :: [])) (zPay.of q710 q94) (fun H ls hH h2 => zInv_V C (As := []) (rest := []) (ci := 15) (T := TX16) (N := 5) rfl (zSee.pool hP_59) hH q707 q709 qs11 (Or.inl rfl) q710 mh_X16 np_X16_either dX16_single_91) (hrc.1 _ _ _ e_61) (by show fr + 1 ≤ fr + 24; omega) (by show 0 + (2 + 11) + lo ≤ lo + 300; omega) ?_
            obtain ⟨rfl, rfl⟩ := fin_ hf
            exact z_tout C (by decide)
        · dsimp only [sc] at hf
          refine z_callt C (rest := []) (av := (.ref a :: [])) (zPay.of q838 q94) (fun H ls hH h2 => zInv_V C (As := []) (rest := []) (ci := 15) (T := TX16) (N := 5) rfl (zSee.pool hP_5) hH q835 q837 qs19 (Or.inl rfl) q838 mh_X16 np_X16_opens dX16_single_87) (tX16_opens l w hbn e_51) (by show 6 + 1 ≤ fr + 24; omega) (by show 0 + (1 + 11) + 87 ≤ lo + 300; omega) ?_
          obtain ⟨rfl, rfl⟩ := fin_ hf
          exact z_tout C (by decide)
    · replace hf := if_f c_11 hf
      refine z_aload_n C 0 dX16_single_49 rfl rfl ?_
      obtain ⟨r_90, σ_92, e_91, hf⟩ := bd_ hf
      rcases r_90 with ⟨⟩ | t_94
      · dsimp only [sc] at hf
        refine z_callv C (rest := []) (av := (.ref a :: [])) (zPay.of q838 q94) (fun H ls hH h2 => zInv_V C (As := []) (rest := []) (ci := 15) (T := TX16) (N := 5) rfl (zSee.pool hP_5) hH q835 q837 qs19 (Or.inl rfl) q838 mh_X16 np_X16_opens dX16_single_50) (tX16_opens l w hbn e_91) (by show 6 + 1 ≤ fr + 24; omega) (by show 0 + (1 + 11) + 87 ≤ lo + 300; omega) ?_
        refine z_aload_n C 0 dX16_single_53 rfl rfl ?_
        obtain ⟨⟨rs_95, rt_96, ro_97⟩, e_98, hf⟩ := bo_ hf
        try dsimp only at hf
        have hP_99 := oRd_ e_98
        obtain ⟨r_100, σ_102, e_101, hf⟩ := bd_ hf
        rcases r_100 with r_103 | t_104
        · dsimp only [sc] at hf
          refine z_callr C (rest := []) (av := (.ref a :: [])) (zPay.of q730 q94) (fun H ls hH h2 => zInv_V C (As := []) (rest := []) (ci := 15) (T := TX16) (N := 5) rfl (zSee.pool hP_99) hH q727 q729 qs16 (Or.inl rfl) q730 mh_X16 np_X16_single dX16_single_54) (hrc.2.2.2.2.2 _ _ _ e_101) (by show fr + 1 ≤ fr + 24; omega) (by show 0 + (3 + 11) + lo ≤ lo + 300; omega) ?_
          refine z_astore_n C dX16_single_57 rfl (by decide) rfl (lv' := [(1, .ref r_103), (0, .ref a)]) ?_
          refine z_aload_n C 1 dX16_single_58 rfl rfl ?_
          refine z_dup C dX16_single_59 rfl ?_
          obtain ⟨⟨rs_105, rt_106, ro_107⟩, e_108, hf⟩ := bo_ hf
          try dsimp only at hf
          have hP_109 := oRd_ e_108
          refine z_get C (ci := 15) (Cn := RX16) (T := TX16) (N := 5) (fs := [.ref (zsK w i), .ref (w.2.2 (100 + 16)), .int rs_105, .int rt_106, .int ro_107]) (v := .int ro_107) rfl in_X16 (zSee.pool hP_109) 4 (by decide) q691 (Or.inl rfl) rfl dX16_single_60 ?_
          refine z_iconst C 1 dX16_single_63 (by decide) ?_
          refine z_isub C dX16_single_64 ?_
          obtain ⟨f_110, ef_110, hf⟩ := nmo_ hf
          refine z_top ef_110 ?_
          refine z_putP C hP_109 (zPut C (T := TX16) (N := 5) rfl in_X16 tyX16 tyX16_ok nmX16 4 (by decide) q691 (Or.inl rfl) rfl rfl rfl (Nat.le_of_ble_eq_true rfl) dX16_single_65) ?_
          obtain ⟨σ_111, eσ_111, hf⟩ := nmo_ hf
          refine z_w eσ_111.symm ?_
          have hP_112 : σ_111.2.2.1 a = some (.inr (15, [.ref (zsK w i), .ref (w.2.2 (100 + 16)), .int rs_105, .int rt_106, .int f_110])) := by rw [eσ_111]; exact sP_self
          obtain ⟨g_113, hf⟩ := gd_ hf
          obtain ⟨g_114, hf⟩ := gd_ hf
          refine z_new C (ci := 18) (Cn := RX19) (T := TX19) (N := 1) rfl in_X19 tyX19 tyX19_ok q862 q863 q102 [.null] (fun j hj => by rcases (show j = 0 by omega) with rfl <;> rfl) g_113 g_114 dX16_single_68 ?_
          obtain ⟨a_116, ea_116, hf⟩ := nmo_ hf
          refine z_eq (congrArg Value.ref ea_116.symm) ?_
          obtain ⟨σ_115, eσ_115, hf⟩ := nmo_ hf
          refine z_w eσ_115.symm ?_
          refine z_dup C dX16_single_71 rfl ?_
          refine z_aload_n C 0 dX16_single_72 rfl rfl ?_
          obtain ⟨⟨⟩, σ_120, e_119, hf⟩ := bd_ hf
          refine z_callv C (rest := [.ref a_116]) (av := (.ref a_116 :: [.ref r_103])) (zPay.of q866 q102) (fun H ls hH h2 => zInv_I C (As := [.ref r_103]) (rest := [.ref a_116]) q864 q865 q866 rfl mh_X19 np_X19_init dX16_single_73) (tX19_init l w e_119) (by show 2 + 1 ≤ fr + 24; omega) (by show 1 + (2 + 11) + 24 ≤ lo + 300; omega) ?_
          obtain ⟨rfl, rfl⟩ := fin_ hf
          exact z_aret C (Or.inl ⟨_, rfl⟩) (Or.inr ⟨_, rfl⟩) dX16_single_76
        · dsimp only [sc] at hf
          refine z_callt C (rest := []) (av := (.ref a :: [])) (zPay.of q730 q94) (fun H ls hH h2 => zInv_V C (As := []) (rest := []) (ci := 15) (T := TX16) (N := 5) rfl (zSee.pool hP_99) hH q727 q729 qs16 (Or.inl rfl) q730 mh_X16 np_X16_single dX16_single_54) (hrc.2.2.2.2.2 _ _ _ e_101) (by show fr + 1 ≤ fr + 24; omega) (by show 0 + (3 + 11) + lo ≤ lo + 300; omega) ?_
          obtain ⟨rfl, rfl⟩ := fin_ hf
          exact z_tout C (by decide)
      · dsimp only [sc] at hf
        refine z_callt C (rest := []) (av := (.ref a :: [])) (zPay.of q838 q94) (fun H ls hH h2 => zInv_V C (As := []) (rest := []) (ci := 15) (T := TX16) (N := 5) rfl (zSee.pool hP_5) hH q835 q837 qs19 (Or.inl rfl) q838 mh_X16 np_X16_opens dX16_single_50) (tX16_opens l w hbn e_91) (by show 6 + 1 ≤ fr + 24; omega) (by show 0 + (1 + 11) + 87 ≤ lo + 300; omega) ?_
        obtain ⟨rfl, rfl⟩ := fin_ hf
        exact z_tout C (by decide)
  · replace hf := if_f c_8 hf
    refine z_aload_n C 0 dX16_single_11 rfl rfl ?_
    refine z_dup C dX16_single_12 rfl ?_
    refine z_get C (ci := 15) (Cn := RX16) (T := TX16) (N := 5) (fs := [.ref (zsK w i), .ref (w.2.2 (100 + 16)), .int rs_1, .int rt_2, .int ro_3]) (v := .int rt_2) rfl in_X16 (zSee.pool hP_5) 3 (by decide) q690 (Or.inl rfl) rfl dX16_single_13 ?_
    refine z_iconst C 1 dX16_single_16 (by decide) ?_
    refine z_iadd C dX16_single_17 ?_
    obtain ⟨f_121, ef_121, hf⟩ := nmo_ hf
    refine z_top ef_121 ?_
    refine z_putP C hP_5 (zPut C (T := TX16) (N := 5) rfl in_X16 tyX16 tyX16_ok nmX16 3 (by decide) q690 (Or.inl rfl) rfl rfl rfl (Nat.le_of_ble_eq_true rfl) dX16_single_18) ?_
    obtain ⟨σ_122, eσ_122, hf⟩ := nmo_ hf
    refine z_w eσ_122.symm ?_
    have hP_123 : σ_122.2.2.1 a = some (.inr (15, [.ref (zsK w i), .ref (w.2.2 (100 + 16)), .int rs_1, .int f_121, .int ro_3])) := by rw [eσ_122]; exact sP_self
    obtain ⟨g_124, hf⟩ := gd_ hf
    obtain ⟨g_125, hf⟩ := gd_ hf
    refine z_new C (ci := 16) (Cn := RX17) (T := TX17) (N := 1) rfl in_X17 tyX17 tyX17_ok q821 q822 q100 [.int 0] (fun j hj => by rcases (show j = 0 by omega) with rfl <;> rfl) g_124 g_125 dX16_single_21 ?_
    obtain ⟨a_127, ea_127, hf⟩ := nmo_ hf
    refine z_eq (congrArg Value.ref ea_127.symm) ?_
    obtain ⟨σ_126, eσ_126, hf⟩ := nmo_ hf
    refine z_w eσ_126.symm ?_
    refine z_dup C dX16_single_24 rfl ?_
    refine z_aload_n C 0 dX16_single_25 rfl rfl ?_
    obtain ⟨⟨rs_129, rt_130, ro_131⟩, e_132, hf⟩ := bo_ hf
    try dsimp only at hf
    have hP_133 := oRd_ e_132
    refine z_get C (ci := 15) (Cn := RX16) (T := TX16) (N := 5) (fs := [.ref (zsK w i), .ref (w.2.2 (100 + 16)), .int rs_129, .int rt_130, .int ro_131]) (v := .ref (w.2.2 (100 + 16))) rfl in_X16 (zSee.pool hP_133) 1 (by decide) q688 (Or.inl rfl) rfl dX16_single_26 ?_
    refine z_aload_n C 0 dX16_single_29 rfl rfl ?_
    refine z_get C (ci := 15) (Cn := RX16) (T := TX16) (N := 5) (fs := [.ref (zsK w i), .ref (w.2.2 (100 + 16)), .int rs_129, .int rt_130, .int ro_131]) (v := .int rt_130) rfl in_X16 (zSee.pool hP_133) 3 (by decide) q690 (Or.inl rfl) rfl dX16_single_30 ?_
    refine z_iconst C 1 dX16_single_33 (by decide) ?_
    refine z_isub C dX16_single_34 ?_
    obtain ⟨g_134, hf⟩ := gd_ hf
    refine z_baloadF C (ly_b16 zb100) g_134 dX16_single_35 ?_
    obtain ⟨⟨⟩, σ_137, e_136, hf⟩ := bd_ hf
    refine z_callv C (rest := [.ref a_127]) (av := (.ref a_127 :: [.int (σ_126.1 (100 + 16) ((rt_130 - 1).toNatClampNeg))])) (zPay.of q825 q100) (fun H ls hH h2 => zInv_I C (As := [.int (σ_126.1 (100 + 16) ((rt_130 - 1).toNatClampNeg))]) (rest := [.ref a_127]) q823 q824 q825 rfl mh_X17 np_X17_init dX16_single_36) (tX17_init l w e_136) (by show 2 + 1 ≤ fr + 24; omega) (by show 1 + (2 + 11) + 24 ≤ lo + 300; omega) ?_
    obtain ⟨rfl, rfl⟩ := fin_ hf
    exact z_aret C (Or.inl ⟨_, rfl⟩) (Or.inr ⟨_, rfl⟩) dX16_single_39
def fX16_P (w : ZW) (a i : Nat) (bn : List Int32) : Nat → Nat → ZS → Option ((Nat ⊕ Nat) × ZS)
  | 0, _, _ => none
  | d + 1, 0, σ => fX16_either (fX16_P w a i bn d) w σ a i bn
  | d + 1, 1, σ => fX16_both (fX16_P w a i bn d) w σ a i bn
  | d + 1, 2, σ => fX16_relation (fX16_P w a i bn d) w σ a i bn
  | d + 1, 3, σ => fX16_sum (fX16_P w a i bn d) w σ a i bn
  | d + 1, 4, σ => fX16_product (fX16_P w a i bn d) w σ a i bn
  | d + 1, _, σ => fX16_single (fX16_P w a i bn d) w σ a i bn
theorem tX16_P (l : Launch) (w : ZW) {a i : Nat} {bn : List Int32} (hbn : zsB[i]? = some bn) : ∀ d, zRecR l w a (fX16_P w a i bn d) (24 * d) (300 * d)
  | 0 => ⟨fun σ σ' r h => none_ h, fun σ σ' r h => none_ h, fun σ σ' r h => none_ h, fun σ σ' r h => none_ h, fun σ σ' r h => none_ h, fun σ σ' r h => none_ h⟩
  | d + 1 => ⟨fun σ σ' r h => tX16_either l w hbn (tX16_P l w hbn d) h, fun σ σ' r h => tX16_both l w hbn (tX16_P l w hbn d) h, fun σ σ' r h => tX16_relation l w hbn (tX16_P l w hbn d) h, fun σ σ' r h => tX16_sum l w hbn (tX16_P l w hbn d) h, fun σ σ' r h => tX16_product l w hbn (tX16_P l w hbn d) h, fun σ σ' r h => tX16_single l w hbn (tX16_P l w hbn d) h⟩
