/-! the class, walked (written by gen/main_x.py) -/
def fX2_elseBy (σ : ZS) (b : Nat) (p1 : Int32) (p2 : Int32) (p3 : Int32) : Option (Int32 × ZS) := bd (mo (σ.2.1 (b + 14) ((1 : Int32).toNatClampNeg)) (some (0, σ)) (fun (a_4 : Nat) => bd (fX3_with σ b 100 p1) (fun _ σ_8 => bd (fX3_with σ_8 b 109 p2) (fun _ σ_11 => bd (fX3_with σ_11 b 104 p3) (fun _ σ_14 => bo (fV 60 σ_14 b a_4) (fun r_15 => some (r_15, σ_14))))))) (fun (j_1 : Int32) σ_2 => some (fX2_held j_1 0 1, σ_2))
set_option maxHeartbeats 4000000 in
set_option maxRecDepth 100000 in
theorem tX2_elseBy (l : Launch) (w : ZW) {σ σ' : ZS} {b : Nat} {p1 : Int32} {p2 : Int32} {p3 : Int32} (hb : zBay b) {r : Int32} (hf : fX2_elseBy σ b p1 p2 p3 = some (r, σ')) : zC l w zLx yX2_elseBy (ws_ yX2_elseBy cX2_elseBy 5 (some .int)) 721 6015 [.ref (w.2.2 b), .int p1, .int p2, .int p3] σ (.returned (some (.int r))) σ' := by
  refine zC.of (plainFor_of_name (by decide)) (Nat.le_of_ble_eq_true rfl) ?_
  intro p e s m args below meth c C hnm
  show Z p l e _ s m args below meth c _ w _ _ 5 σ 0 [(0, .ref (w.2.2 b)), (1, .int p1), (2, .int p2), (3, .int p3)] []
  unfold fX2_elseBy at hf
  refine z_aload_n C 0 dX2_elseBy_0 rfl rfl ?_
  refine z_getR C (ly_b0 hb) (Cn := RX2) (T := TX2) (N := 20) rfl in_X2 13 (by decide) q239 (Or.inl rfl) rfl dX2_elseBy_1 ?_
  refine z_iconst C 1 dX2_elseBy_4 (by decide) ?_
  refine z_aaloadF C (ly_b14 hb) rfl (by decide) dX2_elseBy_5 ?_
  obtain ⟨j_1, σ_2, e_3, hf⟩ := bd_ hf
  have hje_3 : Z p l e (zRm 721 6015 σ) s m args below meth c (zQ below w zLx σ (.returned (some (.int r))) σ' args s) w zLx (zA w zLx σ) 5 σ_2 44 [(0, .ref (w.2.2 b)), (1, .int p1), (2, .int p2), (3, .int p3)] [.int j_1] := by
    refine z_istore C dX2_elseBy_44 (by decide) rfl (lv' := [(4, .int j_1), (0, .ref (w.2.2 b)), (1, .int p1), (2, .int p2), (3, .int p3)]) ?_
    refine z_iload C 0 dX2_elseBy_46 rfl ?_
    refine z_iconst C 0 dX2_elseBy_48 (by decide) ?_
    refine z_iconst C 1 dX2_elseBy_49 (by decide) ?_
    refine z_calli C (rest := []) (av := [.int j_1, .int 0, .int 1]) (zPay.of q421 q79) (fun H ls hH h2 => zInv_S C (As := [.int j_1, .int 0, .int 1]) (rest := []) q419 q420 q79 (Or.inl rfl) q421 mh_X2 np_X2_held dX2_elseBy_50) (tX2_held l w zLx σ_2 j_1 0 1) (Nat.le_of_ble_eq_true rfl) (Nat.le_of_ble_eq_true rfl) ?_
    obtain ⟨rfl, rfl⟩ := fin_ hf
    exact z_iret C rfl dX2_elseBy_53
  replace hf := e_3
  rcases oz (σ.2.1 (b + 14) ((1 : Int32).toNatClampNeg)) with e_5 | ⟨a_4, e_5⟩
  · replace hf := mo_n e_5 hf
    refine z_eq (rf_n e_5) ?_
    refine z_ifnonnullN C dX2_elseBy_6 ?_
    refine z_iconst C 0 dX2_elseBy_9 (by decide) ?_
    refine z_goto C 44 dX2_elseBy_10 (by decide) ?_
    obtain ⟨rfl, rfl⟩ := fin_ hf
    exact hje_3
  · replace hf := mo_s e_5 hf
    refine z_eq (rf_s e_5) ?_
    refine z_ifnonnull C 13 dX2_elseBy_6 (by decide) ?_
    refine z_aload_n C 0 dX2_elseBy_13 rfl rfl ?_
    refine z_getR C (ly_b0 hb) (Cn := RX2) (T := TX2) (N := 20) rfl in_X2 13 (by decide) q239 (Or.inl rfl) rfl dX2_elseBy_14 ?_
    refine z_iconst C 1 dX2_elseBy_17 (by decide) ?_
    refine z_aaloadF C (ly_b14 hb) rfl (by decide) dX2_elseBy_18 ?_
    refine z_eq (rf_s e_5) ?_
    refine z_aload_n C 0 dX2_elseBy_19 rfl rfl ?_
    refine z_getR C (ly_b0 hb) (Cn := RX2) (T := TX2) (N := 20) rfl in_X2 19 (by decide) q251 (Or.inl rfl) rfl dX2_elseBy_20 ?_
    refine z_bipush C 100 dX2_elseBy_23 (by decide) ?_
    refine z_iload_n C 1 dX2_elseBy_25 rfl rfl ?_
    obtain ⟨⟨⟩, σ_8, e_7, hf⟩ := bd_ hf
    refine z_callr C (rest := [.ref a_4]) (av := (.ref (w.2.2 (b + 20)) :: [.int 100, .int p1])) (zPay.of q398 q80) (fun H ls hH h2 => zInv_V C (As := [.int 100, .int p1]) (rest := [.ref a_4]) (ci := 3) (T := TX3) (N := 1) rfl (zSee.fix (ly_b20 hb)) hH q395 q396 q397 (Or.inl rfl) q398 mh_X3 np_X3_with dX2_elseBy_26) (tX3_with l w hb e_7) (Nat.le_of_ble_eq_true rfl) (Nat.le_of_ble_eq_true rfl) ?_
    refine z_bipush C 109 dX2_elseBy_29 (by decide) ?_
    refine z_iload_n C 2 dX2_elseBy_31 rfl rfl ?_
    obtain ⟨⟨⟩, σ_11, e_10, hf⟩ := bd_ hf
    refine z_callr C (rest := [.ref a_4]) (av := (.ref (w.2.2 (b + 20)) :: [.int 109, .int p2])) (zPay.of q398 q80) (fun H ls hH h2 => zInv_V C (As := [.int 109, .int p2]) (rest := [.ref a_4]) (ci := 3) (T := TX3) (N := 1) rfl (zSee.fix (ly_b20 hb)) hH q395 q396 q397 (Or.inl rfl) q398 mh_X3 np_X3_with dX2_elseBy_32) (tX3_with l w hb e_10) (Nat.le_of_ble_eq_true rfl) (Nat.le_of_ble_eq_true rfl) ?_
    refine z_bipush C 104 dX2_elseBy_35 (by decide) ?_
    refine z_iload_n C 3 dX2_elseBy_37 rfl rfl ?_
    obtain ⟨⟨⟩, σ_14, e_13, hf⟩ := bd_ hf
    refine z_callr C (rest := [.ref a_4]) (av := (.ref (w.2.2 (b + 20)) :: [.int 104, .int p3])) (zPay.of q398 q80) (fun H ls hH h2 => zInv_V C (As := [.int 104, .int p3]) (rest := [.ref a_4]) (ci := 3) (T := TX3) (N := 1) rfl (zSee.fix (ly_b20 hb)) hH q395 q396 q397 (Or.inl rfl) q398 mh_X3 np_X3_with dX2_elseBy_38) (tX3_with l w hb e_13) (Nat.le_of_ble_eq_true rfl) (Nat.le_of_ble_eq_true rfl) ?_
    obtain ⟨r_15, e_16, hf⟩ := bo_ hf
    refine z_term C q399 (tV l w hb 60 _ _ e_16) dX2_elseBy_41 (Nat.le_of_ble_eq_true rfl) (Nat.le_of_ble_eq_true rfl) ?_
    obtain ⟨rfl, rfl⟩ := fin_ hf
    exact hje_3
def fX10_init (w : ZW) (σ : ZS) (a : Nat) (ci : Nat) (p2 : Int32) (p3 : Int32) : Option (Unit × ZS) := bd (fX9_init w σ a ci p2 p3) (fun _ σ_3 => some ((), σ_3))
set_option maxHeartbeats 4000000 in
set_option maxRecDepth 100000 in
theorem tX10_init (l : Launch) (w : ZW) {σ σ' : ZS} {a : Nat} {ci : Nat} {p2 : Int32} {p3 : Int32} (hci : zShipC ci) (hP : σ.2.2.1 a = some (.inr (ci, [.null, .int 0, .int 0]))) (hf : fX10_init w σ a ci p2 p3 = some ((), σ')) : zC l w zLx yX10_init (ws_ yX10_init cX10_init 4 none) 2 27 [.ref a, .ref (w.2.2 4), .int p2, .int p3] σ (.returned none) σ' := by
  refine zC.of (plainFor_of_name (by decide)) (Nat.le_of_ble_eq_true rfl) ?_
  intro p e s m args below meth c C hnm
  show Z p l e _ s m args below meth c _ w _ _ 4 σ 0 [(0, .ref a), (1, .ref (w.2.2 4)), (2, .int p2), (3, .int p3)] []
  unfold fX10_init at hf
  refine z_aload_n C 0 dX10_init_0 rfl rfl ?_
  refine z_aload_n C 1 dX10_init_1 rfl rfl ?_
  refine z_iload_n C 2 dX10_init_2 rfl rfl ?_
  refine z_iload_n C 3 dX10_init_3 rfl rfl ?_
  obtain ⟨⟨⟩, σ_3, e_2, hf⟩ := bd_ hf
  refine z_callv C (rest := []) (av := (.ref a :: [.ref (w.2.2 4), .int p2, .int p3])) (zPay.of q463 q87) (fun H ls hH h2 => zInv_I C (As := [.ref (w.2.2 4), .int p2, .int p3]) (rest := []) q461 q462 q463 rfl mh_X9 np_X9_init dX10_init_4) (tX9_init l w hci hP e_2) (Nat.le_of_ble_eq_true rfl) (Nat.le_of_ble_eq_true rfl) ?_
  obtain ⟨-, rfl⟩ := fin_ hf
  exact z_vret C dX10_init_7
def fX10_isOf (a : Nat) (ci : Nat) (n : Int32) (k : Int32) (p1 : Int32) : Int32 := nm (if p1 = 1 then 1 else (if (fX9_isOf a ci n k p1) = 0 then 0 else 1)) (fun (j_1 : Int32) => j_1)
set_option maxHeartbeats 4000000 in
set_option maxRecDepth 100000 in
theorem tX10_isOf (l : Launch) (w : ZW) (L : ZL) (σ : ZS) (a : Nat) (ci : Nat) (n : Int32) (k : Int32) (p1 : Int32) (hci : zShipC ci) (hP : σ.2.2.1 a = some (.inr (ci, [.ref (w.2.2 4), .int n, .int k]))) : zC l w L yX10_isOf (ws_ yX10_isOf cX10_isOf 2 (some .boolean)) 1 13 [.ref a, .int p1] σ (.returned (some (.int (fX10_isOf a ci n k p1)))) σ := by
  obtain ⟨r, hf⟩ : ∃ r, r = fX10_isOf a ci n k p1 := ⟨_, rfl⟩
  rw [← hf]
  refine zC.of (plainFor_of_name (by decide)) (Nat.le_of_ble_eq_true rfl) ?_
  intro p e s m args below meth c C hnm
  show Z p l e _ s m args below meth c _ w _ _ 2 σ 0 [(0, .ref a), (1, .int p1)] []
  unfold fX10_isOf at hf
  refine z_iload_n C 1 dX10_isOf_0 rfl rfl ?_
  refine z_iconst C 1 dX10_isOf_1 (by decide) ?_
  obtain ⟨j_1, ej_1, hf⟩ := nmp_ hf
  have hj_1 : j_1 = 0 ∨ j_1 = 1 := by rw [ej_1]; (try dsimp only [nm]); (repeat' split) <;> first | exact Or.inl rfl | exact Or.inr rfl
  have hjj_1 : Z p l e (zRm 1 13 σ) s m args below meth c (zQ below w L σ (.returned (some (.int r))) σ args s) w L (zA w L σ) 2 σ 18 [(0, .ref a), (1, .int p1)] [.int j_1] := by
    subst hf
    exact z_iret C (b01 hj_1) dX10_isOf_18
  replace hf := ej_1
  refine z_icmp_eq C 13 dX10_isOf_2 (by decide) (fun c_2 => ?_) (fun c_2 => ?_)
  · replace hf := ifp_t c_2 hf
    refine z_iconst C 1 dX10_isOf_13 (by decide) ?_
    refine z_goto C 18 dX10_isOf_14 (by decide) ?_
    subst hf
    exact hjj_1
  · replace hf := ifp_f c_2 hf
    refine z_aload_n C 0 dX10_isOf_5 rfl rfl ?_
    refine z_iload_n C 1 dX10_isOf_6 rfl rfl ?_
    refine z_calli C (rest := []) (av := (.ref a :: [.int p1])) (zPay.of q669 q87) (fun H ls hH h2 => zInv_SU C (As := [.int p1]) (rest := []) (zShip_cl hci).choose_spec.choose_spec (zSee.pool hP) hH (x := ⟨"OldLight$Ship", "isOf", "(I)Z"⟩) q648 q644 ⟨rfl, rfl⟩ q492 (zSub_self rfl) q642 (Or.inl rfl) q669 (by decide) np_X9_isOf dX10_isOf_7) (tX9_isOf l w L σ a ci n k p1 hci hP) (Nat.le_of_ble_eq_true rfl) (Nat.le_of_ble_eq_true rfl) ?_
    refine z_if_eq C 17 dX10_isOf_10 (by decide) (fun c_3 => ?_) (fun c_3 => ?_)
    · replace hf := ifp_t c_3 hf
      refine z_iconst C 0 dX10_isOf_17 (by decide) ?_
      subst hf
      exact hjj_1
    · replace hf := ifp_f c_3 hf
      refine z_iconst C 1 dX10_isOf_13 (by decide) ?_
      refine z_goto C 18 dX10_isOf_14 (by decide) ?_
      subst hf
      exact hjj_1
theorem bX10_isOf (a : Nat) (ci : Nat) (n : Int32) (k : Int32) (p1 : Int32) : fX10_isOf a ci n k p1 = 0 ∨ fX10_isOf a ci n k p1 = 1 := by
  unfold fX10_isOf
  simp only [nm]
  repeat' split
  all_goals first | exact Or.inl rfl | exact Or.inr rfl
def fX10_sails (w : ZW) (σ : ZS) (a : Nat) (ci : Nat) (n : Int32) (k : Int32) (p1 : Int32) : Option (Int32 × ZS) := bd (fX4_begins σ 20) (fun _ σ_3 => gd (oShip w (σ_3.2.2.1 a) = some (ci, n, k)) (bd (fX9_sails w σ_3 a ci n k p1) (fun r_6 σ_8 => some (r_6 * 3, σ_8))))
set_option maxHeartbeats 4000000 in
set_option maxRecDepth 100000 in
theorem tX10_sails (l : Launch) (w : ZW) {σ σ' : ZS} {a : Nat} {ci : Nat} {n : Int32} {k : Int32} {p1 : Int32} (hci : zShipC ci) (hP : σ.2.2.1 a = some (.inr (ci, [.ref (w.2.2 4), .int n, .int k]))) {r : Int32} (hf : fX10_sails w σ a ci n k p1 = some (r, σ')) : zC l w zLx yX10_sails (ws_ yX10_sails cX10_sails 2 (some .int)) 2 26 [.ref a, .int p1] σ (.returned (some (.int r))) σ' := by
  refine zC.of (plainFor_of_name (by decide)) (Nat.le_of_ble_eq_true rfl) ?_
  intro p e s m args below meth c C hnm
  show Z p l e _ s m args below meth c _ w _ _ 2 σ 0 [(0, .ref a), (1, .int p1)] []
  unfold fX10_sails at hf
  refine z_aload_n C 0 dX10_sails_0 rfl rfl ?_
  refine z_getS0 C hci hP q466 (Or.inr q467) dX10_sails_1 ?_
  refine z_bipush C 20 dX10_sails_4 (by decide) ?_
  obtain ⟨⟨⟩, σ_3, e_2, hf⟩ := bd_ hf
  refine z_callv C (rest := []) (av := (.ref (w.2.2 4) :: [.int 20])) (zPay.of q1105 q81) (fun H ls hH h2 => zInv_V C (As := [.int 20]) (rest := []) (ci := 4) (T := TX4) (N := 2) rfl (zSee.fix ly_x4) hH q1102 q1103 q1104 (Or.inl rfl) q1105 mh_X4 np_X4_begins dX10_sails_6) (tX4_begins l w e_2) (Nat.le_of_ble_eq_true rfl) (Nat.le_of_ble_eq_true rfl) ?_
  refine z_aload_n C 0 dX10_sails_9 rfl rfl ?_
  refine z_iload_n C 1 dX10_sails_10 rfl rfl ?_
  obtain ⟨g_4, hf⟩ := gd_ hf
  have hP_5 := (oShip_ g_4).1
  obtain ⟨r_6, σ_8, e_7, hf⟩ := bd_ hf
  refine z_calli C (rest := []) (av := (.ref a :: [.int p1])) (zPay.of q1108 q87) (fun H ls hH h2 => zInv_SU C (As := [.int p1]) (rest := []) (zShip_cl hci).choose_spec.choose_spec (zSee.pool hP_5) hH (x := ⟨"OldLight$Ship", "sails", "(I)I"⟩) q1106 q1881 ⟨rfl, rfl⟩ q492 (zSub_self rfl) q1107 (Or.inl rfl) q1108 (by decide) np_X9_sails dX10_sails_11) (tX9_sails l w hci hP_5 e_7) (Nat.le_of_ble_eq_true rfl) (Nat.le_of_ble_eq_true rfl) ?_
  refine z_iconst C 3 dX10_sails_14 (by decide) ?_
  refine z_imul C dX10_sails_15 ?_
  obtain ⟨rfl, rfl⟩ := fin_ hf
  exact z_iret C rfl dX10_sails_16
def fX11_init (w : ZW) (σ : ZS) (a : Nat) (ci : Nat) (p2 : Int32) (p3 : Int32) : Option (Unit × ZS) := bd (fX9_init w σ a ci p2 p3) (fun _ σ_3 => some ((), σ_3))
set_option maxHeartbeats 4000000 in
set_option maxRecDepth 100000 in
theorem tX11_init (l : Launch) (w : ZW) {σ σ' : ZS} {a : Nat} {ci : Nat} {p2 : Int32} {p3 : Int32} (hci : zShipC ci) (hP : σ.2.2.1 a = some (.inr (ci, [.null, .int 0, .int 0]))) (hf : fX11_init w σ a ci p2 p3 = some ((), σ')) : zC l w zLx yX11_init (ws_ yX11_init cX11_init 4 none) 2 27 [.ref a, .ref (w.2.2 4), .int p2, .int p3] σ (.returned none) σ' := by
  refine zC.of (plainFor_of_name (by decide)) (Nat.le_of_ble_eq_true rfl) ?_
  intro p e s m args below meth c C hnm
  show Z p l e _ s m args below meth c _ w _ _ 4 σ 0 [(0, .ref a), (1, .ref (w.2.2 4)), (2, .int p2), (3, .int p3)] []
  unfold fX11_init at hf
  refine z_aload_n C 0 dX11_init_0 rfl rfl ?_
  refine z_aload_n C 1 dX11_init_1 rfl rfl ?_
  refine z_iload_n C 2 dX11_init_2 rfl rfl ?_
  refine z_iload_n C 3 dX11_init_3 rfl rfl ?_
  obtain ⟨⟨⟩, σ_3, e_2, hf⟩ := bd_ hf
  refine z_callv C (rest := []) (av := (.ref a :: [.ref (w.2.2 4), .int p2, .int p3])) (zPay.of q463 q87) (fun H ls hH h2 => zInv_I C (As := [.ref (w.2.2 4), .int p2, .int p3]) (rest := []) q498 q462 q463 rfl mh_X9 np_X9_init dX11_init_4) (tX9_init l w hci hP e_2) (Nat.le_of_ble_eq_true rfl) (Nat.le_of_ble_eq_true rfl) ?_
  obtain ⟨-, rfl⟩ := fin_ hf
  exact z_vret C dX11_init_7
def fX11_isOf (a : Nat) (ci : Nat) (n : Int32) (k : Int32) (p1 : Int32) : Int32 := nm (if p1 = 2 then 1 else (if (fX9_isOf a ci n k p1) = 0 then 0 else 1)) (fun (j_1 : Int32) => j_1)
set_option maxHeartbeats 4000000 in
set_option maxRecDepth 100000 in
theorem tX11_isOf (l : Launch) (w : ZW) (L : ZL) (σ : ZS) (a : Nat) (ci : Nat) (n : Int32) (k : Int32) (p1 : Int32) (hci : zShipC ci) (hP : σ.2.2.1 a = some (.inr (ci, [.ref (w.2.2 4), .int n, .int k]))) : zC l w L yX11_isOf (ws_ yX11_isOf cX11_isOf 2 (some .boolean)) 1 13 [.ref a, .int p1] σ (.returned (some (.int (fX11_isOf a ci n k p1)))) σ := by
  obtain ⟨r, hf⟩ : ∃ r, r = fX11_isOf a ci n k p1 := ⟨_, rfl⟩
  rw [← hf]
  refine zC.of (plainFor_of_name (by decide)) (Nat.le_of_ble_eq_true rfl) ?_
  intro p e s m args below meth c C hnm
  show Z p l e _ s m args below meth c _ w _ _ 2 σ 0 [(0, .ref a), (1, .int p1)] []
  unfold fX11_isOf at hf
  refine z_iload_n C 1 dX11_isOf_0 rfl rfl ?_
  refine z_iconst C 2 dX11_isOf_1 (by decide) ?_
  obtain ⟨j_1, ej_1, hf⟩ := nmp_ hf
  have hj_1 : j_1 = 0 ∨ j_1 = 1 := by rw [ej_1]; (try dsimp only [nm]); (repeat' split) <;> first | exact Or.inl rfl | exact Or.inr rfl
  have hjj_1 : Z p l e (zRm 1 13 σ) s m args below meth c (zQ below w L σ (.returned (some (.int r))) σ args s) w L (zA w L σ) 2 σ 18 [(0, .ref a), (1, .int p1)] [.int j_1] := by
    subst hf
    exact z_iret C (b01 hj_1) dX11_isOf_18
  replace hf := ej_1
  refine z_icmp_eq C 13 dX11_isOf_2 (by decide) (fun c_2 => ?_) (fun c_2 => ?_)
  · replace hf := ifp_t c_2 hf
    refine z_iconst C 1 dX11_isOf_13 (by decide) ?_
    refine z_goto C 18 dX11_isOf_14 (by decide) ?_
    subst hf
    exact hjj_1
  · replace hf := ifp_f c_2 hf
    refine z_aload_n C 0 dX11_isOf_5 rfl rfl ?_
    refine z_iload_n C 1 dX11_isOf_6 rfl rfl ?_
    refine z_calli C (rest := []) (av := (.ref a :: [.int p1])) (zPay.of q669 q87) (fun H ls hH h2 => zInv_SU C (As := [.int p1]) (rest := []) (zShip_cl hci).choose_spec.choose_spec (zSee.pool hP) hH (x := ⟨"OldLight$Ship", "isOf", "(I)Z"⟩) q663 q644 ⟨rfl, rfl⟩ q502 (zSub_self rfl) q642 (Or.inl rfl) q669 (by decide) np_X9_isOf dX11_isOf_7) (tX9_isOf l w L σ a ci n k p1 hci hP) (Nat.le_of_ble_eq_true rfl) (Nat.le_of_ble_eq_true rfl) ?_
    refine z_if_eq C 17 dX11_isOf_10 (by decide) (fun c_3 => ?_) (fun c_3 => ?_)
    · replace hf := ifp_t c_3 hf
      refine z_iconst C 0 dX11_isOf_17 (by decide) ?_
      subst hf
      exact hjj_1
    · replace hf := ifp_f c_3 hf
      refine z_iconst C 1 dX11_isOf_13 (by decide) ?_
      refine z_goto C 18 dX11_isOf_14 (by decide) ?_
      subst hf
      exact hjj_1
theorem bX11_isOf (a : Nat) (ci : Nat) (n : Int32) (k : Int32) (p1 : Int32) : fX11_isOf a ci n k p1 = 0 ∨ fX11_isOf a ci n k p1 = 1 := by
  unfold fX11_isOf
  simp only [nm]
  repeat' split
  all_goals first | exact Or.inl rfl | exact Or.inr rfl
def fX12_init (w : ZW) (σ : ZS) (a : Nat) (ci : Nat) (p2 : Int32) (p3 : Int32) : Option (Unit × ZS) := bd (fX9_init w σ a ci p2 p3) (fun _ σ_3 => some ((), σ_3))
set_option maxHeartbeats 4000000 in
set_option maxRecDepth 100000 in
theorem tX12_init (l : Launch) (w : ZW) {σ σ' : ZS} {a : Nat} {ci : Nat} {p2 : Int32} {p3 : Int32} (hci : zShipC ci) (hP : σ.2.2.1 a = some (.inr (ci, [.null, .int 0, .int 0]))) (hf : fX12_init w σ a ci p2 p3 = some ((), σ')) : zC l w zLx yX12_init (ws_ yX12_init cX12_init 4 none) 2 27 [.ref a, .ref (w.2.2 4), .int p2, .int p3] σ (.returned none) σ' := by
  refine zC.of (plainFor_of_name (by decide)) (Nat.le_of_ble_eq_true rfl) ?_
  intro p e s m args below meth c C hnm
  show Z p l e _ s m args below meth c _ w _ _ 4 σ 0 [(0, .ref a), (1, .ref (w.2.2 4)), (2, .int p2), (3, .int p3)] []
  unfold fX12_init at hf
  refine z_aload_n C 0 dX12_init_0 rfl rfl ?_
  refine z_aload_n C 1 dX12_init_1 rfl rfl ?_
  refine z_iload_n C 2 dX12_init_2 rfl rfl ?_
  refine z_iload_n C 3 dX12_init_3 rfl rfl ?_
  obtain ⟨⟨⟩, σ_3, e_2, hf⟩ := bd_ hf
  refine z_callv C (rest := []) (av := (.ref a :: [.ref (w.2.2 4), .int p2, .int p3])) (zPay.of q463 q87) (fun H ls hH h2 => zInv_I C (As := [.ref (w.2.2 4), .int p2, .int p3]) (rest := []) q508 q462 q463 rfl mh_X9 np_X9_init dX12_init_4) (tX9_init l w hci hP e_2) (Nat.le_of_ble_eq_true rfl) (Nat.le_of_ble_eq_true rfl) ?_
  obtain ⟨-, rfl⟩ := fin_ hf
  exact z_vret C dX12_init_7
def fX12_isOf (a : Nat) (ci : Nat) (n : Int32) (k : Int32) (p1 : Int32) : Int32 := nm (if p1 = 3 then 1 else (if (fX9_isOf a ci n k p1) = 0 then 0 else 1)) (fun (j_1 : Int32) => j_1)
set_option maxHeartbeats 4000000 in
set_option maxRecDepth 100000 in
theorem tX12_isOf (l : Launch) (w : ZW) (L : ZL) (σ : ZS) (a : Nat) (ci : Nat) (n : Int32) (k : Int32) (p1 : Int32) (hci : zShipC ci) (hP : σ.2.2.1 a = some (.inr (ci, [.ref (w.2.2 4), .int n, .int k]))) : zC l w L yX12_isOf (ws_ yX12_isOf cX12_isOf 2 (some .boolean)) 1 13 [.ref a, .int p1] σ (.returned (some (.int (fX12_isOf a ci n k p1)))) σ := by
  obtain ⟨r, hf⟩ : ∃ r, r = fX12_isOf a ci n k p1 := ⟨_, rfl⟩
  rw [← hf]
  refine zC.of (plainFor_of_name (by decide)) (Nat.le_of_ble_eq_true rfl) ?_
  intro p e s m args below meth c C hnm
  show Z p l e _ s m args below meth c _ w _ _ 2 σ 0 [(0, .ref a), (1, .int p1)] []
  unfold fX12_isOf at hf
  refine z_iload_n C 1 dX12_isOf_0 rfl rfl ?_
  refine z_iconst C 3 dX12_isOf_1 (by decide) ?_
  obtain ⟨j_1, ej_1, hf⟩ := nmp_ hf
  have hj_1 : j_1 = 0 ∨ j_1 = 1 := by rw [ej_1]; (try dsimp only [nm]); (repeat' split) <;> first | exact Or.inl rfl | exact Or.inr rfl
  have hjj_1 : Z p l e (zRm 1 13 σ) s m args below meth c (zQ below w L σ (.returned (some (.int r))) σ args s) w L (zA w L σ) 2 σ 18 [(0, .ref a), (1, .int p1)] [.int j_1] := by
    subst hf
    exact z_iret C (b01 hj_1) dX12_isOf_18
  replace hf := ej_1
  refine z_icmp_eq C 13 dX12_isOf_2 (by decide) (fun c_2 => ?_) (fun c_2 => ?_)
  · replace hf := ifp_t c_2 hf
    refine z_iconst C 1 dX12_isOf_13 (by decide) ?_
    refine z_goto C 18 dX12_isOf_14 (by decide) ?_
    subst hf
    exact hjj_1
  · replace hf := ifp_f c_2 hf
    refine z_aload_n C 0 dX12_isOf_5 rfl rfl ?_
    refine z_iload_n C 1 dX12_isOf_6 rfl rfl ?_
    refine z_calli C (rest := []) (av := (.ref a :: [.int p1])) (zPay.of q669 q87) (fun H ls hH h2 => zInv_SU C (As := [.int p1]) (rest := []) (zShip_cl hci).choose_spec.choose_spec (zSee.pool hP) hH (x := ⟨"OldLight$Ship", "isOf", "(I)Z"⟩) q659 q644 ⟨rfl, rfl⟩ q512 (zSub_self rfl) q642 (Or.inl rfl) q669 (by decide) np_X9_isOf dX12_isOf_7) (tX9_isOf l w L σ a ci n k p1 hci hP) (Nat.le_of_ble_eq_true rfl) (Nat.le_of_ble_eq_true rfl) ?_
    refine z_if_eq C 17 dX12_isOf_10 (by decide) (fun c_3 => ?_) (fun c_3 => ?_)
    · replace hf := ifp_t c_3 hf
      refine z_iconst C 0 dX12_isOf_17 (by decide) ?_
      subst hf
      exact hjj_1
    · replace hf := ifp_f c_3 hf
      refine z_iconst C 1 dX12_isOf_13 (by decide) ?_
      refine z_goto C 18 dX12_isOf_14 (by decide) ?_
      subst hf
      exact hjj_1
theorem bX12_isOf (a : Nat) (ci : Nat) (n : Int32) (k : Int32) (p1 : Int32) : fX12_isOf a ci n k p1 = 0 ∨ fX12_isOf a ci n k p1 = 1 := by
  unfold fX12_isOf
  simp only [nm]
  repeat' split
  all_goals first | exact Or.inl rfl | exact Or.inr rfl
def fX12_sounds (w : ZW) (σ : ZS) (a : Nat) (ci : Nat) (n : Int32) (k : Int32) (p1 : Int32) : Option (Int32 × ZS) := bd (fX4_begins σ 40) (fun _ σ_3 => gd (oShip w (σ_3.2.2.1 a) = some (ci, n, k)) (bd (fX9_sounds w σ_3 a ci n k p1) (fun r_6 σ_8 => some (-r_6, σ_8))))
set_option maxHeartbeats 4000000 in
set_option maxRecDepth 100000 in
theorem tX12_sounds (l : Launch) (w : ZW) {σ σ' : ZS} {a : Nat} {ci : Nat} {n : Int32} {k : Int32} {p1 : Int32} (hci : zShipC ci) (hP : σ.2.2.1 a = some (.inr (ci, [.ref (w.2.2 4), .int n, .int k]))) {r : Int32} (hf : fX12_sounds w σ a ci n k p1 = some (r, σ')) : zC l w zLx yX12_sounds (ws_ yX12_sounds cX12_sounds 2 (some .int)) 2 26 [.ref a, .int p1] σ (.returned (some (.int r))) σ' := by
  refine zC.of (plainFor_of_name (by decide)) (Nat.le_of_ble_eq_true rfl) ?_
  intro p e s m args below meth c C hnm
  show Z p l e _ s m args below meth c _ w _ _ 2 σ 0 [(0, .ref a), (1, .int p1)] []
  unfold fX12_sounds at hf
  refine z_aload_n C 0 dX12_sounds_0 rfl rfl ?_
  refine z_getS0 C hci hP q474 (Or.inr q475) dX12_sounds_1 ?_
  refine z_bipush C 40 dX12_sounds_4 (by decide) ?_
  obtain ⟨⟨⟩, σ_3, e_2, hf⟩ := bd_ hf
  refine z_callv C (rest := []) (av := (.ref (w.2.2 4) :: [.int 40])) (zPay.of q1105 q81) (fun H ls hH h2 => zInv_V C (As := [.int 40]) (rest := []) (ci := 4) (T := TX4) (N := 2) rfl (zSee.fix ly_x4) hH q1196 q1103 q1104 (Or.inl rfl) q1105 mh_X4 np_X4_begins dX12_sounds_6) (tX4_begins l w e_2) (Nat.le_of_ble_eq_true rfl) (Nat.le_of_ble_eq_true rfl) ?_
  refine z_aload_n C 0 dX12_sounds_9 rfl rfl ?_
  refine z_iload_n C 1 dX12_sounds_10 rfl rfl ?_
  obtain ⟨g_4, hf⟩ := gd_ hf
  have hP_5 := (oShip_ g_4).1
  obtain ⟨r_6, σ_8, e_7, hf⟩ := bd_ hf
  refine z_calli C (rest := []) (av := (.ref a :: [.int p1])) (zPay.of q1160 q87) (fun H ls hH h2 => zInv_SU C (As := [.int p1]) (rest := []) (zShip_cl hci).choose_spec.choose_spec (zSee.pool hP_5) hH (x := ⟨"OldLight$Ship", "sounds", "(I)I"⟩) q1197 q1892 ⟨rfl, rfl⟩ q512 (zSub_self rfl) q1159 (Or.inl rfl) q1160 (by decide) np_X9_sounds dX12_sounds_11) (tX9_sounds l w hci hP_5 e_7) (Nat.le_of_ble_eq_true rfl) (Nat.le_of_ble_eq_true rfl) ?_
  refine z_ineg C dX12_sounds_14 ?_
  obtain ⟨rfl, rfl⟩ := fin_ hf
  exact z_iret C rfl dX12_sounds_15
def fX13_init (w : ZW) (σ : ZS) (a : Nat) (ci : Nat) (p2 : Int32) (p3 : Int32) : Option (Unit × ZS) := bd (fX10_init w σ a ci p2 p3) (fun _ σ_3 => some ((), σ_3))
set_option maxHeartbeats 4000000 in
set_option maxRecDepth 100000 in
theorem tX13_init (l : Launch) (w : ZW) {σ σ' : ZS} {a : Nat} {ci : Nat} {p2 : Int32} {p3 : Int32} (hci : zShipC ci) (hP : σ.2.2.1 a = some (.inr (ci, [.null, .int 0, .int 0]))) (hf : fX13_init w σ a ci p2 p3 = some ((), σ')) : zC l w zLx yX13_init (ws_ yX13_init cX13_init 4 none) 3 42 [.ref a, .ref (w.2.2 4), .int p2, .int p3] σ (.returned none) σ' := by
  refine zC.of (plainFor_of_name (by decide)) (Nat.le_of_ble_eq_true rfl) ?_
  intro p e s m args below meth c C hnm
  show Z p l e _ s m args below meth c _ w _ _ 4 σ 0 [(0, .ref a), (1, .ref (w.2.2 4)), (2, .int p2), (3, .int p3)] []
  unfold fX13_init at hf
  refine z_aload_n C 0 dX13_init_0 rfl rfl ?_
  refine z_aload_n C 1 dX13_init_1 rfl rfl ?_
  refine z_iload_n C 2 dX13_init_2 rfl rfl ?_
  refine z_iload_n C 3 dX13_init_3 rfl rfl ?_
  obtain ⟨⟨⟩, σ_3, e_2, hf⟩ := bd_ hf
  refine z_callv C (rest := []) (av := (.ref a :: [.ref (w.2.2 4), .int p2, .int p3])) (zPay.of q460 q88) (fun H ls hH h2 => zInv_I C (As := [.ref (w.2.2 4), .int p2, .int p3]) (rest := []) q518 q459 q460 rfl mh_X10 np_X10_init dX13_init_4) (tX10_init l w hci hP e_2) (Nat.le_of_ble_eq_true rfl) (Nat.le_of_ble_eq_true rfl) ?_
  obtain ⟨-, rfl⟩ := fin_ hf
  exact z_vret C dX13_init_7
def fX13_isOf (a : Nat) (ci : Nat) (n : Int32) (k : Int32) (p1 : Int32) : Int32 := nm (if p1 = 4 then 1 else (if (fX10_isOf a ci n k p1) = 0 then 0 else 1)) (fun (j_1 : Int32) => j_1)
set_option maxHeartbeats 4000000 in
set_option maxRecDepth 100000 in
theorem tX13_isOf (l : Launch) (w : ZW) (L : ZL) (σ : ZS) (a : Nat) (ci : Nat) (n : Int32) (k : Int32) (p1 : Int32) (hci : zShipC ci) (hP : σ.2.2.1 a = some (.inr (ci, [.ref (w.2.2 4), .int n, .int k]))) : zC l w L yX13_isOf (ws_ yX13_isOf cX13_isOf 2 (some .boolean)) 2 26 [.ref a, .int p1] σ (.returned (some (.int (fX13_isOf a ci n k p1)))) σ := by
  obtain ⟨r, hf⟩ : ∃ r, r = fX13_isOf a ci n k p1 := ⟨_, rfl⟩
  rw [← hf]
  refine zC.of (plainFor_of_name (by decide)) (Nat.le_of_ble_eq_true rfl) ?_
  intro p e s m args below meth c C hnm
  show Z p l e _ s m args below meth c _ w _ _ 2 σ 0 [(0, .ref a), (1, .int p1)] []
  unfold fX13_isOf at hf
  refine z_iload_n C 1 dX13_isOf_0 rfl rfl ?_
  refine z_iconst C 4 dX13_isOf_1 (by decide) ?_
  obtain ⟨j_1, ej_1, hf⟩ := nmp_ hf
  have hj_1 : j_1 = 0 ∨ j_1 = 1 := by rw [ej_1]; (try dsimp only [nm]); (repeat' split) <;> first | exact Or.inl rfl | exact Or.inr rfl
  have hjj_1 : Z p l e (zRm 2 26 σ) s m args below meth c (zQ below w L σ (.returned (some (.int r))) σ args s) w L (zA w L σ) 2 σ 18 [(0, .ref a), (1, .int p1)] [.int j_1] := by
    subst hf
    exact z_iret C (b01 hj_1) dX13_isOf_18
  replace hf := ej_1
  refine z_icmp_eq C 13 dX13_isOf_2 (by decide) (fun c_2 => ?_) (fun c_2 => ?_)
  · replace hf := ifp_t c_2 hf
    refine z_iconst C 1 dX13_isOf_13 (by decide) ?_
    refine z_goto C 18 dX13_isOf_14 (by decide) ?_
    subst hf
    exact hjj_1
  · replace hf := ifp_f c_2 hf
    refine z_aload_n C 0 dX13_isOf_5 rfl rfl ?_
    refine z_iload_n C 1 dX13_isOf_6 rfl rfl ?_
    refine z_calli C (rest := []) (av := (.ref a :: [.int p1])) (zPay.of q647 q88) (fun H ls hH h2 => zInv_SU C (As := [.int p1]) (rest := []) (zShip_cl hci).choose_spec.choose_spec (zSee.pool hP) hH (x := ⟨"OldLight$Collier", "isOf", "(I)Z"⟩) q652 q1878 ⟨rfl, rfl⟩ q522 (zSub_self rfl) q646 (Or.inl rfl) q647 (by decide) np_X10_isOf dX13_isOf_7) (tX10_isOf l w L σ a ci n k p1 hci hP) (Nat.le_of_ble_eq_true rfl) (Nat.le_of_ble_eq_true rfl) ?_
    refine z_if_eq C 17 dX13_isOf_10 (by decide) (fun c_3 => ?_) (fun c_3 => ?_)
    · replace hf := ifp_t c_3 hf
      refine z_iconst C 0 dX13_isOf_17 (by decide) ?_
      subst hf
      exact hjj_1
    · replace hf := ifp_f c_3 hf
      refine z_iconst C 1 dX13_isOf_13 (by decide) ?_
      refine z_goto C 18 dX13_isOf_14 (by decide) ?_
      subst hf
      exact hjj_1
theorem bX13_isOf (a : Nat) (ci : Nat) (n : Int32) (k : Int32) (p1 : Int32) : fX13_isOf a ci n k p1 = 0 ∨ fX13_isOf a ci n k p1 = 1 := by
  unfold fX13_isOf
  simp only [nm]
  repeat' split
  all_goals first | exact Or.inl rfl | exact Or.inr rfl
def fX14_init (w : ZW) (σ : ZS) (a : Nat) (ci : Nat) (p2 : Int32) (p3 : Int32) : Option (Unit × ZS) := bd (fX11_init w σ a ci p2 p3) (fun _ σ_3 => some ((), σ_3))
set_option maxHeartbeats 4000000 in
set_option maxRecDepth 100000 in
theorem tX14_init (l : Launch) (w : ZW) {σ σ' : ZS} {a : Nat} {ci : Nat} {p2 : Int32} {p3 : Int32} (hci : zShipC ci) (hP : σ.2.2.1 a = some (.inr (ci, [.null, .int 0, .int 0]))) (hf : fX14_init w σ a ci p2 p3 = some ((), σ')) : zC l w zLx yX14_init (ws_ yX14_init cX14_init 4 none) 3 42 [.ref a, .ref (w.2.2 4), .int p2, .int p3] σ (.returned none) σ' := by
  refine zC.of (plainFor_of_name (by decide)) (Nat.le_of_ble_eq_true rfl) ?_
  intro p e s m args below meth c C hnm
  show Z p l e _ s m args below meth c _ w _ _ 4 σ 0 [(0, .ref a), (1, .ref (w.2.2 4)), (2, .int p2), (3, .int p3)] []
  unfold fX14_init at hf
  refine z_aload_n C 0 dX14_init_0 rfl rfl ?_
  refine z_aload_n C 1 dX14_init_1 rfl rfl ?_
  refine z_iload_n C 2 dX14_init_2 rfl rfl ?_
  refine z_iload_n C 3 dX14_init_3 rfl rfl ?_
  obtain ⟨⟨⟩, σ_3, e_2, hf⟩ := bd_ hf
  refine z_callv C (rest := []) (av := (.ref a :: [.ref (w.2.2 4), .int p2, .int p3])) (zPay.of q497 q89) (fun H ls hH h2 => zInv_I C (As := [.ref (w.2.2 4), .int p2, .int p3]) (rest := []) q528 q496 q497 rfl mh_X11 np_X11_init dX14_init_4) (tX11_init l w hci hP e_2) (Nat.le_of_ble_eq_true rfl) (Nat.le_of_ble_eq_true rfl) ?_
  obtain ⟨-, rfl⟩ := fin_ hf
  exact z_vret C dX14_init_7
def fX14_isOf (a : Nat) (ci : Nat) (n : Int32) (k : Int32) (p1 : Int32) : Int32 := nm (if p1 = 5 then 1 else (if (fX11_isOf a ci n k p1) = 0 then 0 else 1)) (fun (j_1 : Int32) => j_1)
set_option maxHeartbeats 4000000 in
set_option maxRecDepth 100000 in
theorem tX14_isOf (l : Launch) (w : ZW) (L : ZL) (σ : ZS) (a : Nat) (ci : Nat) (n : Int32) (k : Int32) (p1 : Int32) (hci : zShipC ci) (hP : σ.2.2.1 a = some (.inr (ci, [.ref (w.2.2 4), .int n, .int k]))) : zC l w L yX14_isOf (ws_ yX14_isOf cX14_isOf 2 (some .boolean)) 2 26 [.ref a, .int p1] σ (.returned (some (.int (fX14_isOf a ci n k p1)))) σ := by
  obtain ⟨r, hf⟩ : ∃ r, r = fX14_isOf a ci n k p1 := ⟨_, rfl⟩
  rw [← hf]
  refine zC.of (plainFor_of_name (by decide)) (Nat.le_of_ble_eq_true rfl) ?_
  intro p e s m args below meth c C hnm
  show Z p l e _ s m args below meth c _ w _ _ 2 σ 0 [(0, .ref a), (1, .int p1)] []
  unfold fX14_isOf at hf
  refine z_iload_n C 1 dX14_isOf_0 rfl rfl ?_
  refine z_iconst C 5 dX14_isOf_1 (by decide) ?_
  obtain ⟨j_1, ej_1, hf⟩ := nmp_ hf
  have hj_1 : j_1 = 0 ∨ j_1 = 1 := by rw [ej_1]; (try dsimp only [nm]); (repeat' split) <;> first | exact Or.inl rfl | exact Or.inr rfl
  have hjj_1 : Z p l e (zRm 2 26 σ) s m args below meth c (zQ below w L σ (.returned (some (.int r))) σ args s) w L (zA w L σ) 2 σ 18 [(0, .ref a), (1, .int p1)] [.int j_1] := by
    subst hf
    exact z_iret C (b01 hj_1) dX14_isOf_18
  replace hf := ej_1
  refine z_icmp_eq C 13 dX14_isOf_2 (by decide) (fun c_2 => ?_) (fun c_2 => ?_)
  · replace hf := ifp_t c_2 hf
    refine z_iconst C 1 dX14_isOf_13 (by decide) ?_
    refine z_goto C 18 dX14_isOf_14 (by decide) ?_
    subst hf
    exact hjj_1
  · replace hf := ifp_f c_2 hf
    refine z_aload_n C 0 dX14_isOf_5 rfl rfl ?_
    refine z_iload_n C 1 dX14_isOf_6 rfl rfl ?_
    refine z_calli C (rest := []) (av := (.ref a :: [.int p1])) (zPay.of q662 q89) (fun H ls hH h2 => zInv_SU C (As := [.int p1]) (rest := []) (zShip_cl hci).choose_spec.choose_spec (zSee.pool hP) hH (x := ⟨"OldLight$Rower", "isOf", "(I)Z"⟩) q667 q1880 ⟨rfl, rfl⟩ q532 (zSub_self rfl) q661 (Or.inl rfl) q662 (by decide) np_X11_isOf dX14_isOf_7) (tX11_isOf l w L σ a ci n k p1 hci hP) (Nat.le_of_ble_eq_true rfl) (Nat.le_of_ble_eq_true rfl) ?_
    refine z_if_eq C 17 dX14_isOf_10 (by decide) (fun c_3 => ?_) (fun c_3 => ?_)
    · replace hf := ifp_t c_3 hf
      refine z_iconst C 0 dX14_isOf_17 (by decide) ?_
      subst hf
      exact hjj_1
    · replace hf := ifp_f c_3 hf
      refine z_iconst C 1 dX14_isOf_13 (by decide) ?_
      refine z_goto C 18 dX14_isOf_14 (by decide) ?_
      subst hf
      exact hjj_1
theorem bX14_isOf (a : Nat) (ci : Nat) (n : Int32) (k : Int32) (p1 : Int32) : fX14_isOf a ci n k p1 = 0 ∨ fX14_isOf a ci n k p1 = 1 := by
  unfold fX14_isOf
  simp only [nm]
  repeat' split
  all_goals first | exact Or.inl rfl | exact Or.inr rfl
def fX15_init (w : ZW) (σ : ZS) (a : Nat) (ci : Nat) (p2 : Int32) (p3 : Int32) : Option (Unit × ZS) := bd (fX12_init w σ a ci p2 p3) (fun _ σ_3 => some ((), σ_3))
set_option maxHeartbeats 4000000 in
set_option maxRecDepth 100000 in
theorem tX15_init (l : Launch) (w : ZW) {σ σ' : ZS} {a : Nat} {ci : Nat} {p2 : Int32} {p3 : Int32} (hci : zShipC ci) (hP : σ.2.2.1 a = some (.inr (ci, [.null, .int 0, .int 0]))) (hf : fX15_init w σ a ci p2 p3 = some ((), σ')) : zC l w zLx yX15_init (ws_ yX15_init cX15_init 4 none) 3 42 [.ref a, .ref (w.2.2 4), .int p2, .int p3] σ (.returned none) σ' := by
  refine zC.of (plainFor_of_name (by decide)) (Nat.le_of_ble_eq_true rfl) ?_
  intro p e s m args below meth c C hnm
  show Z p l e _ s m args below meth c _ w _ _ 4 σ 0 [(0, .ref a), (1, .ref (w.2.2 4)), (2, .int p2), (3, .int p3)] []
  unfold fX15_init at hf
  refine z_aload_n C 0 dX15_init_0 rfl rfl ?_
  refine z_aload_n C 1 dX15_init_1 rfl rfl ?_
  refine z_iload_n C 2 dX15_init_2 rfl rfl ?_
  refine z_iload_n C 3 dX15_init_3 rfl rfl ?_
  obtain ⟨⟨⟩, σ_3, e_2, hf⟩ := bd_ hf
  refine z_callv C (rest := []) (av := (.ref a :: [.ref (w.2.2 4), .int p2, .int p3])) (zPay.of q507 q90) (fun H ls hH h2 => zInv_I C (As := [.ref (w.2.2 4), .int p2, .int p3]) (rest := []) q538 q506 q507 rfl mh_X12 np_X12_init dX15_init_4) (tX12_init l w hci hP e_2) (Nat.le_of_ble_eq_true rfl) (Nat.le_of_ble_eq_true rfl) ?_
  obtain ⟨-, rfl⟩ := fin_ hf
  exact z_vret C dX15_init_7
def fX15_isOf (a : Nat) (ci : Nat) (n : Int32) (k : Int32) (p1 : Int32) : Int32 := nm (if p1 = 6 then 1 else (if (fX12_isOf a ci n k p1) = 0 then 0 else 1)) (fun (j_1 : Int32) => j_1)
set_option maxHeartbeats 4000000 in
set_option maxRecDepth 100000 in
theorem tX15_isOf (l : Launch) (w : ZW) (L : ZL) (σ : ZS) (a : Nat) (ci : Nat) (n : Int32) (k : Int32) (p1 : Int32) (hci : zShipC ci) (hP : σ.2.2.1 a = some (.inr (ci, [.ref (w.2.2 4), .int n, .int k]))) : zC l w L yX15_isOf (ws_ yX15_isOf cX15_isOf 2 (some .boolean)) 2 26 [.ref a, .int p1] σ (.returned (some (.int (fX15_isOf a ci n k p1)))) σ := by
  obtain ⟨r, hf⟩ : ∃ r, r = fX15_isOf a ci n k p1 := ⟨_, rfl⟩
  rw [← hf]
  refine zC.of (plainFor_of_name (by decide)) (Nat.le_of_ble_eq_true rfl) ?_
  intro p e s m args below meth c C hnm
  show Z p l e _ s m args below meth c _ w _ _ 2 σ 0 [(0, .ref a), (1, .int p1)] []
  unfold fX15_isOf at hf
  refine z_iload_n C 1 dX15_isOf_0 rfl rfl ?_
  refine z_bipush C 6 dX15_isOf_1 (by decide) ?_
  obtain ⟨j_1, ej_1, hf⟩ := nmp_ hf
  have hj_1 : j_1 = 0 ∨ j_1 = 1 := by rw [ej_1]; (try dsimp only [nm]); (repeat' split) <;> first | exact Or.inl rfl | exact Or.inr rfl
  have hjj_1 : Z p l e (zRm 2 26 σ) s m args below meth c (zQ below w L σ (.returned (some (.int r))) σ args s) w L (zA w L σ) 2 σ 19 [(0, .ref a), (1, .int p1)] [.int j_1] := by
    subst hf
    exact z_iret C (b01 hj_1) dX15_isOf_19
  replace hf := ej_1
  refine z_icmp_eq C 14 dX15_isOf_3 (by decide) (fun c_2 => ?_) (fun c_2 => ?_)
  · replace hf := ifp_t c_2 hf
    refine z_iconst C 1 dX15_isOf_14 (by decide) ?_
    refine z_goto C 19 dX15_isOf_15 (by decide) ?_
    subst hf
    exact hjj_1
  · replace hf := ifp_f c_2 hf
    refine z_aload_n C 0 dX15_isOf_6 rfl rfl ?_
    refine z_iload_n C 1 dX15_isOf_7 rfl rfl ?_
    refine z_calli C (rest := []) (av := (.ref a :: [.int p1])) (zPay.of q658 q90) (fun H ls hH h2 => zInv_SU C (As := [.int p1]) (rest := []) (zShip_cl hci).choose_spec.choose_spec (zSee.pool hP) hH (x := ⟨"OldLight$Steamer", "isOf", "(I)Z"⟩) q656 q1879 ⟨rfl, rfl⟩ q542 (zSub_self rfl) q657 (Or.inl rfl) q658 (by decide) np_X12_isOf dX15_isOf_8) (tX12_isOf l w L σ a ci n k p1 hci hP) (Nat.le_of_ble_eq_true rfl) (Nat.le_of_ble_eq_true rfl) ?_
    refine z_if_eq C 18 dX15_isOf_11 (by decide) (fun c_3 => ?_) (fun c_3 => ?_)
    · replace hf := ifp_t c_3 hf
      refine z_iconst C 0 dX15_isOf_18 (by decide) ?_
      subst hf
      exact hjj_1
    · replace hf := ifp_f c_3 hf
      refine z_iconst C 1 dX15_isOf_14 (by decide) ?_
      refine z_goto C 19 dX15_isOf_15 (by decide) ?_
      subst hf
      exact hjj_1
theorem bX15_isOf (a : Nat) (ci : Nat) (n : Int32) (k : Int32) (p1 : Int32) : fX15_isOf a ci n k p1 = 0 ∨ fX15_isOf a ci n k p1 = 1 := by
  unfold fX15_isOf
  simp only [nm]
  repeat' split
  all_goals first | exact Or.inl rfl | exact Or.inr rfl
def fX15_sounds (w : ZW) (σ : ZS) (a : Nat) (ci : Nat) (n : Int32) (k : Int32) (p1 : Int32) : Option (Int32 × ZS) := bd (fX4_begins σ 70) (fun _ σ_3 => gd (oShip w (σ_3.2.2.1 a) = some (ci, n, k)) (bd (fX12_sounds w σ_3 a ci n k p1) (fun r_6 σ_8 => gd (oShip w (σ_8.2.2.1 a) = some (ci, n, k)) (some (r_6 ^^^ n, σ_8)))))
set_option maxHeartbeats 4000000 in
set_option maxRecDepth 100000 in
theorem tX15_sounds (l : Launch) (w : ZW) {σ σ' : ZS} {a : Nat} {ci : Nat} {n : Int32} {k : Int32} {p1 : Int32} (hci : zShipC ci) (hP : σ.2.2.1 a = some (.inr (ci, [.ref (w.2.2 4), .int n, .int k]))) {r : Int32} (hf : fX15_sounds w σ a ci n k p1 = some (r, σ')) : zC l w zLx yX15_sounds (ws_ yX15_sounds cX15_sounds 2 (some .int)) 3 39 [.ref a, .int p1] σ (.returned (some (.int r))) σ' := by
  refine zC.of (plainFor_of_name (by decide)) (Nat.le_of_ble_eq_true rfl) ?_
  intro p e s m args below meth c C hnm
  show Z p l e _ s m args below meth c _ w _ _ 2 σ 0 [(0, .ref a), (1, .int p1)] []
  unfold fX15_sounds at hf
  refine z_aload_n C 0 dX15_sounds_0 rfl rfl ?_
  refine z_getS0 C hci hP q472 (Or.inr q473) dX15_sounds_1 ?_
  refine z_bipush C 70 dX15_sounds_4 (by decide) ?_
  obtain ⟨⟨⟩, σ_3, e_2, hf⟩ := bd_ hf
  refine z_callv C (rest := []) (av := (.ref (w.2.2 4) :: [.int 70])) (zPay.of q1105 q81) (fun H ls hH h2 => zInv_V C (As := [.int 70]) (rest := []) (ci := 4) (T := TX4) (N := 2) rfl (zSee.fix ly_x4) hH q1192 q1103 q1104 (Or.inl rfl) q1105 mh_X4 np_X4_begins dX15_sounds_6) (tX4_begins l w e_2) (Nat.le_of_ble_eq_true rfl) (Nat.le_of_ble_eq_true rfl) ?_
  refine z_aload_n C 0 dX15_sounds_9 rfl rfl ?_
  refine z_iload_n C 1 dX15_sounds_10 rfl rfl ?_
  obtain ⟨g_4, hf⟩ := gd_ hf
  have hP_5 := (oShip_ g_4).1
  obtain ⟨r_6, σ_8, e_7, hf⟩ := bd_ hf
  refine z_calli C (rest := []) (av := (.ref a :: [.int p1])) (zPay.of q1195 q90) (fun H ls hH h2 => zInv_SU C (As := [.int p1]) (rest := []) (zShip_cl hci).choose_spec.choose_spec (zSee.pool hP_5) hH (x := ⟨"OldLight$Steamer", "sounds", "(I)I"⟩) q1193 q1891 ⟨rfl, rfl⟩ q542 (zSub_self rfl) q1194 (Or.inl rfl) q1195 (by decide) np_X12_sounds dX15_sounds_11) (tX12_sounds l w hci hP_5 e_7) (Nat.le_of_ble_eq_true rfl) (Nat.le_of_ble_eq_true rfl) ?_
  refine z_aload_n C 0 dX15_sounds_14 rfl rfl ?_
  obtain ⟨g_9, hf⟩ := gd_ hf
  have hP_10 := (oShip_ g_9).1
  refine z_getS1 C hci hP_10 q479 (Or.inr q480) dX15_sounds_15 ?_
  refine z_ixor C dX15_sounds_18 ?_
  obtain ⟨rfl, rfl⟩ := fin_ hf
  exact z_iret C rfl dX15_sounds_19
def fX16_isOne (w : ZW) (σ : ZS) (a : Nat) (i : Nat) (bn : List Int32) (bk : List Int32) : Option Int32 := bo (oRd w i (σ.2.2.1 a)) (fun rd1 => bo (fX16_look w σ a i bn ) (fun r_6 => bo (if r_6 < 0 then (some 0) else (bo (fX16_look w σ a i bn ) (fun r_13 => bo (fxJ4_indexOf σ bk r_13) (fun r_15 => if r_15 < 0 then (some 0) else (some 1))))) (fun (j_8 : Int32) => gd (j_8 = 0 ∨ j_8 = 1) (some j_8))))
set_option maxHeartbeats 4000000 in
set_option maxRecDepth 100000 in
theorem tX16_isOne (l : Launch) (w : ZW) {σ : ZS} {a : Nat} {i : Nat} {bn : List Int32} {bk : List Int32} (hbn : zsB[i]? = some bn) {ik : Nat} (hbk : zsB[ik]? = some bk) {r : Int32} (hf : fX16_isOne w σ a i bn bk = some r) : zC l w zLx yX16_isOne (ws_ yX16_isOne cX16_isOne 2 (some .boolean)) 4 59 [.ref a, .ref (zsK w ik)] σ (.returned (some (.int r))) σ := by
  refine zC.of (plainFor_of_name (by decide)) (Nat.le_of_ble_eq_true rfl) ?_
  intro p e s m args below meth c C hnm
  show Z p l e _ s m args below meth c _ w _ _ 2 σ 0 [(0, .ref a), (1, .ref (zsK w ik))] []
  unfold fX16_isOne at hf
  refine z_aload_n C 0 dX16_isOne_0 rfl rfl ?_
  obtain ⟨⟨rs_1, rt_2, ro_3⟩, e_4, hf⟩ := bo_ hf
  try dsimp only at hf
  have hP_5 := oRd_ e_4
  obtain ⟨r_6, e_7, hf⟩ := bo_ hf
  refine z_calli C (rest := []) (av := (.ref a :: [])) (zPay.of q738 q94) (fun H ls hH h2 => zInv_V C (As := []) (rest := []) (ci := 15) (T := TX16) (N := 5) rfl (zSee.pool hP_5) hH q735 q737 qs18 (Or.inl rfl) q738 mh_X16 np_X16_look dX16_isOne_1) (tX16_look l w hbn e_7) (Nat.le_of_ble_eq_true rfl) (Nat.le_of_ble_eq_true rfl) ?_
  obtain ⟨j_8, e_10, hf⟩ := bo_ hf
  have hje_10 : Z p l e (zRm 4 59 σ) s m args below meth c (zQ below w zLx σ (.returned (some (.int r))) σ args s) w zLx (zA w zLx σ) 2 σ 23 [(0, .ref a), (1, .ref (zsK w ik))] [.int j_8] := by
    obtain ⟨g_11, hf⟩ := gd_ hf
    obtain rfl := fino_ hf
    exact z_iret C (b01 g_11) dX16_isOne_23
  replace hf := e_10
  refine z_if_lt C 22 dX16_isOne_4 (by decide) (fun c_12 => ?_) (fun c_12 => ?_)
  · replace hf := if_t c_12 hf
    refine z_iconst C 0 dX16_isOne_22 (by decide) ?_
    obtain rfl := fino_ hf
    exact hje_10
  · replace hf := if_f c_12 hf
    refine z_aload_n C 1 dX16_isOne_7 rfl rfl ?_
    refine z_aload_n C 0 dX16_isOne_8 rfl rfl ?_
    obtain ⟨r_13, e_14, hf⟩ := bo_ hf
    refine z_calli C (rest := [.ref (zsK w ik)]) (av := (.ref a :: [])) (zPay.of q738 q94) (fun H ls hH h2 => zInv_V C (As := []) (rest := [.ref (zsK w ik)]) (ci := 15) (T := TX16) (N := 5) rfl (zSee.pool hP_5) hH q735 q737 qs18 (Or.inl rfl) q738 mh_X16 np_X16_look dX16_isOne_9) (tX16_look l w hbn e_14) (Nat.le_of_ble_eq_true rfl) (Nat.le_of_ble_eq_true rfl) ?_
    obtain ⟨r_15, e_16, hf⟩ := bo_ hf
    refine z_calli C (rest := []) (av := (.ref (zsK w ik) :: [.int r_13])) (zPay.of q742 q95) (fun H ls hH h2 => zInv_K C (As := [.int r_13]) (rest := []) hbk h2 q739 q740 q741 (Or.inl rfl) q742 mh_J4 np_J4_indexOf dX16_isOne_12) (txJ4_indexOf l w hbk e_16) (Nat.le_of_ble_eq_true rfl) (Nat.le_of_ble_eq_true rfl) ?_
    refine z_if_lt C 22 dX16_isOne_15 (by decide) (fun c_17 => ?_) (fun c_17 => ?_)
    · replace hf := if_t c_17 hf
      refine z_iconst C 0 dX16_isOne_22 (by decide) ?_
      obtain rfl := fino_ hf
      exact hje_10
    · replace hf := if_f c_17 hf
      refine z_iconst C 1 dX16_isOne_18 (by decide) ?_
      refine z_goto C 23 dX16_isOne_19 (by decide) ?_
      obtain rfl := fino_ hf
      exact hje_10
def fX16_opens (w : ZW) (σ : ZS) (a : Nat) (i : Nat) (bn : List Int32) : Option ((Unit ⊕ Nat) × ZS) := bo (oRd w i (σ.2.2.1 a)) (fun rd1 => nm (if 5 ≤ (rd1.2.2) then 0 else 1) (fun (j_6 : Int32) => bd (fX16_fault w σ a i bn j_6) (fun r_7 σ_9 => sc r_7 (fun _ => bo (oRd w i (σ_9.2.2.1 a)) (fun rd12 => nm ((rd12.2.2) + 1) (fun (f_17 : Int32) => nm (sP σ_9 a (.inr (15, [.ref (zsK w i), .ref (w.2.2 (100 + 16)), .int (rd12.1), .int (rd12.2.1), .int f_17]))) (fun (σ_18 : ZS) => nm ((rd12.2.1) + 1) (fun (f_20 : Int32) => nm (sP σ_18 a (.inr (15, [.ref (zsK w i), .ref (w.2.2 (100 + 16)), .int (rd12.1), .int f_20, .int f_17]))) (fun (σ_21 : ZS) => some (.inl (), σ_21))))))) (fun (t_11 : Nat) => some (.inr t_11, σ_9)))))
set_option maxHeartbeats 4000000 in
set_option maxRecDepth 100000 in
theorem tX16_opens (l : Launch) (w : ZW) {σ σ' : ZS} {a : Nat} {i : Nat} {bn : List Int32} (hbn : zsB[i]? = some bn) {r : Unit ⊕ Nat} (hf : fX16_opens w σ a i bn = some (r, σ')) : zC l w zLx yX16_opens (ws_ yX16_opens cX16_opens 1 none) 6 87 [.ref a] σ (ocV2 r) σ' := by
  refine zC.of (plainFor_of_name (by decide)) (Nat.le_of_ble_eq_true rfl) ?_
  intro p e s m args below meth c C hnm
  show Z p l e _ s m args below meth c _ w _ _ 1 σ 0 [(0, .ref a)] []
  unfold fX16_opens at hf
  refine z_aload_n C 0 dX16_opens_0 rfl rfl ?_
  refine z_aload_n C 0 dX16_opens_1 rfl rfl ?_
  obtain ⟨⟨rs_1, rt_2, ro_3⟩, e_4, hf⟩ := bo_ hf
  try dsimp only at hf
  have hP_5 := oRd_ e_4
  refine z_get C (ci := 15) (Cn := RX16) (T := TX16) (N := 5) (fs := [.ref (zsK w i), .ref (w.2.2 (100 + 16)), .int rs_1, .int rt_2, .int ro_3]) (v := .int ro_3) rfl in_X16 (zSee.pool hP_5) 4 (by decide) q691 (Or.inl rfl) rfl dX16_opens_2 ?_
  refine z_iconst C 5 dX16_opens_5 (by decide) ?_
  obtain ⟨j_6, ej_6, hf⟩ := nmo_ hf
  have hj_6 : j_6 = 0 ∨ j_6 = 1 := by rw [ej_6]; (try dsimp only [nm]); (repeat' split) <;> first | exact Or.inl rfl | exact Or.inr rfl
  have hjj_6 : Z p l e (zRm 6 87 σ) s m args below meth c (zQ below w zLx σ (ocV2 r) σ' args s) w zLx (zA w zLx σ) 1 σ 14 [(0, .ref a)] [.int j_6, .ref a] := by
    obtain ⟨r_7, σ_9, e_8, hf⟩ := bd_ hf
    rcases r_7 with ⟨⟩ | t_11
    · dsimp only [sc] at hf
      refine z_callv C (rest := []) (av := (.ref a :: [.int j_6])) (zPay.of q842 q94) (fun H ls hH h2 => zInv_V C (As := [.int j_6]) (rest := []) (ci := 15) (T := TX16) (N := 5) rfl (zSee.pool hP_5) hH q839 q841 qs20 (Or.inl rfl) q842 mh_X16 np_X16_fault dX16_opens_14) (tX16_fault l w hbn e_8) (Nat.le_of_ble_eq_true rfl) (Nat.le_of_ble_eq_true rfl) ?_
      refine z_aload_n C 0 dX16_opens_17 rfl rfl ?_
      refine z_dup C dX16_opens_18 rfl ?_
      obtain ⟨⟨rs_12, rt_13, ro_14⟩, e_15, hf⟩ := bo_ hf
      try dsimp only at hf
      have hP_16 := oRd_ e_15
      refine z_get C (ci := 15) (Cn := RX16) (T := TX16) (N := 5) (fs := [.ref (zsK w i), .ref (w.2.2 (100 + 16)), .int rs_12, .int rt_13, .int ro_14]) (v := .int ro_14) rfl in_X16 (zSee.pool hP_16) 4 (by decide) q691 (Or.inl rfl) rfl dX16_opens_19 ?_
      refine z_iconst C 1 dX16_opens_22 (by decide) ?_
      refine z_iadd C dX16_opens_23 ?_
      obtain ⟨f_17, ef_17, hf⟩ := nmo_ hf
      refine z_top ef_17 ?_
      refine z_putP C hP_16 (zPut C (T := TX16) (N := 5) rfl in_X16 tyX16 tyX16_ok nmX16 4 (by decide) q691 (Or.inl rfl) rfl rfl rfl (Nat.le_of_ble_eq_true rfl) dX16_opens_24) ?_
      obtain ⟨σ_18, eσ_18, hf⟩ := nmo_ hf
      refine z_w eσ_18.symm ?_
      have hP_19 : σ_18.2.2.1 a = some (.inr (15, [.ref (zsK w i), .ref (w.2.2 (100 + 16)), .int rs_12, .int rt_13, .int f_17])) := by rw [eσ_18]; exact sP_self
      refine z_aload_n C 0 dX16_opens_27 rfl rfl ?_
      refine z_dup C dX16_opens_28 rfl ?_
      refine z_get C (ci := 15) (Cn := RX16) (T := TX16) (N := 5) (fs := [.ref (zsK w i), .ref (w.2.2 (100 + 16)), .int rs_12, .int rt_13, .int f_17]) (v := .int rt_13) rfl in_X16 (zSee.pool hP_19) 3 (by decide) q690 (Or.inl rfl) rfl dX16_opens_29 ?_
      refine z_iconst C 1 dX16_opens_32 (by decide) ?_
      refine z_iadd C dX16_opens_33 ?_
      obtain ⟨f_20, ef_20, hf⟩ := nmo_ hf
      refine z_top ef_20 ?_
      refine z_putP C hP_19 (zPut C (T := TX16) (N := 5) rfl in_X16 tyX16 tyX16_ok nmX16 3 (by decide) q690 (Or.inl rfl) rfl rfl rfl (Nat.le_of_ble_eq_true rfl) dX16_opens_34) ?_
      obtain ⟨σ_21, eσ_21, hf⟩ := nmo_ hf
      refine z_w eσ_21.symm ?_
      have hP_22 : σ_21.2.2.1 a = some (.inr (15, [.ref (zsK w i), .ref (w.2.2 (100 + 16)), .int rs_12, .int f_20, .int f_17])) := by rw [eσ_21]; exact sP_self
      obtain ⟨rfl, rfl⟩ := fin_ hf
      exact z_vret C dX16_opens_37
    · dsimp only [sc] at hf
      refine z_callt C (rest := []) (av := (.ref a :: [.int j_6])) (zPay.of q842 q94) (fun H ls hH h2 => zInv_V C (As := [.int j_6]) (rest := []) (ci := 15) (T := TX16) (N := 5) rfl (zSee.pool hP_5) hH q839 q841 qs20 (Or.inl rfl) q842 mh_X16 np_X16_fault dX16_opens_14) (tX16_fault l w hbn e_8) (Nat.le_of_ble_eq_true rfl) (Nat.le_of_ble_eq_true rfl) ?_
      obtain ⟨rfl, rfl⟩ := fin_ hf
      exact z_tout C (by decide)
  replace hf := ej_6
  refine z_icmp_ge C 13 dX16_opens_6 (by decide) (fun c_23 => ?_) (fun c_23 => ?_)
  · replace hf := ifp_t c_23 hf
    refine z_iconst C 0 dX16_opens_13 (by decide) ?_
    subst hf
    exact hjj_6
  · replace hf := ifp_f c_23 hf
    refine z_iconst C 1 dX16_opens_9 (by decide) ?_
    refine z_goto C 14 dX16_opens_10 (by decide) ?_
    subst hf
    exact hjj_6
def fX17_init (σ : ZS) (a : Nat) (p1 : Int32) : Option (Unit × ZS) := bo (fX7_init a) (fun _ => bo (oC1 16 (σ.2.2.1 a)) (fun c0v3 => nm (sP σ a (.inr (16, [.int p1]))) (fun (σ_6 : ZS) => some ((), σ_6))))
set_option maxHeartbeats 4000000 in
set_option maxRecDepth 100000 in
theorem tX17_init (l : Launch) (w : ZW) {σ σ' : ZS} {a : Nat} {p1 : Int32} (hf : fX17_init σ a p1 = some ((), σ')) : zC l w zLx yX17_init (ws_ yX17_init cX17_init 2 none) 2 24 [.ref a, .int p1] σ (.returned none) σ' := by
  refine zC.of (plainFor_of_name (by decide)) (Nat.le_of_ble_eq_true rfl) ?_
  intro p e s m args below meth c C hnm
  show Z p l e _ s m args below meth c _ w _ _ 2 σ 0 [(0, .ref a), (1, .int p1)] []
  unfold fX17_init at hf
  refine z_aload_n C 0 dX17_init_0 rfl rfl ?_
  obtain ⟨⟨⟩, e_2, hf⟩ := bo_ hf
  refine z_callv C (rest := []) (av := (.ref a :: [])) (zPay.of q828 q85) (fun H ls hH h2 => zInv_IN C (As := []) (rest := []) q826 q827 q828 rfl mh_X7 np_X7_init dX17_init_1) (tX7_init l w zLx σ e_2) (Nat.le_of_ble_eq_true rfl) (Nat.le_of_ble_eq_true rfl) ?_
  refine z_aload_n C 0 dX17_init_4 rfl rfl ?_
  refine z_iload_n C 1 dX17_init_5 rfl rfl ?_
  obtain ⟨c0v3, e_4, hf⟩ := bo_ hf
  try dsimp only at hf
  have hP_5 := oC1_ e_4
  refine z_putP C hP_5 (zPutF C (T := TX17) (N := 1) rfl in_X17 tyX17 tyX17_ok nmX17 0 (by decide) q830 (Or.inl rfl) rfl hnm rfl rfl rfl (Nat.le_of_ble_eq_true rfl) dX17_init_6) ?_
  obtain ⟨σ_6, eσ_6, hf⟩ := nmo_ hf
  refine z_w eσ_6.symm ?_
  have hP_7 : σ_6.2.2.1 a = some (.inr (16, [.int p1])) := by rw [eσ_6]; exact sP_self
  obtain ⟨-, rfl⟩ := fin_ hf
  exact z_vret C dX17_init_9
def fX19_init (σ : ZS) (a : Nat) (p1 : Nat) : Option (Unit × ZS) := bo (fX7_init a) (fun _ => bo (oC1 18 (σ.2.2.1 a)) (fun c0v3 => nm (sP σ a (.inr (18, [.ref p1]))) (fun (σ_6 : ZS) => some ((), σ_6))))
set_option maxHeartbeats 4000000 in
set_option maxRecDepth 100000 in
theorem tX19_init (l : Launch) (w : ZW) {σ σ' : ZS} {a : Nat} {p1 : Nat} (hf : fX19_init σ a p1 = some ((), σ')) : zC l w zLx yX19_init (ws_ yX19_init cX19_init 2 none) 2 24 [.ref a, .ref p1] σ (.returned none) σ' := by
  refine zC.of (plainFor_of_name (by decide)) (Nat.le_of_ble_eq_true rfl) ?_
  intro p e s m args below meth c C hnm
  show Z p l e _ s m args below meth c _ w _ _ 2 σ 0 [(0, .ref a), (1, .ref p1)] []
  unfold fX19_init at hf
  refine z_aload_n C 0 dX19_init_0 rfl rfl ?_
  obtain ⟨⟨⟩, e_2, hf⟩ := bo_ hf
  refine z_callv C (rest := []) (av := (.ref a :: [])) (zPay.of q828 q85) (fun H ls hH h2 => zInv_IN C (As := []) (rest := []) q867 q827 q828 rfl mh_X7 np_X7_init dX19_init_1) (tX7_init l w zLx σ e_2) (Nat.le_of_ble_eq_true rfl) (Nat.le_of_ble_eq_true rfl) ?_
  refine z_aload_n C 0 dX19_init_4 rfl rfl ?_
  refine z_aload_n C 1 dX19_init_5 rfl rfl ?_
  obtain ⟨c0v3, e_4, hf⟩ := bo_ hf
  try dsimp only at hf
  have hP_5 := oC1_ e_4
  refine z_putP C hP_5 (zPutF C (T := TX19) (N := 1) rfl in_X19 tyX19 tyX19_ok nmX19 0 (by decide) q868 (Or.inl rfl) rfl hnm rfl rfl rfl (Nat.le_of_ble_eq_true rfl) dX19_init_6) ?_
  obtain ⟨σ_6, eσ_6, hf⟩ := nmo_ hf
  refine z_w eσ_6.symm ?_
  have hP_7 : σ_6.2.2.1 a = some (.inr (18, [.ref p1])) := by rw [eσ_6]; exact sP_self
  obtain ⟨-, rfl⟩ := fin_ hf
  exact z_vret C dX19_init_9
def fX20_init (σ : ZS) (a : Nat) (p1 : Int32) : Option (Unit × ZS) := bo (fX7_init a) (fun _ => bo (oC1 19 (σ.2.2.1 a)) (fun c0v3 => nm (sP σ a (.inr (19, [.int p1]))) (fun (σ_6 : ZS) => some ((), σ_6))))
set_option maxHeartbeats 4000000 in
set_option maxRecDepth 100000 in
theorem tX20_init (l : Launch) (w : ZW) {σ σ' : ZS} {a : Nat} {p1 : Int32} (hf : fX20_init σ a p1 = some ((), σ')) : zC l w zLx yX20_init (ws_ yX20_init cX20_init 2 none) 2 24 [.ref a, .int p1] σ (.returned none) σ' := by
  refine zC.of (plainFor_of_name (by decide)) (Nat.le_of_ble_eq_true rfl) ?_
  intro p e s m args below meth c C hnm
  show Z p l e _ s m args below meth c _ w _ _ 2 σ 0 [(0, .ref a), (1, .int p1)] []
  unfold fX20_init at hf
  refine z_aload_n C 0 dX20_init_0 rfl rfl ?_
  obtain ⟨⟨⟩, e_2, hf⟩ := bo_ hf
  refine z_callv C (rest := []) (av := (.ref a :: [])) (zPay.of q828 q85) (fun H ls hH h2 => zInv_IN C (As := []) (rest := []) q879 q827 q828 rfl mh_X7 np_X7_init dX20_init_1) (tX7_init l w zLx σ e_2) (Nat.le_of_ble_eq_true rfl) (Nat.le_of_ble_eq_true rfl) ?_
  refine z_aload_n C 0 dX20_init_4 rfl rfl ?_
  refine z_iload_n C 1 dX20_init_5 rfl rfl ?_
  obtain ⟨c0v3, e_4, hf⟩ := bo_ hf
  try dsimp only at hf
  have hP_5 := oC1_ e_4
  refine z_putP C hP_5 (zPutF C (T := TX20) (N := 1) rfl in_X20 tyX20 tyX20_ok nmX20 0 (by decide) q880 (Or.inl rfl) rfl hnm rfl rfl rfl (Nat.le_of_ble_eq_true rfl) dX20_init_6) ?_
  obtain ⟨σ_6, eσ_6, hf⟩ := nmo_ hf
  refine z_w eσ_6.symm ?_
  have hP_7 : σ_6.2.2.1 a = some (.inr (19, [.int p1])) := by rw [eσ_6]; exact sP_self
  obtain ⟨-, rfl⟩ := fin_ hf
  exact z_vret C dX20_init_9
def fX21_row_L9 (w : ZW) (a : Nat) (a_7 : Nat) : Nat → Int32 → ZS → Option ((Int32) × ZS)
  | 0, _, _ => none
  | n + 1, y2, σ => bo (oRow w 0 (σ.2.2.1 a_7)) (fun rw10 => if (Int32.ofNat (rw10.1)) ≤ y2 then (some (y2, σ)) else (bo (oSheet (σ.2.2.1 a)) (fun sh15 => bo (fS_Sheet_get w σ a (sh15.1) (sh15.2) y2) (fun r_20 => gd (¬ (y2 < 0 ∨ (rw10.1) ≤ y2.toNatClampNeg)) (nm (sP σ a_7 (.inl (w.2.1 0, (rw10.1), .inl (upd (rw10.2) (y2.toNatClampNeg) r_20)))) (fun (σ_23 : ZS) => nm (y2 + 1) (fun (x2_24 : Int32) => fX21_row_L9 w a a_7 n x2_24 σ_23)))))))
def fX21_row (w : ZW) (σ : ZS) (a : Nat) (ci : Nat) (ro : Nat) : Option (Nat × ZS) := bo (fS_Sheet_size w σ a ci ro ) (fun r_1 => gd (¬ r_1 < 0) (gd (r_1.toNatClampNeg ≤ 1000) (gd (1 ≤ σ.2.2.2.2.1) (gd (r_1.toNatClampNeg ≤ σ.2.2.2.2.2) (nm (σ.2.2.2.1) (fun (a_7 : Nat) => nm (sN σ (.inl (w.2.1 0, r_1.toNatClampNeg, .inl (fun _ => 0))) r_1.toNatClampNeg) (fun (σ_8 : ZS) => bd (fX21_row_L9 w a a_7 10000 0 σ_8) (fun x2_25 σ_26 => some (a_7, σ_26)))))))))
set_option maxHeartbeats 4000000 in
set_option maxRecDepth 100000 in
theorem lfX21_row_L9 {p : Program} {l : Launch} {e : Env} {R : Room} {s : State} {m : MethodId} {args : Array Value} {below : List Frame} {meth : Method} {c : Code} {Q : State → Prop} {w : ZW} {A : Nat → Prop} {ret : Option FieldType} {hh : List (Nat × Nat × Nat × Nat)} (C : zCx p s m args meth c w zLx A 3 cX21_row RX21 ret hh) (hfr : 1 ≤ R.frames) (hlo : 15 ≤ R.locals) {a : Nat} {a_7 : Nat} {z2 : Int32} {σ' : ZS} (hk : Z p l e R s m args below meth c Q w zLx A 3 σ' 29 [(0, .ref a), (1, .ref a_7), (2, .int z2)] []) : ∀ (n : Nat) (y2 : Int32) (σ : ZS), fX21_row_L9 w a a_7 n y2 σ = some (z2, σ') → Z p l e R s m args below meth c Q w zLx A 3 σ 9 [(0, .ref a), (1, .ref a_7), (2, .int y2)] [] := by
  intro n
  induction n with
  | zero => intro y2 σ hf; exact none_ hf
  | succ n ih =>
    intro y2 σ hf
    rw [fX21_row_L9] at hf
    refine z_iload_n C 2 dX21_row_9 rfl rfl ?_
    refine z_aload_n C 1 dX21_row_10 rfl rfl ?_
    obtain ⟨⟨n_10, f_11⟩, e_12, hf⟩ := bo_ hf
    try dsimp only at hf
    have hP_13 := oRow_ e_12
    refine z_alen C 0 (zSee.pool hP_13) rfl dX21_row_11 ?_
    refine z_icmp_ge C 29 dX21_row_12 (by decide) (fun c_14 => ?_) (fun c_14 => ?_)
    · replace hf := if_t c_14 hf
      obtain ⟨rfl, rfl⟩ := fin_ hf
      exact hk
    · replace hf := if_f c_14 hf
      refine z_aload_n C 1 dX21_row_15 rfl rfl ?_
      refine z_iload_n C 2 dX21_row_16 rfl rfl ?_
      refine z_aload_n C 0 dX21_row_17 rfl rfl ?_
      refine z_iload_n C 2 dX21_row_18 rfl rfl ?_
      obtain ⟨⟨ci_15, r_16⟩, e_17, hf⟩ := bo_ hf
      try dsimp only at hf
      obtain ⟨hP_18, hci_19⟩ := oSheet_ e_17
      obtain ⟨r_20, e_21, hf⟩ := bo_ hf
      refine z_Sh_get C hci_19 hP_18 q1354 e_21 dX21_row_19 (Nat.le_trans (Nat.le_of_ble_eq_true rfl) hfr) (Nat.le_trans (Nat.le_of_ble_eq_true rfl) hlo) ?_
      obtain ⟨g_22, hf⟩ := gd_ hf
      refine z_iastoreP C hP_13 g_22 dX21_row_22 ?_
      obtain ⟨σ_23, eσ_23, hf⟩ := nmo_ hf
      refine z_w eσ_23.symm ?_
      obtain ⟨x2_24, ex2_24, hf⟩ := nmo_ hf
      refine z_iinc C x2_24 2 dX21_row_23 rfl (by rw [ex2_24]; rfl) (by decide) rfl (lv' := [(2, .int x2_24), (0, .ref a), (1, .ref a_7)]) ?_
      refine z_goto C 9 dX21_row_26 (by decide) ?_
      exact z_lv [1, 2, 0] rfl (ih _ _ hf)
set_option maxHeartbeats 4000000 in
set_option maxRecDepth 100000 in
theorem tX21_row (l : Launch) (w : ZW) {σ σ' : ZS} {a : Nat} {ci : Nat} {ro : Nat} (hci : zSheetC ci) (hP : σ.2.2.1 a = some (.inr (ci, [.ref ro]))) {r : Nat} (hf : fX21_row w σ a ci ro = some (r, σ')) : zC l w zLx yX21_row (ws_ yX21_row cX21_row 3 (some (.array .int))) 1 15 [.ref a] σ (.returned (some (.ref r))) σ' := by
  refine zC.of (plainFor_of_name (by decide)) (Nat.le_of_ble_eq_true rfl) ?_
  intro p e s m args below meth c C hnm
  show Z p l e _ s m args below meth c _ w _ _ 3 σ 0 [(0, .ref a)] []
  unfold fX21_row at hf
  refine z_aload_n C 0 dX21_row_0 rfl rfl ?_
  obtain ⟨r_1, e_2, hf⟩ := bo_ hf
  refine z_Sh_size C hci hP q1353 e_2 dX21_row_1 (Nat.le_of_ble_eq_true rfl) (Nat.le_of_ble_eq_true rfl) ?_
  obtain ⟨g_3, hf⟩ := gd_ hf
  obtain ⟨g_4, hf⟩ := gd_ hf
  obtain ⟨g_5, hf⟩ := gd_ hf
  obtain ⟨g_6, hf⟩ := gd_ hf
  refine z_newa C (atype := .int) (ty := .int) 0 rfl q208 rfl (fun _ h => by cases h) rfl g_3 (Nat.le_trans (Nat.mul_le_mul_right _ g_4) (by decide)) g_5 g_6 dX21_row_4 ?_
  obtain ⟨a_7, ea_7, hf⟩ := nmo_ hf
  refine z_eq (congrArg Value.ref ea_7.symm) ?_
  obtain ⟨σ_8, eσ_8, hf⟩ := nmo_ hf
  refine z_w eσ_8.symm ?_
  refine z_astore_n C dX21_row_6 rfl (by decide) rfl (lv' := [(1, .ref a_7), (0, .ref a)]) ?_
  refine z_iconst C 0 dX21_row_7 (by decide) ?_
  refine z_istore_n C dX21_row_8 rfl (by decide) rfl (lv' := [(2, .int 0), (1, .ref a_7), (0, .ref a)]) ?_
  obtain ⟨x2_25, σ_26, e_27, hf⟩ := bd_ hf
  refine z_lv (lv' := [(0, .ref a), (1, .ref a_7), (2, .int 0)]) [2, 1, 0] rfl ?_
  refine lfX21_row_L9 C (Nat.le_of_ble_eq_true rfl) (Nat.le_of_ble_eq_true rfl)  ?_ _ _ _ e_27
  refine z_aload_n C 1 dX21_row_29 rfl rfl ?_
  obtain ⟨rfl, rfl⟩ := fin_ hf
  exact z_aret C (Or.inr ⟨_, rfl⟩) (Or.inr ⟨_, rfl⟩) dX21_row_30
def fS_Sheet_row (w : ZW) (σ : ZS) (a ci r : Nat) : Option (Nat × ZS) := if ci = 20 then (fX21_row w σ a ci r ) else (if ci = 21 then (fX21_row w σ a ci r ) else (if ci = 22 then (fX21_row w σ a ci r ) else (none)))
section
variable {p : Program} {l : Launch} {e : Env} {R : Room} {s : State} {m : MethodId} {args : Array Value} {below : List Frame} {meth : Method} {c : Code} {Q : State → Prop} {w : ZW} {A : Nat → Prop} {nL : Nat} {cc : ByteArray} {own : String} {ret : Option FieldType} {hh : List (Nat × Nat × Nat × Nat)} {σ : ZS} {pc : Nat} {lv : List (Nat × Value)} {st : List Value}
theorem z_Sh_row (C : zCx p s m args meth c w zLx A nL cc own ret hh) {index a ci r : Nat} {v : Nat} {σ' : ZS} (hci : zSheetC ci) (hP : σ.2.2.1 a = some (.inr (ci, [.ref r]))) (hq1 : Cond.methodLink own index ⟨"OldLight$Sheet", "row", "()[I"⟩ ∈ lw_all) (hf : fS_Sheet_row w σ a ci r  = some (v, σ')) (hd : decode cc pc = .ok (.invokevirtual index, 3)) (hfr : 1 + 1 ≤ R.frames) (hlo : (st.map fun v => v.category).sum + (3 + 11) + 15 ≤ R.locals) (kk : Z p l e R s m args below meth c Q w zLx A nL σ' (pc + 3) lv (.ref v :: st)) : Z p l e R s m args below meth c Q w zLx A nL σ pc lv (.ref a :: st) := by
  rcases hci with rfl | rfl | rfl
  · skip
    exact z_callr C (rest := st) (av := (.ref a :: [])) (zPay.of q1352 q106) (fun H ls hH h2 => zInv_U C (x := ⟨"OldLight$Sheet", "row", "()[I"⟩) (owner := "OldLight$Sheet") (As := []) (rest := st) (ci := 20) (T := TX22) (N := 1) rfl (zSee.pool hP) hH hq1 q1348 (zDecl_of C q1347 q1352) (by unfold zMH; decide) q1347 q1349 np_X21_row hd) (tX21_row l w (by unfold zSheetC; decide) hP hf) (by have := hfr; omega) (by have := hlo; omega) kk
  · skip
    exact z_callr C (rest := st) (av := (.ref a :: [])) (zPay.of q1352 q106) (fun H ls hH h2 => zInv_U C (x := ⟨"OldLight$Sheet", "row", "()[I"⟩) (owner := "OldLight$Sheet") (As := []) (rest := st) (ci := 21) (T := TX23) (N := 1) rfl (zSee.pool hP) hH hq1 q1348 (zDecl_of C q1347 q1352) (by unfold zMH; decide) q1347 q1351 np_X21_row hd) (tX21_row l w (by unfold zSheetC; decide) hP hf) (by have := hfr; omega) (by have := hlo; omega) kk
  · skip
    exact z_callr C (rest := st) (av := (.ref a :: [])) (zPay.of q1352 q106) (fun H ls hH h2 => zInv_U C (x := ⟨"OldLight$Sheet", "row", "()[I"⟩) (owner := "OldLight$Sheet") (As := []) (rest := st) (ci := 22) (T := TX24) (N := 1) rfl (zSee.pool hP) hH hq1 q1348 (zDecl_of C q1347 q1352) (by unfold zMH; decide) q1347 q1350 np_X21_row hd) (tX21_row l w (by unfold zSheetC; decide) hP hf) (by have := hfr; omega) (by have := hlo; omega) kk
end
def fS_Ship_isOf (w : ZW) (σ : ZS) (a ci : Nat) (n k : Int32) (p1 : Int32) : Option Int32 := if ci = 8 then (some (fX9_isOf a ci n k p1)) else (if ci = 9 then (some (fX10_isOf a ci n k p1)) else (if ci = 10 then (some (fX11_isOf a ci n k p1)) else (if ci = 11 then (some (fX12_isOf a ci n k p1)) else (if ci = 12 then (some (fX13_isOf a ci n k p1)) else (if ci = 13 then (some (fX14_isOf a ci n k p1)) else (if ci = 14 then (some (fX15_isOf a ci n k p1)) else (none)))))))
section
variable {p : Program} {l : Launch} {e : Env} {R : Room} {s : State} {m : MethodId} {args : Array Value} {below : List Frame} {meth : Method} {c : Code} {Q : State → Prop} {w : ZW} {A : Nat → Prop} {nL : Nat} {cc : ByteArray} {own : String} {ret : Option FieldType} {hh : List (Nat × Nat × Nat × Nat)} {σ : ZS} {pc : Nat} {lv : List (Nat × Value)} {st : List Value}
theorem z_S_Ship_isOf (C : zCx p s m args meth c w zLx A nL cc own ret hh) {index a ci : Nat} {n k p1 r : Int32} (hci : zShipC ci) (hP : σ.2.2.1 a = some (.inr (ci, [.ref (w.2.2 4), .int n, .int k]))) (hq1 : Cond.methodLink own index ⟨"OldLight$Ship", "isOf", "(I)Z"⟩ ∈ lw_all) (hf : fS_Ship_isOf w σ a ci n k p1 = some r) (hd : decode cc pc = .ok (.invokevirtual index, 3)) (hfr : 2 + 1 ≤ R.frames) (hlo : (st.map fun v => v.category).sum + (2 + 11) + 26 ≤ R.locals) (kk : Z p l e R s m args below meth c Q w zLx A nL σ (pc + 3) lv (.int r :: st)) : Z p l e R s m args below meth c Q w zLx A nL σ pc lv (.int p1 :: .ref a :: st) := by
  rcases hci with rfl | rfl | rfl | rfl | rfl | rfl | rfl
  · obtain rfl := fino_ hf
    exact z_calli C (rest := st) (av := (.ref a :: [.int p1])) (zPay.of q669 q87) (fun H ls hH h2 => zInv_U C (x := ⟨"OldLight$Ship", "isOf", "(I)Z"⟩) (owner := "OldLight$Ship") (As := [.int p1]) (rest := st) (ci := 8) (T := TX9) (N := 3) rfl (zSee.pool hP) hH hq1 q644 (zDecl_of C q642 q669) (by unfold zMH; decide) q642 q643 np_X9_isOf hd) (tX9_isOf l w zLx σ a 8 n k p1 (by unfold zShipC; decide) hP) (by have := hfr; omega) (by have := hlo; omega) kk
  · obtain rfl := fino_ hf
    exact z_calli C (rest := st) (av := (.ref a :: [.int p1])) (zPay.of q647 q88) (fun H ls hH h2 => zInv_U C (x := ⟨"OldLight$Ship", "isOf", "(I)Z"⟩) (owner := "OldLight$Ship") (As := [.int p1]) (rest := st) (ci := 9) (T := TX10) (N := 3) rfl (zSee.pool hP) hH hq1 q644 (zDecl_of C q642 q669) (by unfold zMH; decide) q646 q645 np_X10_isOf hd) (tX10_isOf l w zLx σ a 9 n k p1 (by unfold zShipC; decide) hP) (by have := hfr; omega) (by have := hlo; omega) kk
  · obtain rfl := fino_ hf
    exact z_calli C (rest := st) (av := (.ref a :: [.int p1])) (zPay.of q662 q89) (fun H ls hH h2 => zInv_U C (x := ⟨"OldLight$Ship", "isOf", "(I)Z"⟩) (owner := "OldLight$Ship") (As := [.int p1]) (rest := st) (ci := 10) (T := TX11) (N := 3) rfl (zSee.pool hP) hH hq1 q644 (zDecl_of C q642 q669) (by unfold zMH; decide) q661 q660 np_X11_isOf hd) (tX11_isOf l w zLx σ a 10 n k p1 (by unfold zShipC; decide) hP) (by have := hfr; omega) (by have := hlo; omega) kk
  · obtain rfl := fino_ hf
    exact z_calli C (rest := st) (av := (.ref a :: [.int p1])) (zPay.of q658 q90) (fun H ls hH h2 => zInv_U C (x := ⟨"OldLight$Ship", "isOf", "(I)Z"⟩) (owner := "OldLight$Ship") (As := [.int p1]) (rest := st) (ci := 11) (T := TX12) (N := 3) rfl (zSee.pool hP) hH hq1 q644 (zDecl_of C q642 q669) (by unfold zMH; decide) q657 q668 np_X12_isOf hd) (tX12_isOf l w zLx σ a 11 n k p1 (by unfold zShipC; decide) hP) (by have := hfr; omega) (by have := hlo; omega) kk
  · obtain rfl := fino_ hf
    exact z_calli C (rest := st) (av := (.ref a :: [.int p1])) (zPay.of q651 q91) (fun H ls hH h2 => zInv_U C (x := ⟨"OldLight$Ship", "isOf", "(I)Z"⟩) (owner := "OldLight$Ship") (As := [.int p1]) (rest := st) (ci := 12) (T := TX13) (N := 3) rfl (zSee.pool hP) hH hq1 q644 (zDecl_of C q642 q669) (by unfold zMH; decide) q650 q649 np_X13_isOf hd) (tX13_isOf l w zLx σ a 12 n k p1 (by unfold zShipC; decide) hP) (by have := hfr; omega) (by have := hlo; omega) kk
  · obtain rfl := fino_ hf
    exact z_calli C (rest := st) (av := (.ref a :: [.int p1])) (zPay.of q666 q92) (fun H ls hH h2 => zInv_U C (x := ⟨"OldLight$Ship", "isOf", "(I)Z"⟩) (owner := "OldLight$Ship") (As := [.int p1]) (rest := st) (ci := 13) (T := TX14) (N := 3) rfl (zSee.pool hP) hH hq1 q644 (zDecl_of C q642 q669) (by unfold zMH; decide) q665 q664 np_X14_isOf hd) (tX14_isOf l w zLx σ a 13 n k p1 (by unfold zShipC; decide) hP) (by have := hfr; omega) (by have := hlo; omega) kk
  · obtain rfl := fino_ hf
    exact z_calli C (rest := st) (av := (.ref a :: [.int p1])) (zPay.of q655 q93) (fun H ls hH h2 => zInv_U C (x := ⟨"OldLight$Ship", "isOf", "(I)Z"⟩) (owner := "OldLight$Ship") (As := [.int p1]) (rest := st) (ci := 14) (T := TX15) (N := 3) rfl (zSee.pool hP) hH hq1 q644 (zDecl_of C q642 q669) (by unfold zMH; decide) q654 q653 np_X15_isOf hd) (tX15_isOf l w zLx σ a 14 n k p1 (by unfold zShipC; decide) hP) (by have := hfr; omega) (by have := hlo; omega) kk
end
def fS_Ship_sails (w : ZW) (σ : ZS) (a ci : Nat) (n k : Int32) (p1 : Int32) : Option (Int32 × ZS) := if ci = 8 then (fX9_sails w σ a ci n k p1) else (if ci = 9 then (fX10_sails w σ a ci n k p1) else (if ci = 10 then (fX9_sails w σ a ci n k p1) else (if ci = 11 then (fX9_sails w σ a ci n k p1) else (if ci = 12 then (fX10_sails w σ a ci n k p1) else (if ci = 13 then (fX9_sails w σ a ci n k p1) else (if ci = 14 then (fX9_sails w σ a ci n k p1) else (none)))))))
section
variable {p : Program} {l : Launch} {e : Env} {R : Room} {s : State} {m : MethodId} {args : Array Value} {below : List Frame} {meth : Method} {c : Code} {Q : State → Prop} {w : ZW} {A : Nat → Prop} {nL : Nat} {cc : ByteArray} {own : String} {ret : Option FieldType} {hh : List (Nat × Nat × Nat × Nat)} {σ : ZS} {pc : Nat} {lv : List (Nat × Value)} {st : List Value}
theorem z_S_Ship_sails (C : zCx p s m args meth c w zLx A nL cc own ret hh) {index a ci : Nat} {n k p1 r : Int32} {σ' : ZS} (hci : zShipC ci) (hP : σ.2.2.1 a = some (.inr (ci, [.ref (w.2.2 4), .int n, .int k]))) (hq1 : Cond.methodLink own index ⟨"OldLight$Ship", "sails", "(I)I"⟩ ∈ lw_all) (hf : fS_Ship_sails w σ a ci n k p1 = some (r, σ')) (hd : decode cc pc = .ok (.invokevirtual index, 3)) (hfr : 2 + 1 ≤ R.frames) (hlo : (st.map fun v => v.category).sum + (2 + 11) + 26 ≤ R.locals) (kk : Z p l e R s m args below meth c Q w zLx A nL σ' (pc + 3) lv (.int r :: st)) : Z p l e R s m args below meth c Q w zLx A nL σ pc lv (.int p1 :: .ref a :: st) := by
  rcases hci with rfl | rfl | rfl | rfl | rfl | rfl | rfl
  · skip
    exact z_calli C (rest := st) (av := (.ref a :: [.int p1])) (zPay.of q1108 q87) (fun H ls hH h2 => zInv_U C (x := ⟨"OldLight$Ship", "sails", "(I)I"⟩) (owner := "OldLight$Ship") (As := [.int p1]) (rest := st) (ci := 8) (T := TX9) (N := 3) rfl (zSee.pool hP) hH hq1 q1881 (zDecl_of C q1107 q1108) (by unfold zMH; decide) q1107 q1886 np_X9_sails hd) (tX9_sails l w (by unfold zShipC; decide) hP hf) (by have := hfr; omega) (by have := hlo; omega) kk
  · skip
    exact z_calli C (rest := st) (av := (.ref a :: [.int p1])) (zPay.of q1101 q88) (fun H ls hH h2 => zInv_U C (x := ⟨"OldLight$Ship", "sails", "(I)I"⟩) (owner := "OldLight$Ship") (As := [.int p1]) (rest := st) (ci := 9) (T := TX10) (N := 3) rfl (zSee.pool hP) hH hq1 q1881 (zDecl_of C q1107 q1108) (by unfold zMH; decide) q1099 q1882 np_X10_sails hd) (tX10_sails l w (by unfold zShipC; decide) hP hf) (by have := hfr; omega) (by have := hlo; omega) kk
  · skip
    exact z_calli C (rest := st) (av := (.ref a :: [.int p1])) (zPay.of q1108 q87) (fun H ls hH h2 => zInv_U C (x := ⟨"OldLight$Ship", "sails", "(I)I"⟩) (owner := "OldLight$Ship") (As := [.int p1]) (rest := st) (ci := 10) (T := TX11) (N := 3) rfl (zSee.pool hP) hH hq1 q1881 (zDecl_of C q1107 q1108) (by unfold zMH; decide) q1107 q1885 np_X9_sails hd) (tX9_sails l w (by unfold zShipC; decide) hP hf) (by have := hfr; omega) (by have := hlo; omega) kk
  · skip
    exact z_calli C (rest := st) (av := (.ref a :: [.int p1])) (zPay.of q1108 q87) (fun H ls hH h2 => zInv_U C (x := ⟨"OldLight$Ship", "sails", "(I)I"⟩) (owner := "OldLight$Ship") (As := [.int p1]) (rest := st) (ci := 11) (T := TX12) (N := 3) rfl (zSee.pool hP) hH hq1 q1881 (zDecl_of C q1107 q1108) (by unfold zMH; decide) q1107 q1888 np_X9_sails hd) (tX9_sails l w (by unfold zShipC; decide) hP hf) (by have := hfr; omega) (by have := hlo; omega) kk
  · skip
    exact z_calli C (rest := st) (av := (.ref a :: [.int p1])) (zPay.of q1101 q88) (fun H ls hH h2 => zInv_U C (x := ⟨"OldLight$Ship", "sails", "(I)I"⟩) (owner := "OldLight$Ship") (As := [.int p1]) (rest := st) (ci := 12) (T := TX13) (N := 3) rfl (zSee.pool hP) hH hq1 q1881 (zDecl_of C q1107 q1108) (by unfold zMH; decide) q1099 q1883 np_X10_sails hd) (tX10_sails l w (by unfold zShipC; decide) hP hf) (by have := hfr; omega) (by have := hlo; omega) kk
  · skip
    exact z_calli C (rest := st) (av := (.ref a :: [.int p1])) (zPay.of q1108 q87) (fun H ls hH h2 => zInv_U C (x := ⟨"OldLight$Ship", "sails", "(I)I"⟩) (owner := "OldLight$Ship") (As := [.int p1]) (rest := st) (ci := 13) (T := TX14) (N := 3) rfl (zSee.pool hP) hH hq1 q1881 (zDecl_of C q1107 q1108) (by unfold zMH; decide) q1107 q1887 np_X9_sails hd) (tX9_sails l w (by unfold zShipC; decide) hP hf) (by have := hfr; omega) (by have := hlo; omega) kk
  · skip
    exact z_calli C (rest := st) (av := (.ref a :: [.int p1])) (zPay.of q1108 q87) (fun H ls hH h2 => zInv_U C (x := ⟨"OldLight$Ship", "sails", "(I)I"⟩) (owner := "OldLight$Ship") (As := [.int p1]) (rest := st) (ci := 14) (T := TX15) (N := 3) rfl (zSee.pool hP) hH hq1 q1881 (zDecl_of C q1107 q1108) (by unfold zMH; decide) q1107 q1884 np_X9_sails hd) (tX9_sails l w (by unfold zShipC; decide) hP hf) (by have := hfr; omega) (by have := hlo; omega) kk
end
def fS_Ship_sounds (w : ZW) (σ : ZS) (a ci : Nat) (n k : Int32) (p1 : Int32) : Option (Int32 × ZS) := if ci = 8 then (fX9_sounds w σ a ci n k p1) else (if ci = 9 then (fX9_sounds w σ a ci n k p1) else (if ci = 10 then (fX9_sounds w σ a ci n k p1) else (if ci = 11 then (fX12_sounds w σ a ci n k p1) else (if ci = 12 then (fX9_sounds w σ a ci n k p1) else (if ci = 13 then (fX9_sounds w σ a ci n k p1) else (if ci = 14 then (fX15_sounds w σ a ci n k p1) else (none)))))))
section
variable {p : Program} {l : Launch} {e : Env} {R : Room} {s : State} {m : MethodId} {args : Array Value} {below : List Frame} {meth : Method} {c : Code} {Q : State → Prop} {w : ZW} {A : Nat → Prop} {nL : Nat} {cc : ByteArray} {own : String} {ret : Option FieldType} {hh : List (Nat × Nat × Nat × Nat)} {σ : ZS} {pc : Nat} {lv : List (Nat × Value)} {st : List Value}
theorem z_S_Ship_sounds (C : zCx p s m args meth c w zLx A nL cc own ret hh) {index a ci : Nat} {n k p1 r : Int32} {σ' : ZS} (hci : zShipC ci) (hP : σ.2.2.1 a = some (.inr (ci, [.ref (w.2.2 4), .int n, .int k]))) (hq1 : Cond.methodLink own index ⟨"OldLight$Ship", "sounds", "(I)I"⟩ ∈ lw_all) (hf : fS_Ship_sounds w σ a ci n k p1 = some (r, σ')) (hd : decode cc pc = .ok (.invokevirtual index, 3)) (hfr : 3 + 1 ≤ R.frames) (hlo : (st.map fun v => v.category).sum + (2 + 11) + 39 ≤ R.locals) (kk : Z p l e R s m args below meth c Q w zLx A nL σ' (pc + 3) lv (.int r :: st)) : Z p l e R s m args below meth c Q w zLx A nL σ pc lv (.int p1 :: .ref a :: st) := by
  rcases hci with rfl | rfl | rfl | rfl | rfl | rfl | rfl
  · skip
    exact z_calli C (rest := st) (av := (.ref a :: [.int p1])) (zPay.of q1160 q87) (fun H ls hH h2 => zInv_U C (x := ⟨"OldLight$Ship", "sounds", "(I)I"⟩) (owner := "OldLight$Ship") (As := [.int p1]) (rest := st) (ci := 8) (T := TX9) (N := 3) rfl (zSee.pool hP) hH hq1 q1892 (zDecl_of C q1159 q1160) (by unfold zMH; decide) q1159 q1904 np_X9_sounds hd) (tX9_sounds l w (by unfold zShipC; decide) hP hf) (by have := hfr; omega) (by have := hlo; omega) kk
  · skip
    exact z_calli C (rest := st) (av := (.ref a :: [.int p1])) (zPay.of q1160 q87) (fun H ls hH h2 => zInv_U C (x := ⟨"OldLight$Ship", "sounds", "(I)I"⟩) (owner := "OldLight$Ship") (As := [.int p1]) (rest := st) (ci := 9) (T := TX10) (N := 3) rfl (zSee.pool hP) hH hq1 q1892 (zDecl_of C q1159 q1160) (by unfold zMH; decide) q1159 q1900 np_X9_sounds hd) (tX9_sounds l w (by unfold zShipC; decide) hP hf) (by have := hfr; omega) (by have := hlo; omega) kk
  · skip
    exact z_calli C (rest := st) (av := (.ref a :: [.int p1])) (zPay.of q1160 q87) (fun H ls hH h2 => zInv_U C (x := ⟨"OldLight$Ship", "sounds", "(I)I"⟩) (owner := "OldLight$Ship") (As := [.int p1]) (rest := st) (ci := 10) (T := TX11) (N := 3) rfl (zSee.pool hP) hH hq1 q1892 (zDecl_of C q1159 q1160) (by unfold zMH; decide) q1159 q1903 np_X9_sounds hd) (tX9_sounds l w (by unfold zShipC; decide) hP hf) (by have := hfr; omega) (by have := hlo; omega) kk
  · skip
    exact z_calli C (rest := st) (av := (.ref a :: [.int p1])) (zPay.of q1195 q90) (fun H ls hH h2 => zInv_U C (x := ⟨"OldLight$Ship", "sounds", "(I)I"⟩) (owner := "OldLight$Ship") (As := [.int p1]) (rest := st) (ci := 11) (T := TX12) (N := 3) rfl (zSee.pool hP) hH hq1 q1892 (zDecl_of C q1159 q1160) (by unfold zMH; decide) q1194 q1906 np_X12_sounds hd) (tX12_sounds l w (by unfold zShipC; decide) hP hf) (by have := hfr; omega) (by have := hlo; omega) kk
  · skip
    exact z_calli C (rest := st) (av := (.ref a :: [.int p1])) (zPay.of q1160 q87) (fun H ls hH h2 => zInv_U C (x := ⟨"OldLight$Ship", "sounds", "(I)I"⟩) (owner := "OldLight$Ship") (As := [.int p1]) (rest := st) (ci := 12) (T := TX13) (N := 3) rfl (zSee.pool hP) hH hq1 q1892 (zDecl_of C q1159 q1160) (by unfold zMH; decide) q1159 q1901 np_X9_sounds hd) (tX9_sounds l w (by unfold zShipC; decide) hP hf) (by have := hfr; omega) (by have := hlo; omega) kk
  · skip
    exact z_calli C (rest := st) (av := (.ref a :: [.int p1])) (zPay.of q1160 q87) (fun H ls hH h2 => zInv_U C (x := ⟨"OldLight$Ship", "sounds", "(I)I"⟩) (owner := "OldLight$Ship") (As := [.int p1]) (rest := st) (ci := 13) (T := TX14) (N := 3) rfl (zSee.pool hP) hH hq1 q1892 (zDecl_of C q1159 q1160) (by unfold zMH; decide) q1159 q1905 np_X9_sounds hd) (tX9_sounds l w (by unfold zShipC; decide) hP hf) (by have := hfr; omega) (by have := hlo; omega) kk
  · skip
    exact z_calli C (rest := st) (av := (.ref a :: [.int p1])) (zPay.of q1191 q93) (fun H ls hH h2 => zInv_U C (x := ⟨"OldLight$Ship", "sounds", "(I)I"⟩) (owner := "OldLight$Ship") (As := [.int p1]) (rest := st) (ci := 14) (T := TX15) (N := 3) rfl (zSee.pool hP) hH hq1 q1892 (zDecl_of C q1159 q1160) (by unfold zMH; decide) q1189 q1902 np_X15_sounds hd) (tX15_sounds l w (by unfold zShipC; decide) hP hf) (by have := hfr; omega) (by have := hlo; omega) kk
end
def fS_Cutter_sails (w : ZW) (σ : ZS) (a ci : Nat) (n k : Int32) (p1 : Int32) : Option (Int32 × ZS) := if ci = 12 then (fX10_sails w σ a ci n k p1) else (none)
section
variable {p : Program} {l : Launch} {e : Env} {R : Room} {s : State} {m : MethodId} {args : Array Value} {below : List Frame} {meth : Method} {c : Code} {Q : State → Prop} {w : ZW} {A : Nat → Prop} {nL : Nat} {cc : ByteArray} {own : String} {ret : Option FieldType} {hh : List (Nat × Nat × Nat × Nat)} {σ : ZS} {pc : Nat} {lv : List (Nat × Value)} {st : List Value}
theorem z_S_Cutter_sails (C : zCx p s m args meth c w zLx A nL cc own ret hh) {index a ci : Nat} {n k p1 r : Int32} {σ' : ZS} (hci : zShipC ci) (hP : σ.2.2.1 a = some (.inr (ci, [.ref (w.2.2 4), .int n, .int k]))) (hq1 : Cond.methodLink own index ⟨"OldLight$Cutter", "sails", "(I)I"⟩ ∈ lw_all) (hf : fS_Cutter_sails w σ a ci n k p1 = some (r, σ')) (hd : decode cc pc = .ok (.invokevirtual index, 3)) (hfr : 2 + 1 ≤ R.frames) (hlo : (st.map fun v => v.category).sum + (2 + 11) + 26 ≤ R.locals) (kk : Z p l e R s m args below meth c Q w zLx A nL σ' (pc + 3) lv (.int r :: st)) : Z p l e R s m args below meth c Q w zLx A nL σ pc lv (.int p1 :: .ref a :: st) := by
  rcases hci with rfl | rfl | rfl | rfl | rfl | rfl | rfl
  · exact none_ hf
  · exact none_ hf
  · exact none_ hf
  · exact none_ hf
  · skip
    exact z_calli C (rest := st) (av := (.ref a :: [.int p1])) (zPay.of q1101 q88) (fun H ls hH h2 => zInv_U C (x := ⟨"OldLight$Cutter", "sails", "(I)I"⟩) (owner := "OldLight$Collier") (As := [.int p1]) (rest := st) (ci := 12) (T := TX13) (N := 3) rfl (zSee.pool hP) hH hq1 q1234 (zDecl_of C q1099 q1101) (by unfold zMH; decide) q1099 q1236 np_X10_sails hd) (tX10_sails l w (by unfold zShipC; decide) hP hf) (by have := hfr; omega) (by have := hlo; omega) kk
  · exact none_ hf
  · exact none_ hf
end
def fS_Sails_sails (w : ZW) (σ : ZS) (a ci : Nat) (n k : Int32) (p1 : Int32) : Option (Int32 × ZS) := if ci = 8 then (fX9_sails w σ a ci n k p1) else (if ci = 9 then (fX10_sails w σ a ci n k p1) else (if ci = 10 then (fX9_sails w σ a ci n k p1) else (if ci = 11 then (fX9_sails w σ a ci n k p1) else (if ci = 12 then (fX10_sails w σ a ci n k p1) else (if ci = 13 then (fX9_sails w σ a ci n k p1) else (if ci = 14 then (fX9_sails w σ a ci n k p1) else (none)))))))
section
variable {p : Program} {l : Launch} {e : Env} {R : Room} {s : State} {m : MethodId} {args : Array Value} {below : List Frame} {meth : Method} {c : Code} {Q : State → Prop} {w : ZW} {A : Nat → Prop} {nL : Nat} {cc : ByteArray} {own : String} {ret : Option FieldType} {hh : List (Nat × Nat × Nat × Nat)} {σ : ZS} {pc : Nat} {lv : List (Nat × Value)} {st : List Value}
theorem z_S_Sails_sails (C : zCx p s m args meth c w zLx A nL cc own ret hh) {index cnt a ci : Nat} {n k p1 r : Int32} {σ' : ZS} (hci : zShipC ci) (hP : σ.2.2.1 a = some (.inr (ci, [.ref (w.2.2 4), .int n, .int k]))) (hq1 : Cond.methodLink own index ⟨"OldLight$Sails", "sails", "(I)I"⟩ ∈ lw_all) (hf : fS_Sails_sails w σ a ci n k p1 = some (r, σ')) (hd : decode cc pc = .ok (.invokeinterface index cnt, 5)) (hfr : 2 + 1 ≤ R.frames) (hlo : (st.map fun v => v.category).sum + (2 + 11) + 26 ≤ R.locals) (kk : Z p l e R s m args below meth c Q w zLx A nL σ' (pc + 5) lv (.int r :: st)) : Z p l e R s m args below meth c Q w zLx A nL σ pc lv (.int p1 :: .ref a :: st) := by
  rcases hci with rfl | rfl | rfl | rfl | rfl | rfl | rfl
  · skip
    exact z_calli C (rest := st) (av := (.ref a :: [.int p1])) (zPay.of q1108 q87) (fun H ls hH h2 => zInv_F C (x := ⟨"OldLight$Sails", "sails", "(I)I"⟩) (As := [.int p1]) (rest := st) (ci := 8) (T := TX9) (N := 3) rfl (zSee.pool hP) hH hq1 (by decide) q1107 q1121 q1116 q1122 q1120 np_X9_sails hd) (tX9_sails l w (by unfold zShipC; decide) hP hf) (by have := hfr; omega) (by have := hlo; omega) kk
  · skip
    exact z_calli C (rest := st) (av := (.ref a :: [.int p1])) (zPay.of q1101 q88) (fun H ls hH h2 => zInv_F C (x := ⟨"OldLight$Sails", "sails", "(I)I"⟩) (As := [.int p1]) (rest := st) (ci := 9) (T := TX10) (N := 3) rfl (zSee.pool hP) hH hq1 (by decide) q1099 q1097 q1100 q1098 q1096 np_X10_sails hd) (tX10_sails l w (by unfold zShipC; decide) hP hf) (by have := hfr; omega) (by have := hlo; omega) kk
  · skip
    exact z_calli C (rest := st) (av := (.ref a :: [.int p1])) (zPay.of q1108 q87) (fun H ls hH h2 => zInv_F C (x := ⟨"OldLight$Sails", "sails", "(I)I"⟩) (As := [.int p1]) (rest := st) (ci := 10) (T := TX11) (N := 3) rfl (zSee.pool hP) hH hq1 (by decide) q1107 q1118 q1116 q1119 q1117 np_X9_sails hd) (tX9_sails l w (by unfold zShipC; decide) hP hf) (by have := hfr; omega) (by have := hlo; omega) kk
  · skip
    exact z_calli C (rest := st) (av := (.ref a :: [.int p1])) (zPay.of q1108 q87) (fun H ls hH h2 => zInv_F C (x := ⟨"OldLight$Sails", "sails", "(I)I"⟩) (As := [.int p1]) (rest := st) (ci := 11) (T := TX12) (N := 3) rfl (zSee.pool hP) hH hq1 (by decide) q1107 q1127 q1116 q1128 q1126 np_X9_sails hd) (tX9_sails l w (by unfold zShipC; decide) hP hf) (by have := hfr; omega) (by have := hlo; omega) kk
  · skip
    exact z_calli C (rest := st) (av := (.ref a :: [.int p1])) (zPay.of q1101 q88) (fun H ls hH h2 => zInv_F C (x := ⟨"OldLight$Sails", "sails", "(I)I"⟩) (As := [.int p1]) (rest := st) (ci := 12) (T := TX13) (N := 3) rfl (zSee.pool hP) hH hq1 (by decide) q1099 q1111 q1100 q1112 q1110 np_X10_sails hd) (tX10_sails l w (by unfold zShipC; decide) hP hf) (by have := hfr; omega) (by have := hlo; omega) kk
  · skip
    exact z_calli C (rest := st) (av := (.ref a :: [.int p1])) (zPay.of q1108 q87) (fun H ls hH h2 => zInv_F C (x := ⟨"OldLight$Sails", "sails", "(I)I"⟩) (As := [.int p1]) (rest := st) (ci := 13) (T := TX14) (N := 3) rfl (zSee.pool hP) hH hq1 (by decide) q1107 q1124 q1116 q1125 q1123 np_X9_sails hd) (tX9_sails l w (by unfold zShipC; decide) hP hf) (by have := hfr; omega) (by have := hlo; omega) kk
  · skip
    exact z_calli C (rest := st) (av := (.ref a :: [.int p1])) (zPay.of q1108 q87) (fun H ls hH h2 => zInv_F C (x := ⟨"OldLight$Sails", "sails", "(I)I"⟩) (As := [.int p1]) (rest := st) (ci := 14) (T := TX15) (N := 3) rfl (zSee.pool hP) hH hq1 (by decide) q1107 q1114 q1116 q1115 q1113 np_X9_sails hd) (tX9_sails l w (by unfold zShipC; decide) hP hf) (by have := hfr; omega) (by have := hlo; omega) kk
end
def fS_Sounds_sounds (w : ZW) (σ : ZS) (a ci : Nat) (n k : Int32) (p1 : Int32) : Option (Int32 × ZS) := if ci = 8 then (fX9_sounds w σ a ci n k p1) else (if ci = 9 then (fX9_sounds w σ a ci n k p1) else (if ci = 10 then (fX9_sounds w σ a ci n k p1) else (if ci = 11 then (fX12_sounds w σ a ci n k p1) else (if ci = 12 then (fX9_sounds w σ a ci n k p1) else (if ci = 13 then (fX9_sounds w σ a ci n k p1) else (if ci = 14 then (fX15_sounds w σ a ci n k p1) else (none)))))))
section
variable {p : Program} {l : Launch} {e : Env} {R : Room} {s : State} {m : MethodId} {args : Array Value} {below : List Frame} {meth : Method} {c : Code} {Q : State → Prop} {w : ZW} {A : Nat → Prop} {nL : Nat} {cc : ByteArray} {own : String} {ret : Option FieldType} {hh : List (Nat × Nat × Nat × Nat)} {σ : ZS} {pc : Nat} {lv : List (Nat × Value)} {st : List Value}
theorem z_S_Sounds_sounds (C : zCx p s m args meth c w zLx A nL cc own ret hh) {index cnt a ci : Nat} {n k p1 r : Int32} {σ' : ZS} (hci : zShipC ci) (hP : σ.2.2.1 a = some (.inr (ci, [.ref (w.2.2 4), .int n, .int k]))) (hq1 : Cond.methodLink own index ⟨"OldLight$Sounds", "sounds", "(I)I"⟩ ∈ lw_all) (hf : fS_Sounds_sounds w σ a ci n k p1 = some (r, σ')) (hd : decode cc pc = .ok (.invokeinterface index cnt, 5)) (hfr : 3 + 1 ≤ R.frames) (hlo : (st.map fun v => v.category).sum + (2 + 11) + 39 ≤ R.locals) (kk : Z p l e R s m args below meth c Q w zLx A nL σ' (pc + 5) lv (.int r :: st)) : Z p l e R s m args below meth c Q w zLx A nL σ pc lv (.int p1 :: .ref a :: st) := by
  rcases hci with rfl | rfl | rfl | rfl | rfl | rfl | rfl
  · skip
    exact z_calli C (rest := st) (av := (.ref a :: [.int p1])) (zPay.of q1160 q87) (fun H ls hH h2 => zInv_F C (x := ⟨"OldLight$Sounds", "sounds", "(I)I"⟩) (As := [.int p1]) (rest := st) (ci := 8) (T := TX9) (N := 3) rfl (zSee.pool hP) hH hq1 (by decide) q1159 q1202 q1182 q1203 q1201 np_X9_sounds hd) (tX9_sounds l w (by unfold zShipC; decide) hP hf) (by have := hfr; omega) (by have := hlo; omega) kk
  · skip
    exact z_calli C (rest := st) (av := (.ref a :: [.int p1])) (zPay.of q1160 q87) (fun H ls hH h2 => zInv_F C (x := ⟨"OldLight$Sounds", "sounds", "(I)I"⟩) (As := [.int p1]) (rest := st) (ci := 9) (T := TX10) (N := 3) rfl (zSee.pool hP) hH hq1 (by decide) q1159 q1180 q1182 q1181 q1179 np_X9_sounds hd) (tX9_sounds l w (by unfold zShipC; decide) hP hf) (by have := hfr; omega) (by have := hlo; omega) kk
  · skip
    exact z_calli C (rest := st) (av := (.ref a :: [.int p1])) (zPay.of q1160 q87) (fun H ls hH h2 => zInv_F C (x := ⟨"OldLight$Sounds", "sounds", "(I)I"⟩) (As := [.int p1]) (rest := st) (ci := 10) (T := TX11) (N := 3) rfl (zSee.pool hP) hH hq1 (by decide) q1159 q1199 q1182 q1200 q1198 np_X9_sounds hd) (tX9_sounds l w (by unfold zShipC; decide) hP hf) (by have := hfr; omega) (by have := hlo; omega) kk
  · skip
    exact z_calli C (rest := st) (av := (.ref a :: [.int p1])) (zPay.of q1195 q90) (fun H ls hH h2 => zInv_F C (x := ⟨"OldLight$Sounds", "sounds", "(I)I"⟩) (As := [.int p1]) (rest := st) (ci := 11) (T := TX12) (N := 3) rfl (zSee.pool hP) hH hq1 (by decide) q1194 q1208 q1210 q1209 q1207 np_X12_sounds hd) (tX12_sounds l w (by unfold zShipC; decide) hP hf) (by have := hfr; omega) (by have := hlo; omega) kk
  · skip
    exact z_calli C (rest := st) (av := (.ref a :: [.int p1])) (zPay.of q1160 q87) (fun H ls hH h2 => zInv_F C (x := ⟨"OldLight$Sounds", "sounds", "(I)I"⟩) (As := [.int p1]) (rest := st) (ci := 12) (T := TX13) (N := 3) rfl (zSee.pool hP) hH hq1 (by decide) q1159 q1184 q1182 q1185 q1183 np_X9_sounds hd) (tX9_sounds l w (by unfold zShipC; decide) hP hf) (by have := hfr; omega) (by have := hlo; omega) kk
  · skip
    exact z_calli C (rest := st) (av := (.ref a :: [.int p1])) (zPay.of q1160 q87) (fun H ls hH h2 => zInv_F C (x := ⟨"OldLight$Sounds", "sounds", "(I)I"⟩) (As := [.int p1]) (rest := st) (ci := 13) (T := TX14) (N := 3) rfl (zSee.pool hP) hH hq1 (by decide) q1159 q1205 q1182 q1206 q1204 np_X9_sounds hd) (tX9_sounds l w (by unfold zShipC; decide) hP hf) (by have := hfr; omega) (by have := hlo; omega) kk
  · skip
    exact z_calli C (rest := st) (av := (.ref a :: [.int p1])) (zPay.of q1191 q93) (fun H ls hH h2 => zInv_F C (x := ⟨"OldLight$Sounds", "sounds", "(I)I"⟩) (As := [.int p1]) (rest := st) (ci := 14) (T := TX15) (N := 3) rfl (zSee.pool hP) hH hq1 (by decide) q1189 q1187 q1190 q1188 q1186 np_X15_sounds hd) (tX15_sounds l w (by unfold zShipC; decide) hP hf) (by have := hfr; omega) (by have := hlo; omega) kk
end
def fX0_bay_L58 (y1 : Int32) (y2 : Int32) : Nat → Int32 → ZS → Option ((Int32) × ZS)
  | 0, _, _ => none
  | n + 1, y3, σ => if 8 ≤ y3 then (some (y3, σ)) else (gd (¬ (y3 < 0 ∨ 8 ≤ y3.toNatClampNeg)) (nm (y3 + 1) (fun (x3_15 : Int32) => fX0_bay_L58 y1 y2 n x3_15 (sI (sI (sI σ (100 + 2) (y3.toNatClampNeg) 5) (100 + 3) (y3.toNatClampNeg) 1) (100 + 4) (y3.toNatClampNeg) 0))))
def fX0_bay (σ : ZS) (p1 : Int32) : Option (Int32 × ZS) := bd (fX0_need σ (fX0_in p1 3 8) 1) (fun r_1 σ_3 => sc r_1 (fun _ => nm (if (σ_3.1 100 8) = 0 then 1 else 0) (fun (j_6 : Int32) => bd (fX0_need σ_3 j_6 3) (fun r_7 σ_9 => sc r_7 (fun _ => nm (σ_9.1 100 0) (fun (x2_12 : Int32) => bd (fX0_bay_L58 p1 x2_12 10000 0 (sI (sI σ_9 100 0 p1) 100 6 0)) (fun x3_16 σ_17 => some (x2_12, σ_17)))) (fun _ => bd (fX0_finds σ_9) (fun r_19 σ_21 => some (r_19, σ_21)))))) (fun _ => bd (fX0_finds σ_3) (fun r_23 σ_25 => some (r_23, σ_25))))
set_option maxHeartbeats 4000000 in
set_option maxRecDepth 100000 in
theorem lfX0_bay_L58 {p : Program} {l : Launch} {e : Env} {R : Room} {s : State} {m : MethodId} {args : Array Value} {below : List Frame} {meth : Method} {c : Code} {Q : State → Prop} {w : ZW} {A : Nat → Prop} {ret : Option FieldType} {hh : List (Nat × Nat × Nat × Nat)} (C : zCx p s m args meth c w zLx A 4 cX0_bay RX0 ret hh) (hfr : 0 ≤ R.frames) (hlo : 0 ≤ R.locals) (y1 : Int32) (y2 : Int32) {z3 : Int32} {σ' : ZS} (hk : Z p l e R s m args below meth c Q w zLx A 4 σ' 100 [(0, .ref (w.2.2 0)), (1, .int y1), (2, .int y2), (3, .int z3)] []) : ∀ (n : Nat) (y3 : Int32) (σ : ZS), fX0_bay_L58 y1 y2 n y3 σ = some (z3, σ') → Z p l e R s m args below meth c Q w zLx A 4 σ 58 [(0, .ref (w.2.2 0)), (1, .int y1), (2, .int y2), (3, .int y3)] [] := by
  intro n
  induction n with
  | zero => intro y3 σ hf; exact none_ hf
  | succ n ih =>
    intro y3 σ hf
    rw [fX0_bay_L58] at hf
    refine z_iload_n C 3 dX0_bay_58 rfl rfl ?_
    refine z_bipush C 8 dX0_bay_59 (by decide) ?_
    refine z_icmp_ge C 100 dX0_bay_61 (by decide) (fun c_13 => ?_) (fun c_13 => ?_)
    · replace hf := if_t c_13 hf
      obtain ⟨rfl, rfl⟩ := fin_ hf
      exact hk
    · replace hf := if_f c_13 hf
      refine z_aload_n C 0 dX0_bay_64 rfl rfl ?_
      refine z_getR C ly_x0 (Cn := RX0) (T := TX0) (N := 8) rfl in_X0 1 (by decide) q320 (Or.inl rfl) rfl dX0_bay_65 ?_
      refine z_getRN C (ly_b0 zb100) (Cn := RX2) (T := TX2) (N := 20) rfl in_X2 1 (by decide) q213 (Or.inl rfl) rfl dX0_bay_68 ?_
      refine z_iload_n C 3 dX0_bay_71 rfl rfl ?_
      refine z_iconst C 5 dX0_bay_72 (by decide) ?_
      obtain ⟨g_14, hf⟩ := gd_ hf
      refine z_iastore C (ly_b2 zb100) g_14 dX0_bay_73 ?_
      refine z_aload_n C 0 dX0_bay_74 rfl rfl ?_
      refine z_getR C ly_x0 (Cn := RX0) (T := TX0) (N := 8) rfl in_X0 1 (by decide) q320 (Or.inl rfl) rfl dX0_bay_75 ?_
      refine z_getRN C (ly_b0 zb100) (Cn := RX2) (T := TX2) (N := 20) rfl in_X2 2 (by decide) q215 (Or.inl rfl) rfl dX0_bay_78 ?_
      refine z_iload_n C 3 dX0_bay_81 rfl rfl ?_
      refine z_iconst C 1 dX0_bay_82 (by decide) ?_
      refine z_iastore C (ly_b3 zb100) g_14 dX0_bay_83 ?_
      refine z_aload_n C 0 dX0_bay_84 rfl rfl ?_
      refine z_getR C ly_x0 (Cn := RX0) (T := TX0) (N := 8) rfl in_X0 1 (by decide) q320 (Or.inl rfl) rfl dX0_bay_85 ?_
      refine z_getRN C (ly_b0 zb100) (Cn := RX2) (T := TX2) (N := 20) rfl in_X2 3 (by decide) q217 (Or.inl rfl) rfl dX0_bay_88 ?_
      refine z_iload_n C 3 dX0_bay_91 rfl rfl ?_
      refine z_iconst C 0 dX0_bay_92 (by decide) ?_
      refine z_iastore C (ly_b4 zb100) g_14 dX0_bay_93 ?_
      obtain ⟨x3_15, ex3_15, hf⟩ := nmo_ hf
      refine z_iinc C x3_15 3 dX0_bay_94 rfl (by rw [ex3_15]; rfl) (by decide) rfl (lv' := [(3, .int x3_15), (0, .ref (w.2.2 0)), (1, .int y1), (2, .int y2)]) ?_
      refine z_goto C 58 dX0_bay_97 (by decide) ?_
      exact z_lv [1, 2, 3, 0] rfl (ih _ _ hf)
set_option maxHeartbeats 4000000 in
set_option maxRecDepth 100000 in
theorem tX0_bay (l : Launch) (w : ZW) {σ σ' : ZS} {p1 : Int32} {r : Int32} (hf : fX0_bay σ p1 = some (r, σ')) : zC l w zLx yX0_bay (wsW_ yX0_bay cX0_bay 4 (some .int) [(0, 101, 102, 8)]) 2 27 [.ref (w.2.2 0), .int p1] σ (.returned (some (.int r))) σ' := by
  refine zC.ofW (plainFor_of_name (by decide)) (Nat.le_of_ble_eq_true rfl) ?_
  intro p e s m args below meth c C hnm
  show Z p l e _ s m args below meth c _ w _ _ 4 σ 0 [(0, .ref (w.2.2 0)), (1, .int p1)] []
  unfold fX0_bay at hf
  refine z_aload_n C 0 dX0_bay_0 rfl rfl ?_
  refine z_iload_n C 1 dX0_bay_1 rfl rfl ?_
  refine z_iconst C 3 dX0_bay_2 (by decide) ?_
  refine z_bipush C 8 dX0_bay_3 (by decide) ?_
  refine z_calli C (rest := [.ref (w.2.2 0)]) (av := [.int p1, .int 3, .int 8]) (zPay.of q350 q74) (fun H ls hH h2 => zInv_S C (As := [.int p1, .int 3, .int 8]) (rest := [.ref (w.2.2 0)]) q348 q349 q74 (Or.inl rfl) q350 mh_X0 np_X0_in dX0_bay_5) (tX0_in l w zLx σ p1 3 8) (Nat.le_of_ble_eq_true rfl) (Nat.le_of_ble_eq_true rfl) ?_
  refine z_iconst C 1 dX0_bay_8 (by decide) ?_
  obtain ⟨r_1, σ_3, e_2, hf⟩ := bd_ hf
  rcases r_1 with ⟨⟩ | ⟨⟩
  · dsimp only [sc] at hf
    refine z_callv C (rest := []) (av := (.ref (w.2.2 0) :: [.int (fX0_in p1 3 8), .int 1])) (zPay.of q354 q74) (fun H ls hH h2 => zInv_V C (As := [.int (fX0_in p1 3 8), .int 1]) (rest := []) (ci := 0) (T := TX0) (N := 8) rfl (zSee.fix ly_x0) hH q351 q353 qs1 (Or.inl rfl) q354 mh_X0 np_X0_need dX0_bay_9) (tX0_need l w e_2) (Nat.le_of_ble_eq_true rfl) (Nat.le_of_ble_eq_true rfl) ?_
    refine z_aload_n C 0 dX0_bay_12 rfl rfl ?_
    refine z_aload_n C 0 dX0_bay_13 rfl rfl ?_
    refine z_getR C ly_x0 (Cn := RX0) (T := TX0) (N := 8) rfl in_X0 1 (by decide) q320 (Or.inl rfl) rfl dX0_bay_14 ?_
    refine z_getIN C (ly_b0 zb100) (Cn := RX2) (T := TX2) (N := 20) rfl in_X2 8 (by decide) q230 (Or.inl rfl) rfl dX0_bay_17 ?_
    obtain ⟨j_6, ej_6, hf⟩ := nmo_ hf
    have hj_6 : j_6 = 0 ∨ j_6 = 1 := by rw [ej_6]; (try dsimp only [nm]); (repeat' split) <;> first | exact Or.inl rfl | exact Or.inr rfl
    have hjj_6 : Z p l e (zRm 2 27 σ) s m args below meth c (zQ below w zLx σ (.returned (some (.int r))) σ' args s) w zLx (zA w zLx σ) 4 σ_3 28 [(0, .ref (w.2.2 0)), (1, .int p1)] [.int j_6, .ref (w.2.2 0)] := by
      refine z_iconst C 3 dX0_bay_28 (by decide) ?_
      obtain ⟨r_7, σ_9, e_8, hf⟩ := bd_ hf
      rcases r_7 with ⟨⟩ | ⟨⟩
      · dsimp only [sc] at hf
        refine z_callv C (rest := []) (av := (.ref (w.2.2 0) :: [.int j_6, .int 3])) (zPay.of q354 q74) (fun H ls hH h2 => zInv_V C (As := [.int j_6, .int 3]) (rest := []) (ci := 0) (T := TX0) (N := 8) rfl (zSee.fix ly_x0) hH q351 q353 qs1 (Or.inl rfl) q354 mh_X0 np_X0_need dX0_bay_29) (tX0_need l w e_8) (Nat.le_of_ble_eq_true rfl) (Nat.le_of_ble_eq_true rfl) ?_
        refine z_aload_n C 0 dX0_bay_32 rfl rfl ?_
        refine z_getR C ly_x0 (Cn := RX0) (T := TX0) (N := 8) rfl in_X0 1 (by decide) q320 (Or.inl rfl) rfl dX0_bay_33 ?_
        refine z_getIN C (ly_b0 zb100) (Cn := RX2) (T := TX2) (N := 20) rfl in_X2 0 (by decide) q211 (Or.inl rfl) rfl dX0_bay_36 ?_
        obtain ⟨x2_12, ex2_12, hf⟩ := nmo_ hf
        refine z_top ex2_12 ?_
        refine z_istore_n C dX0_bay_39 rfl (by decide) rfl (lv' := [(2, .int x2_12), (0, .ref (w.2.2 0)), (1, .int p1)]) ?_
        refine z_aload_n C 1 dX0_bay_40 rfl rfl ?_
        refine z_getR C ly_x0 (Cn := RX0) (T := TX0) (N := 8) rfl in_X0 1 (by decide) q320 (Or.inl rfl) rfl dX0_bay_41 ?_
        refine z_iload_n C 2 dX0_bay_44 rfl rfl ?_
        refine z_putI C (ly_b0 zb100) (k := 0) rfl (zPutN C (Cn := RX2) (T := TX2) (N := 20) rfl in_X2 tyX2 tyX2_ok nmX2 0 (by decide) q211 (Or.inl rfl) rfl rfl rfl (zFs_lt (Nat.le_of_ble_eq_true rfl)) dX0_bay_45) ?_
        refine z_aload_n C 1 dX0_bay_48 rfl rfl ?_
        refine z_getR C ly_x0 (Cn := RX0) (T := TX0) (N := 8) rfl in_X0 1 (by decide) q320 (Or.inl rfl) rfl dX0_bay_49 ?_
        refine z_iconst C 0 dX0_bay_52 (by decide) ?_
        refine z_putI C (ly_b0 zb100) (k := 6) rfl (zPutN C (Cn := RX2) (T := TX2) (N := 20) rfl in_X2 tyX2 tyX2_ok nmX2 6 (by decide) q226 (Or.inl rfl) rfl rfl rfl (zFs_lt (Nat.le_of_ble_eq_true rfl)) dX0_bay_53) ?_
        refine z_iconst C 0 dX0_bay_56 (by decide) ?_
        refine z_istore_n C dX0_bay_57 rfl (by decide) rfl (lv' := [(3, .int 0), (2, .int x2_12), (0, .ref (w.2.2 0)), (1, .int p1)]) ?_
        obtain ⟨x3_16, σ_17, e_18, hf⟩ := bd_ hf
        refine z_lv (lv' := [(0, .ref (w.2.2 0)), (1, .int p1), (2, .int x2_12), (3, .int 0)]) [2, 3, 1, 0] rfl ?_
        refine lfX0_bay_L58 C (Nat.le_of_ble_eq_true rfl) (Nat.le_of_ble_eq_true rfl) p1 x2_12 ?_ _ _ _ e_18
        refine z_iload_n C 2 dX0_bay_100 rfl rfl ?_
        obtain ⟨rfl, rfl⟩ := fin_ hf
        exact z_iret C rfl dX0_bay_101
      · dsimp only [sc] at hf
        refine z_callt C (rest := []) (av := (.ref (w.2.2 0) :: [.int j_6, .int 3])) (zPay.of q354 q74) (fun H ls hH h2 => zInv_V C (As := [.int j_6, .int 3]) (rest := []) (ci := 0) (T := TX0) (N := 8) rfl (zSee.fix ly_x0) hH q351 q353 qs1 (Or.inl rfl) q354 mh_X0 np_X0_need dX0_bay_29) (tX0_need l w e_8) (Nat.le_of_ble_eq_true rfl) (Nat.le_of_ble_eq_true rfl) ?_
        refine z_catch C [] 0 101 102 8 [] rfl (by decide) (by decide) (by decide) (ci := 1) (Cn := RX1) (T0 := TX1) (N := 7) rfl (zSee.fix ly_x1) q118 ?_
        refine z_astore_n C dX0_bay_102 rfl (by decide) rfl (lv' := [(2, .ref (w.2.2 1)), (0, .ref (w.2.2 0)), (1, .int p1)]) ?_
        refine z_aload_n C 1 dX0_bay_103 rfl rfl ?_
        refine z_aload_n C 0 dX0_bay_104 rfl rfl ?_
        obtain ⟨r_19, σ_21, e_20, hf⟩ := bd_ hf
        refine z_calli C (rest := []) (av := (.ref (w.2.2 0) :: [.ref (w.2.2 1)])) (zPay.of q362 q74) (fun H ls hH h2 => zInv_V C (As := [.ref (w.2.2 1)]) (rest := []) (ci := 0) (T := TX0) (N := 8) rfl (zSee.fix ly_x0) hH q359 q361 qs2 (Or.inl rfl) q362 mh_X0 np_X0_finds dX0_bay_105) (tX0_finds l w e_20) (Nat.le_of_ble_eq_true rfl) (Nat.le_of_ble_eq_true rfl) ?_
        obtain ⟨rfl, rfl⟩ := fin_ hf
        exact z_iret C rfl dX0_bay_108
    replace hf := ej_6
    refine z_if_ne C 27 dX0_bay_20 (by decide) (fun c_22 => ?_) (fun c_22 => ?_)
    · replace hf := ifp_f c_22 hf
      refine z_iconst C 0 dX0_bay_27 (by decide) ?_
      subst hf
      exact hjj_6
    · replace hf := ifp_t c_22 hf
      refine z_iconst C 1 dX0_bay_23 (by decide) ?_
      refine z_goto C 28 dX0_bay_24 (by decide) ?_
      subst hf
      exact hjj_6
  · dsimp only [sc] at hf
    refine z_callt C (rest := []) (av := (.ref (w.2.2 0) :: [.int (fX0_in p1 3 8), .int 1])) (zPay.of q354 q74) (fun H ls hH h2 => zInv_V C (As := [.int (fX0_in p1 3 8), .int 1]) (rest := []) (ci := 0) (T := TX0) (N := 8) rfl (zSee.fix ly_x0) hH q351 q353 qs1 (Or.inl rfl) q354 mh_X0 np_X0_need dX0_bay_9) (tX0_need l w e_2) (Nat.le_of_ble_eq_true rfl) (Nat.le_of_ble_eq_true rfl) ?_
    refine z_catch C [] 0 101 102 8 [] rfl (by decide) (by decide) (by decide) (ci := 1) (Cn := RX1) (T0 := TX1) (N := 7) rfl (zSee.fix ly_x1) q118 ?_
    refine z_astore_n C dX0_bay_102 rfl (by decide) rfl (lv' := [(2, .ref (w.2.2 1)), (0, .ref (w.2.2 0)), (1, .int p1)]) ?_
    refine z_aload_n C 1 dX0_bay_103 rfl rfl ?_
    refine z_aload_n C 0 dX0_bay_104 rfl rfl ?_
    obtain ⟨r_23, σ_25, e_24, hf⟩ := bd_ hf
    refine z_calli C (rest := []) (av := (.ref (w.2.2 0) :: [.ref (w.2.2 1)])) (zPay.of q362 q74) (fun H ls hH h2 => zInv_V C (As := [.ref (w.2.2 1)]) (rest := []) (ci := 0) (T := TX0) (N := 8) rfl (zSee.fix ly_x0) hH q359 q361 qs2 (Or.inl rfl) q362 mh_X0 np_X0_finds dX0_bay_105) (tX0_finds l w e_24) (Nat.le_of_ble_eq_true rfl) (Nat.le_of_ble_eq_true rfl) ?_
    obtain ⟨rfl, rfl⟩ := fin_ hf
    exact z_iret C rfl dX0_bay_108
