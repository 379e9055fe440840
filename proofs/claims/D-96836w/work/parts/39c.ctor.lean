/-! the constructors, walked over the empty layout (written by gen/main_i.py) -/
theorem np_eJ0_init_2 : zNp yJ0_init_2.desc 4 := by unfold zNp; decide +kernel
theorem mh_eJ0 : zMH RJ0 := by unfold zMH; decide
theorem np_eJ1_init : zNp yJ1_init.desc 4 := by unfold zNp; decide +kernel
theorem mh_eJ1 : zMH RJ1 := by unfold zMH; decide
theorem np_eJ2_init : zNp yJ2_init.desc 4 := by unfold zNp; decide +kernel
theorem mh_eJ2 : zMH RJ2 := by unfold zMH; decide
theorem np_eX1_init : zNp yX1_init.desc 0 := by unfold zNp; decide +kernel
theorem mh_eX1 : zMH RX1 := by unfold zMH; decide
theorem np_eX3_init : zNp yX3_init.desc 0 := by unfold zNp; decide +kernel
theorem mh_eX3 : zMH RX3 := by unfold zMH; decide
theorem np_eX4_init : zNp yX4_init.desc 0 := by unfold zNp; decide +kernel
theorem mh_eX4 : zMH RX4 := by unfold zMH; decide
theorem np_eX5_init : zNp yX5_init.desc 0 := by unfold zNp; decide +kernel
theorem mh_eX5 : zMH RX5 := by unfold zMH; decide
theorem np_eX2_init : zNp yX2_init.desc 0 := by unfold zNp; decide +kernel
theorem mh_eX2 : zMH RX2 := by unfold zMH; decide
theorem np_eX0_init : zNp yX0_init.desc 0 := by unfold zNp; decide +kernel
theorem mh_eX0 : zMH RX0 := by unfold zMH; decide
def feJ0_init_2 (w : ZW) (σ : ZS) (a : Nat) (ci : Nat) : Option (Unit × ZS) := bo (oC7 ci (σ.2.2.1 a)) (fun th => nm (sP σ a (.inr (ci, [.ref a, (th.2.1), (th.2.2.1), (th.2.2.2.1), (th.2.2.2.2.1), (th.2.2.2.2.2.1), (th.2.2.2.2.2.2)]))) (fun (σ_1 : ZS) => nm (sP σ_1 a (.inr (ci, [.ref a, zsW w 0, (th.2.2.1), (th.2.2.2.1), (th.2.2.2.2.1), (th.2.2.2.2.2.1), (th.2.2.2.2.2.2)]))) (fun (σ_3 : ZS) => nm (sP σ_3 a (.inr (ci, [.ref a, zsW w 0, zsW w 1, (th.2.2.2.1), (th.2.2.2.2.1), (th.2.2.2.2.2.1), (th.2.2.2.2.2.2)]))) (fun (σ_5 : ZS) => nm (sP σ_5 a (.inr (ci, [.ref a, .null, zsW w 1, (th.2.2.2.1), (th.2.2.2.2.1), (th.2.2.2.2.2.1), (th.2.2.2.2.2.2)]))) (fun (σ_8 : ZS) => nm (sP σ_8 a (.inr (ci, [.ref a, .null, zsW w 1, .null, (th.2.2.2.2.1), (th.2.2.2.2.2.1), (th.2.2.2.2.2.2)]))) (fun (σ_10 : ZS) => nm (sP σ_10 a (.inr (ci, [.null, .null, zsW w 1, .null, (th.2.2.2.2.1), (th.2.2.2.2.2.1), (th.2.2.2.2.2.2)]))) (fun (σ_12 : ZS) => nm (sP σ_12 a (.inr (ci, [.null, .null, .null, .null, (th.2.2.2.2.1), (th.2.2.2.2.2.1), (th.2.2.2.2.2.2)]))) (fun (σ_15 : ZS) => some ((), σ_15)))))))))
set_option maxHeartbeats 4000000 in
set_option maxRecDepth 100000 in
theorem teJ0_init_2 (l : Launch) (w : ZW) {σ σ' : ZS} {a : Nat} {ci : Nat} (hci : ci = 1 ∨ ci = 17) (hf : feJ0_init_2 w σ a ci = some ((), σ')) : zC l w zL0 yJ0_init_2 (ws_ yJ0_init_2 cJ0_init_2 5 none) 1 12 [.ref a, .null, .null, .int 0, .int 0] σ (.returned none) σ' := by
  refine zC.of (by decide +kernel) (Nat.le_of_ble_eq_true rfl) ?_
  intro p e s m args below meth c C hnm
  show Z p l e _ s m args below meth c _ w _ _ 5 σ 0 [(0, .ref a), (1, .null), (2, .null), (3, .int 0), (4, .int 0)] []
  unfold feJ0_init_2 at hf
  refine z_aload_n C 0 dJ0_init_2_0 rfl rfl ?_
  refine z_objInit C q143 dJ0_init_2_1 (Nat.le_of_ble_eq_true rfl) (Nat.le_of_ble_eq_true rfl) ?_
  refine z_aload_n C 0 dJ0_init_2_4 rfl rfl ?_
  refine z_aload_n C 0 dJ0_init_2_5 rfl rfl ?_
  obtain ⟨⟨tc0, tc1, tc2, tc3, tc4, tc5, tc6⟩, eth, hf⟩ := bo_ hf
  try dsimp only at hf
  have hPth := oC7_ eth
  refine z_putT0 C hci hPth q174 rfl rfl dJ0_init_2_6 ?_
  obtain ⟨σ_1, eσ_1, hf⟩ := nmo_ hf
  refine z_w eσ_1.symm ?_
  have hP_2 : σ_1.2.2.1 a = some (.inr (ci, [.ref a, tc1, tc2, tc3, tc4, tc5, tc6])) := by rw [eσ_1]; exact sP_self
  refine z_aload_n C 0 dJ0_init_2_9 rfl rfl ?_
  refine z_sunass C q144 dJ0_init_2_10 ?_
  refine z_putT1 C hci hP_2 q175 zsW_n1 zsW_f1 dJ0_init_2_13 ?_
  obtain ⟨σ_3, eσ_3, hf⟩ := nmo_ hf
  refine z_w eσ_3.symm ?_
  have hP_4 : σ_3.2.2.1 a = some (.inr (ci, [.ref a, zsW w 0, tc2, tc3, tc4, tc5, tc6])) := by rw [eσ_3]; exact sP_self
  refine z_aload_n C 0 dJ0_init_2_16 rfl rfl ?_
  refine z_ssuppr C q146 dJ0_init_2_17 ?_
  refine z_putT2 C hci hP_4 q176 zsW_n2 zsW_f2 dJ0_init_2_20 ?_
  obtain ⟨σ_5, eσ_5, hf⟩ := nmo_ hf
  refine z_w eσ_5.symm ?_
  have hP_6 : σ_5.2.2.1 a = some (.inr (ci, [.ref a, zsW w 0, zsW w 1, tc3, tc4, tc5, tc6])) := by rw [eσ_5]; exact sP_self
  refine z_iload C 4 dJ0_init_2_23 rfl ?_
  refine z_if_eq C 36 dJ0_init_2_25 (by decide) (fun _ => ?_) (fun c_7 => absurd c_7 (by decide))
  refine z_aload_n C 0 dJ0_init_2_36 rfl rfl ?_
  refine z_null C dJ0_init_2_37 ?_
  refine z_putT1 C hci hP_6 q175 rfl rfl dJ0_init_2_38 ?_
  obtain ⟨σ_8, eσ_8, hf⟩ := nmo_ hf
  refine z_w eσ_8.symm ?_
  have hP_9 : σ_8.2.2.1 a = some (.inr (ci, [.ref a, .null, zsW w 1, tc3, tc4, tc5, tc6])) := by rw [eσ_8]; exact sP_self
  refine z_aload_n C 0 dJ0_init_2_41 rfl rfl ?_
  refine z_aload_nN C 1 dJ0_init_2_42 rfl rfl ?_
  refine z_putT3 C hci hP_9 q173 rfl rfl dJ0_init_2_43 ?_
  obtain ⟨σ_10, eσ_10, hf⟩ := nmo_ hf
  refine z_w eσ_10.symm ?_
  have hP_11 : σ_10.2.2.1 a = some (.inr (ci, [.ref a, .null, zsW w 1, .null, tc4, tc5, tc6])) := by rw [eσ_10]; exact sP_self
  refine z_aload_n C 0 dJ0_init_2_46 rfl rfl ?_
  refine z_aload_nN C 2 dJ0_init_2_47 rfl rfl ?_
  refine z_putT0 C hci hP_11 q174 rfl rfl dJ0_init_2_48 ?_
  obtain ⟨σ_12, eσ_12, hf⟩ := nmo_ hf
  refine z_w eσ_12.symm ?_
  have hP_13 : σ_12.2.2.1 a = some (.inr (ci, [.null, .null, zsW w 1, .null, tc4, tc5, tc6])) := by rw [eσ_12]; exact sP_self
  refine z_iload_n C 3 dJ0_init_2_51 rfl rfl ?_
  refine z_if_ne C 60 dJ0_init_2_52 (by decide) (fun c_14 => absurd c_14 (by decide)) (fun _ => ?_)
  refine z_aload_n C 0 dJ0_init_2_55 rfl rfl ?_
  refine z_null C dJ0_init_2_56 ?_
  refine z_putT2 C hci hP_13 q176 rfl rfl dJ0_init_2_57 ?_
  obtain ⟨σ_15, eσ_15, hf⟩ := nmo_ hf
  refine z_w eσ_15.symm ?_
  have hP_16 : σ_15.2.2.1 a = some (.inr (ci, [.null, .null, .null, .null, tc4, tc5, tc6])) := by rw [eσ_15]; exact sP_self
  obtain ⟨-, rfl⟩ := fin_ hf
  exact z_vret C dJ0_init_2_60
def feJ1_init (w : ZW) (σ : ZS) (a : Nat) (ci : Nat) : Option (Unit × ZS) := bd (feJ0_init_2 w σ a ci) (fun _ σ_3 => some ((), σ_3))
set_option maxHeartbeats 4000000 in
set_option maxRecDepth 100000 in
theorem teJ1_init (l : Launch) (w : ZW) {σ σ' : ZS} {a : Nat} {ci : Nat} (hci : ci = 1 ∨ ci = 17) (hf : feJ1_init w σ a ci = some ((), σ')) : zC l w zL0 yJ1_init (ws_ yJ1_init cJ1_init 5 none) 2 28 [.ref a, .null, .null, .int 0, .int 0] σ (.returned none) σ' := by
  refine zC.of (by decide +kernel) (Nat.le_of_ble_eq_true rfl) ?_
  intro p e s m args below meth c C hnm
  show Z p l e _ s m args below meth c _ w _ _ 5 σ 0 [(0, .ref a), (1, .null), (2, .null), (3, .int 0), (4, .int 0)] []
  unfold feJ1_init at hf
  refine z_aload_n C 0 dJ1_init_0 rfl rfl ?_
  refine z_aload_nN C 1 dJ1_init_1 rfl rfl ?_
  refine z_aload_nN C 2 dJ1_init_2 rfl rfl ?_
  refine z_iload_n C 3 dJ1_init_3 rfl rfl ?_
  refine z_iload C 4 dJ1_init_4 rfl ?_
  obtain ⟨⟨⟩, σ_3, e_2, hf⟩ := bd_ hf
  refine z_callv C (rest := []) (av := (.ref a :: [.null, .null, .int 0, .int 0])) (zPay.of q169 q75) (fun H ls hH h2 => zInv_I C (As := [.null, .null, .int 0, .int 0]) (rest := []) q167 q168 q169 rfl mh_eJ0 np_eJ0_init_2 dJ1_init_6) (teJ0_init_2 l w hci e_2) (Nat.le_of_ble_eq_true rfl) (Nat.le_of_ble_eq_true rfl) ?_
  obtain ⟨-, rfl⟩ := fin_ hf
  exact z_vret C dJ1_init_9
def feJ2_init (w : ZW) (σ : ZS) (a : Nat) (ci : Nat) : Option (Unit × ZS) := bd (feJ1_init w σ a ci) (fun _ σ_3 => some ((), σ_3))
set_option maxHeartbeats 4000000 in
set_option maxRecDepth 100000 in
theorem teJ2_init (l : Launch) (w : ZW) {σ σ' : ZS} {a : Nat} {ci : Nat} (hci : ci = 1 ∨ ci = 17) (hf : feJ2_init w σ a ci = some ((), σ')) : zC l w zL0 yJ2_init (ws_ yJ2_init cJ2_init 5 none) 3 44 [.ref a, .null, .null, .int 0, .int 0] σ (.returned none) σ' := by
  refine zC.of (by decide +kernel) (Nat.le_of_ble_eq_true rfl) ?_
  intro p e s m args below meth c C hnm
  show Z p l e _ s m args below meth c _ w _ _ 5 σ 0 [(0, .ref a), (1, .null), (2, .null), (3, .int 0), (4, .int 0)] []
  unfold feJ2_init at hf
  refine z_aload_n C 0 dJ2_init_0 rfl rfl ?_
  refine z_aload_nN C 1 dJ2_init_1 rfl rfl ?_
  refine z_aload_nN C 2 dJ2_init_2 rfl rfl ?_
  refine z_iload_n C 3 dJ2_init_3 rfl rfl ?_
  refine z_iload C 4 dJ2_init_4 rfl ?_
  obtain ⟨⟨⟩, σ_3, e_2, hf⟩ := bd_ hf
  refine z_callv C (rest := []) (av := (.ref a :: [.null, .null, .int 0, .int 0])) (zPay.of q166 q76) (fun H ls hH h2 => zInv_I C (As := [.null, .null, .int 0, .int 0]) (rest := []) q164 q165 q166 rfl mh_eJ1 np_eJ1_init dJ2_init_6) (teJ1_init l w hci e_2) (Nat.le_of_ble_eq_true rfl) (Nat.le_of_ble_eq_true rfl) ?_
  obtain ⟨-, rfl⟩ := fin_ hf
  exact z_vret C dJ2_init_9
def feX1_init (w : ZW) (σ : ZS) (a : Nat) : Option (Unit × ZS) := bd (feJ2_init w σ a 1) (fun _ σ_3 => some ((), σ_3))
set_option maxHeartbeats 4000000 in
set_option maxRecDepth 100000 in
theorem teX1_init (l : Launch) (w : ZW) {σ σ' : ZS} {a : Nat} (hf : feX1_init w σ a = some ((), σ')) : zC l w zL0 yX1_init (ws_ yX1_init cX1_init 1 none) 4 60 [.ref a] σ (.returned none) σ' := by
  refine zC.of (plainFor_of_name (by decide)) (Nat.le_of_ble_eq_true rfl) ?_
  intro p e s m args below meth c C hnm
  show Z p l e _ s m args below meth c _ w _ _ 1 σ 0 [(0, .ref a)] []
  unfold feX1_init at hf
  refine z_aload_n C 0 dX1_init_0 rfl rfl ?_
  refine z_null C dX1_init_1 ?_
  refine z_null C dX1_init_2 ?_
  refine z_iconst C 0 dX1_init_3 (by decide) ?_
  refine z_iconst C 0 dX1_init_4 (by decide) ?_
  obtain ⟨⟨⟩, σ_3, e_2, hf⟩ := bd_ hf
  refine z_callv C (rest := []) (av := (.ref a :: [.null, .null, .int 0, .int 0])) (zPay.of q163 q77) (fun H ls hH h2 => zInv_I C (As := [.null, .null, .int 0, .int 0]) (rest := []) q161 q162 q163 rfl mh_eJ2 np_eJ2_init dX1_init_5) (teJ2_init l w (Or.inl rfl) e_2) (Nat.le_of_ble_eq_true rfl) (Nat.le_of_ble_eq_true rfl) ?_
  obtain ⟨-, rfl⟩ := fin_ hf
  exact z_vret C dX1_init_8
def feX3_init (w : ZW) (σ : ZS) (a : Nat) : Option (Unit × ZS) := gd (1 ≤ σ.2.2.2.2.1) (gd ((128 : Int32).toNatClampNeg ≤ σ.2.2.2.2.2) (nm (σ.2.2.2.1) (fun (a_3 : Nat) => nm (sN σ (.inl (w.2.1 0, (128 : Int32).toNatClampNeg, .inl (fun _ => 0))) (128 : Int32).toNatClampNeg) (fun (σ_4 : ZS) => bo (oC1 3 (σ_4.2.2.1 a)) (fun c0v6 => nm (sP σ_4 a (.inr (3, [.ref a_3]))) (fun (σ_9 : ZS) => some ((), σ_9)))))))
set_option maxHeartbeats 4000000 in
set_option maxRecDepth 100000 in
theorem teX3_init (l : Launch) (w : ZW) {σ σ' : ZS} {a : Nat} (hf : feX3_init w σ a = some ((), σ')) : zC l w zL0 yX3_init (ws_ yX3_init cX3_init 1 none) 1 12 [.ref a] σ (.returned none) σ' := by
  refine zC.of (plainFor_of_name (by decide)) (Nat.le_of_ble_eq_true rfl) ?_
  intro p e s m args below meth c C hnm
  show Z p l e _ s m args below meth c _ w _ _ 1 σ 0 [(0, .ref a)] []
  unfold feX3_init at hf
  refine z_aload_n C 0 dX3_init_0 rfl rfl ?_
  refine z_objInit C q202 dX3_init_1 (Nat.le_of_ble_eq_true rfl) (Nat.le_of_ble_eq_true rfl) ?_
  refine z_aload_n C 0 dX3_init_4 rfl rfl ?_
  refine z_sipush C 128 dX3_init_5 (by decide) ?_
  obtain ⟨g_1, hf⟩ := gd_ hf
  obtain ⟨g_2, hf⟩ := gd_ hf
  refine z_newa C (atype := .int) (ty := .int) 0 rfl q208 rfl (fun _ h => by cases h) rfl (by decide) (by decide) g_1 g_2 dX3_init_8 ?_
  obtain ⟨a_3, ea_3, hf⟩ := nmo_ hf
  refine z_eq (congrArg Value.ref ea_3.symm) ?_
  obtain ⟨σ_4, eσ_4, hf⟩ := nmo_ hf
  refine z_w eσ_4.symm ?_
  obtain ⟨c0v6, e_7, hf⟩ := bo_ hf
  try dsimp only at hf
  have hP_8 := oC1_ e_7
  refine z_putP C hP_8 (zPutF C (T := TX3) (N := 1) rfl in_X3 tyX3 tyX3_ok nmX3 0 (by decide) q203 (Or.inl rfl) rfl hnm rfl rfl rfl (Nat.le_of_ble_eq_true rfl) dX3_init_10) ?_
  obtain ⟨σ_9, eσ_9, hf⟩ := nmo_ hf
  refine z_w eσ_9.symm ?_
  have hP_10 : σ_9.2.2.1 a = some (.inr (3, [.ref a_3])) := by rw [eσ_9]; exact sP_self
  obtain ⟨-, rfl⟩ := fin_ hf
  exact z_vret C dX3_init_13
def feX4_init (w : ZW) (σ : ZS) (a : Nat) : Option (Unit × ZS) := gd (1 ≤ σ.2.2.2.2.1) (gd ((40 : Int32).toNatClampNeg ≤ σ.2.2.2.2.2) (nm (σ.2.2.2.1) (fun (a_3 : Nat) => nm (sN σ (.inl (w.2.1 0, (40 : Int32).toNatClampNeg, .inl (fun _ => 0))) (40 : Int32).toNatClampNeg) (fun (σ_4 : ZS) => bo (oC2 4 (σ_4.2.2.1 a)) (fun oc6 => nm (sP σ_4 a (.inr (4, [.ref a_3, (oc6.2)]))) (fun (σ_9 : ZS) => some ((), σ_9)))))))
set_option maxHeartbeats 4000000 in
set_option maxRecDepth 100000 in
theorem teX4_init (l : Launch) (w : ZW) {σ σ' : ZS} {a : Nat} (hf : feX4_init w σ a = some ((), σ')) : zC l w zL0 yX4_init (ws_ yX4_init cX4_init 1 none) 1 12 [.ref a] σ (.returned none) σ' := by
  refine zC.of (plainFor_of_name (by decide)) (Nat.le_of_ble_eq_true rfl) ?_
  intro p e s m args below meth c C hnm
  show Z p l e _ s m args below meth c _ w _ _ 1 σ 0 [(0, .ref a)] []
  unfold feX4_init at hf
  refine z_aload_n C 0 dX4_init_0 rfl rfl ?_
  refine z_objInit C q298 dX4_init_1 (Nat.le_of_ble_eq_true rfl) (Nat.le_of_ble_eq_true rfl) ?_
  refine z_aload_n C 0 dX4_init_4 rfl rfl ?_
  refine z_bipush C 40 dX4_init_5 (by decide) ?_
  obtain ⟨g_1, hf⟩ := gd_ hf
  obtain ⟨g_2, hf⟩ := gd_ hf
  refine z_newa C (atype := .int) (ty := .int) 0 rfl q208 rfl (fun _ h => by cases h) rfl (by decide) (by decide) g_1 g_2 dX4_init_7 ?_
  obtain ⟨a_3, ea_3, hf⟩ := nmo_ hf
  refine z_eq (congrArg Value.ref ea_3.symm) ?_
  obtain ⟨σ_4, eσ_4, hf⟩ := nmo_ hf
  refine z_w eσ_4.symm ?_
  obtain ⟨⟨c0v6, c1v6⟩, e_7, hf⟩ := bo_ hf
  try dsimp only at hf
  have hP_8 := oC2_ e_7
  refine z_putP C hP_8 (zPutF C (T := TX4) (N := 2) rfl in_X4 tyX4 tyX4_ok nmX4 0 (by decide) q299 (Or.inl rfl) rfl hnm rfl rfl rfl (Nat.le_of_ble_eq_true rfl) dX4_init_9) ?_
  obtain ⟨σ_9, eσ_9, hf⟩ := nmo_ hf
  refine z_w eσ_9.symm ?_
  have hP_10 : σ_9.2.2.1 a = some (.inr (4, [.ref a_3, c1v6])) := by rw [eσ_9]; exact sP_self
  obtain ⟨-, rfl⟩ := fin_ hf
  exact z_vret C dX4_init_12
def feX5_init (a : Nat) : Option Unit := some ()
set_option maxHeartbeats 4000000 in
set_option maxRecDepth 100000 in
theorem teX5_init (l : Launch) (w : ZW) (L : ZL) (σ : ZS) {a : Nat} (hf : feX5_init a = some ()) : zC l w L yX5_init (ws_ yX5_init cX5_init 1 none) 1 12 [.ref a] σ (.returned none) σ := by
  refine zC.of (plainFor_of_name (by decide)) (Nat.le_of_ble_eq_true rfl) ?_
  intro p e s m args below meth c C hnm
  show Z p l e _ s m args below meth c _ w _ _ 1 σ 0 [(0, .ref a)] []
  unfold feX5_init at hf
  refine z_aload_n C 0 dX5_init_0 rfl rfl ?_
  refine z_objInit C q314 dX5_init_1 (Nat.le_of_ble_eq_true rfl) (Nat.le_of_ble_eq_true rfl) ?_
  exact z_vret C dX5_init_4
def feX2_init (w : ZW) (σ : ZS) (a : Nat) : Option (Unit × ZS) := bo (oC20 2 (σ.2.2.1 a)) (fun oc1 => nm (sP σ a (.inr (2, [.int 8, (oc1.2.1), (oc1.2.2.1), (oc1.2.2.2.1), (oc1.2.2.2.2.1), (oc1.2.2.2.2.2.1), (oc1.2.2.2.2.2.2.1), (oc1.2.2.2.2.2.2.2.1), (oc1.2.2.2.2.2.2.2.2.1), (oc1.2.2.2.2.2.2.2.2.2.1), (oc1.2.2.2.2.2.2.2.2.2.2.1), (oc1.2.2.2.2.2.2.2.2.2.2.2.1), (oc1.2.2.2.2.2.2.2.2.2.2.2.2.1), (oc1.2.2.2.2.2.2.2.2.2.2.2.2.2.1), (oc1.2.2.2.2.2.2.2.2.2.2.2.2.2.2.1), (oc1.2.2.2.2.2.2.2.2.2.2.2.2.2.2.2.1), (oc1.2.2.2.2.2.2.2.2.2.2.2.2.2.2.2.2.1), (oc1.2.2.2.2.2.2.2.2.2.2.2.2.2.2.2.2.2.1), (oc1.2.2.2.2.2.2.2.2.2.2.2.2.2.2.2.2.2.2.1), (oc1.2.2.2.2.2.2.2.2.2.2.2.2.2.2.2.2.2.2.2)]))) (fun (σ_4 : ZS) => gd (1 ≤ σ_4.2.2.2.2.1) (gd ((8 : Int32).toNatClampNeg ≤ σ_4.2.2.2.2.2) (nm (σ_4.2.2.2.1) (fun (a_8 : Nat) => nm (sN σ_4 (.inl (w.2.1 0, (8 : Int32).toNatClampNeg, .inl (fun _ => 0))) (8 : Int32).toNatClampNeg) (fun (σ_9 : ZS) => bo (oRow w 0 (σ_9.2.2.1 a_8)) (fun rw11 => gd (¬ ((0 : Int32) < 0 ∨ (rw11.1) ≤ (0 : Int32).toNatClampNeg)) (nm (sP σ_9 a_8 (.inl (w.2.1 0, (rw11.1), .inl (upd (rw11.2) ((0 : Int32).toNatClampNeg) 5)))) (fun (σ_16 : ZS) => bo (oRow w 0 (σ_16.2.2.1 a_8)) (fun rw17 => gd (¬ ((1 : Int32) < 0 ∨ (rw17.1) ≤ (1 : Int32).toNatClampNeg)) (nm (sP σ_16 a_8 (.inl (w.2.1 0, (rw17.1), .inl (upd (rw17.2) ((1 : Int32).toNatClampNeg) 5)))) (fun (σ_22 : ZS) => bo (oRow w 0 (σ_22.2.2.1 a_8)) (fun rw23 => gd (¬ ((2 : Int32) < 0 ∨ (rw23.1) ≤ (2 : Int32).toNatClampNeg)) (nm (sP σ_22 a_8 (.inl (w.2.1 0, (rw23.1), .inl (upd (rw23.2) ((2 : Int32).toNatClampNeg) 5)))) (fun (σ_28 : ZS) => bo (oRow w 0 (σ_28.2.2.1 a_8)) (fun rw29 => gd (¬ ((3 : Int32) < 0 ∨ (rw29.1) ≤ (3 : Int32).toNatClampNeg)) (nm (sP σ_28 a_8 (.inl (w.2.1 0, (rw29.1), .inl (upd (rw29.2) ((3 : Int32).toNatClampNeg) 5)))) (fun (σ_34 : ZS) => bo (oRow w 0 (σ_34.2.2.1 a_8)) (fun rw35 => gd (¬ ((4 : Int32) < 0 ∨ (rw35.1) ≤ (4 : Int32).toNatClampNeg)) (nm (sP σ_34 a_8 (.inl (w.2.1 0, (rw35.1), .inl (upd (rw35.2) ((4 : Int32).toNatClampNeg) 5)))) (fun (σ_40 : ZS) => bo (oRow w 0 (σ_40.2.2.1 a_8)) (fun rw41 => gd (¬ ((5 : Int32) < 0 ∨ (rw41.1) ≤ (5 : Int32).toNatClampNeg)) (nm (sP σ_40 a_8 (.inl (w.2.1 0, (rw41.1), .inl (upd (rw41.2) ((5 : Int32).toNatClampNeg) 5)))) (fun (σ_46 : ZS) => bo (oRow w 0 (σ_46.2.2.1 a_8)) (fun rw47 => gd (¬ ((6 : Int32) < 0 ∨ (rw47.1) ≤ (6 : Int32).toNatClampNeg)) (nm (sP σ_46 a_8 (.inl (w.2.1 0, (rw47.1), .inl (upd (rw47.2) ((6 : Int32).toNatClampNeg) 5)))) (fun (σ_52 : ZS) => bo (oRow w 0 (σ_52.2.2.1 a_8)) (fun rw53 => gd (¬ ((7 : Int32) < 0 ∨ (rw53.1) ≤ (7 : Int32).toNatClampNeg)) (nm (sP σ_52 a_8 (.inl (w.2.1 0, (rw53.1), .inl (upd (rw53.2) ((7 : Int32).toNatClampNeg) 5)))) (fun (σ_58 : ZS) => bo (oC20 2 (σ_58.2.2.1 a)) (fun oc59 => nm (sP σ_58 a (.inr (2, [(oc59.1), .ref a_8, (oc59.2.2.1), (oc59.2.2.2.1), (oc59.2.2.2.2.1), (oc59.2.2.2.2.2.1), (oc59.2.2.2.2.2.2.1), (oc59.2.2.2.2.2.2.2.1), (oc59.2.2.2.2.2.2.2.2.1), (oc59.2.2.2.2.2.2.2.2.2.1), (oc59.2.2.2.2.2.2.2.2.2.2.1), (oc59.2.2.2.2.2.2.2.2.2.2.2.1), (oc59.2.2.2.2.2.2.2.2.2.2.2.2.1), (oc59.2.2.2.2.2.2.2.2.2.2.2.2.2.1), (oc59.2.2.2.2.2.2.2.2.2.2.2.2.2.2.1), (oc59.2.2.2.2.2.2.2.2.2.2.2.2.2.2.2.1), (oc59.2.2.2.2.2.2.2.2.2.2.2.2.2.2.2.2.1), (oc59.2.2.2.2.2.2.2.2.2.2.2.2.2.2.2.2.2.1), (oc59.2.2.2.2.2.2.2.2.2.2.2.2.2.2.2.2.2.2.1), (oc59.2.2.2.2.2.2.2.2.2.2.2.2.2.2.2.2.2.2.2)]))) (fun (σ_62 : ZS) => gd (1 ≤ σ_62.2.2.2.2.1) (gd ((8 : Int32).toNatClampNeg ≤ σ_62.2.2.2.2.2) (nm (σ_62.2.2.2.1) (fun (a_66 : Nat) => nm (sN σ_62 (.inl (w.2.1 0, (8 : Int32).toNatClampNeg, .inl (fun _ => 0))) (8 : Int32).toNatClampNeg) (fun (σ_67 : ZS) => bo (oRow w 0 (σ_67.2.2.1 a_66)) (fun rw69 => gd (¬ ((0 : Int32) < 0 ∨ (rw69.1) ≤ (0 : Int32).toNatClampNeg)) (nm (sP σ_67 a_66 (.inl (w.2.1 0, (rw69.1), .inl (upd (rw69.2) ((0 : Int32).toNatClampNeg) 1)))) (fun (σ_74 : ZS) => bo (oRow w 0 (σ_74.2.2.1 a_66)) (fun rw75 => gd (¬ ((1 : Int32) < 0 ∨ (rw75.1) ≤ (1 : Int32).toNatClampNeg)) (nm (sP σ_74 a_66 (.inl (w.2.1 0, (rw75.1), .inl (upd (rw75.2) ((1 : Int32).toNatClampNeg) 1)))) (fun (σ_80 : ZS) => bo (oRow w 0 (σ_80.2.2.1 a_66)) (fun rw81 => gd (¬ ((2 : Int32) < 0 ∨ (rw81.1) ≤ (2 : Int32).toNatClampNeg)) (nm (sP σ_80 a_66 (.inl (w.2.1 0, (rw81.1), .inl (upd (rw81.2) ((2 : Int32).toNatClampNeg) 1)))) (fun (σ_86 : ZS) => bo (oRow w 0 (σ_86.2.2.1 a_66)) (fun rw87 => gd (¬ ((3 : Int32) < 0 ∨ (rw87.1) ≤ (3 : Int32).toNatClampNeg)) (nm (sP σ_86 a_66 (.inl (w.2.1 0, (rw87.1), .inl (upd (rw87.2) ((3 : Int32).toNatClampNeg) 1)))) (fun (σ_92 : ZS) => bo (oRow w 0 (σ_92.2.2.1 a_66)) (fun rw93 => gd (¬ ((4 : Int32) < 0 ∨ (rw93.1) ≤ (4 : Int32).toNatClampNeg)) (nm (sP σ_92 a_66 (.inl (w.2.1 0, (rw93.1), .inl (upd (rw93.2) ((4 : Int32).toNatClampNeg) 1)))) (fun (σ_98 : ZS) => bo (oRow w 0 (σ_98.2.2.1 a_66)) (fun rw99 => gd (¬ ((5 : Int32) < 0 ∨ (rw99.1) ≤ (5 : Int32).toNatClampNeg)) (nm (sP σ_98 a_66 (.inl (w.2.1 0, (rw99.1), .inl (upd (rw99.2) ((5 : Int32).toNatClampNeg) 1)))) (fun (σ_104 : ZS) => bo (oRow w 0 (σ_104.2.2.1 a_66)) (fun rw105 => gd (¬ ((6 : Int32) < 0 ∨ (rw105.1) ≤ (6 : Int32).toNatClampNeg)) (nm (sP σ_104 a_66 (.inl (w.2.1 0, (rw105.1), .inl (upd (rw105.2) ((6 : Int32).toNatClampNeg) 1)))) (fun (σ_110 : ZS) => bo (oRow w 0 (σ_110.2.2.1 a_66)) (fun rw111 => gd (¬ ((7 : Int32) < 0 ∨ (rw111.1) ≤ (7 : Int32).toNatClampNeg)) (nm (sP σ_110 a_66 (.inl (w.2.1 0, (rw111.1), .inl (upd (rw111.2) ((7 : Int32).toNatClampNeg) 1)))) (fun (σ_116 : ZS) => bo (oC20 2 (σ_116.2.2.1 a)) (fun oc117 => nm (sP σ_116 a (.inr (2, [(oc117.1), (oc117.2.1), .ref a_66, (oc117.2.2.2.1), (oc117.2.2.2.2.1), (oc117.2.2.2.2.2.1), (oc117.2.2.2.2.2.2.1), (oc117.2.2.2.2.2.2.2.1), (oc117.2.2.2.2.2.2.2.2.1), (oc117.2.2.2.2.2.2.2.2.2.1), (oc117.2.2.2.2.2.2.2.2.2.2.1), (oc117.2.2.2.2.2.2.2.2.2.2.2.1), (oc117.2.2.2.2.2.2.2.2.2.2.2.2.1), (oc117.2.2.2.2.2.2.2.2.2.2.2.2.2.1), (oc117.2.2.2.2.2.2.2.2.2.2.2.2.2.2.1), (oc117.2.2.2.2.2.2.2.2.2.2.2.2.2.2.2.1), (oc117.2.2.2.2.2.2.2.2.2.2.2.2.2.2.2.2.1), (oc117.2.2.2.2.2.2.2.2.2.2.2.2.2.2.2.2.2.1), (oc117.2.2.2.2.2.2.2.2.2.2.2.2.2.2.2.2.2.2.1), (oc117.2.2.2.2.2.2.2.2.2.2.2.2.2.2.2.2.2.2.2)]))) (fun (σ_120 : ZS) => gd (1 ≤ σ_120.2.2.2.2.1) (gd ((8 : Int32).toNatClampNeg ≤ σ_120.2.2.2.2.2) (nm (σ_120.2.2.2.1) (fun (a_124 : Nat) => nm (sN σ_120 (.inl (w.2.1 0, (8 : Int32).toNatClampNeg, .inl (fun _ => 0))) (8 : Int32).toNatClampNeg) (fun (σ_125 : ZS) => bo (oC20 2 (σ_125.2.2.1 a)) (fun oc127 => nm (sP σ_125 a (.inr (2, [(oc127.1), (oc127.2.1), (oc127.2.2.1), .ref a_124, (oc127.2.2.2.2.1), (oc127.2.2.2.2.2.1), (oc127.2.2.2.2.2.2.1), (oc127.2.2.2.2.2.2.2.1), (oc127.2.2.2.2.2.2.2.2.1), (oc127.2.2.2.2.2.2.2.2.2.1), (oc127.2.2.2.2.2.2.2.2.2.2.1), (oc127.2.2.2.2.2.2.2.2.2.2.2.1), (oc127.2.2.2.2.2.2.2.2.2.2.2.2.1), (oc127.2.2.2.2.2.2.2.2.2.2.2.2.2.1), (oc127.2.2.2.2.2.2.2.2.2.2.2.2.2.2.1), (oc127.2.2.2.2.2.2.2.2.2.2.2.2.2.2.2.1), (oc127.2.2.2.2.2.2.2.2.2.2.2.2.2.2.2.2.1), (oc127.2.2.2.2.2.2.2.2.2.2.2.2.2.2.2.2.2.1), (oc127.2.2.2.2.2.2.2.2.2.2.2.2.2.2.2.2.2.2.1), (oc127.2.2.2.2.2.2.2.2.2.2.2.2.2.2.2.2.2.2.2)]))) (fun (σ_130 : ZS) => nm (sP σ_130 a (.inr (2, [(oc127.1), (oc127.2.1), (oc127.2.2.1), .ref a_124, .int 200, (oc127.2.2.2.2.2.1), (oc127.2.2.2.2.2.2.1), (oc127.2.2.2.2.2.2.2.1), (oc127.2.2.2.2.2.2.2.2.1), (oc127.2.2.2.2.2.2.2.2.2.1), (oc127.2.2.2.2.2.2.2.2.2.2.1), (oc127.2.2.2.2.2.2.2.2.2.2.2.1), (oc127.2.2.2.2.2.2.2.2.2.2.2.2.1), (oc127.2.2.2.2.2.2.2.2.2.2.2.2.2.1), (oc127.2.2.2.2.2.2.2.2.2.2.2.2.2.2.1), (oc127.2.2.2.2.2.2.2.2.2.2.2.2.2.2.2.1), (oc127.2.2.2.2.2.2.2.2.2.2.2.2.2.2.2.2.1), (oc127.2.2.2.2.2.2.2.2.2.2.2.2.2.2.2.2.2.1), (oc127.2.2.2.2.2.2.2.2.2.2.2.2.2.2.2.2.2.2.1), (oc127.2.2.2.2.2.2.2.2.2.2.2.2.2.2.2.2.2.2.2)]))) (fun (σ_132 : ZS) => gd (1 ≤ σ_132.2.2.2.2.1) (gd ((7 : Int32).toNatClampNeg ≤ σ_132.2.2.2.2.2) (nm (σ_132.2.2.2.1) (fun (a_136 : Nat) => nm (sN σ_132 (.inl (w.2.1 3, (7 : Int32).toNatClampNeg, .inr (.inr (.inr (.inr (fun _ => none)))))) (7 : Int32).toNatClampNeg) (fun (σ_137 : ZS) => bo (oC20 2 (σ_137.2.2.1 a)) (fun oc138 => nm (sP σ_137 a (.inr (2, [(oc138.1), (oc138.2.1), (oc138.2.2.1), (oc138.2.2.2.1), (oc138.2.2.2.2.1), (oc138.2.2.2.2.2.1), (oc138.2.2.2.2.2.2.1), (oc138.2.2.2.2.2.2.2.1), (oc138.2.2.2.2.2.2.2.2.1), .ref a_136, (oc138.2.2.2.2.2.2.2.2.2.2.1), (oc138.2.2.2.2.2.2.2.2.2.2.2.1), (oc138.2.2.2.2.2.2.2.2.2.2.2.2.1), (oc138.2.2.2.2.2.2.2.2.2.2.2.2.2.1), (oc138.2.2.2.2.2.2.2.2.2.2.2.2.2.2.1), (oc138.2.2.2.2.2.2.2.2.2.2.2.2.2.2.2.1), (oc138.2.2.2.2.2.2.2.2.2.2.2.2.2.2.2.2.1), (oc138.2.2.2.2.2.2.2.2.2.2.2.2.2.2.2.2.2.1), (oc138.2.2.2.2.2.2.2.2.2.2.2.2.2.2.2.2.2.2.1), (oc138.2.2.2.2.2.2.2.2.2.2.2.2.2.2.2.2.2.2.2)]))) (fun (σ_141 : ZS) => gd (1 ≤ σ_141.2.2.2.2.1) (gd ((7 : Int32).toNatClampNeg ≤ σ_141.2.2.2.2.2) (nm (σ_141.2.2.2.1) (fun (a_145 : Nat) => nm (sN σ_141 (.inl (w.2.1 0, (7 : Int32).toNatClampNeg, .inl (fun _ => 0))) (7 : Int32).toNatClampNeg) (fun (σ_146 : ZS) => bo (oC20 2 (σ_146.2.2.1 a)) (fun oc148 => nm (sP σ_146 a (.inr (2, [(oc148.1), (oc148.2.1), (oc148.2.2.1), (oc148.2.2.2.1), (oc148.2.2.2.2.1), (oc148.2.2.2.2.2.1), (oc148.2.2.2.2.2.2.1), (oc148.2.2.2.2.2.2.2.1), (oc148.2.2.2.2.2.2.2.2.1), (oc148.2.2.2.2.2.2.2.2.2.1), .ref a_145, (oc148.2.2.2.2.2.2.2.2.2.2.2.1), (oc148.2.2.2.2.2.2.2.2.2.2.2.2.1), (oc148.2.2.2.2.2.2.2.2.2.2.2.2.2.1), (oc148.2.2.2.2.2.2.2.2.2.2.2.2.2.2.1), (oc148.2.2.2.2.2.2.2.2.2.2.2.2.2.2.2.1), (oc148.2.2.2.2.2.2.2.2.2.2.2.2.2.2.2.2.1), (oc148.2.2.2.2.2.2.2.2.2.2.2.2.2.2.2.2.2.1), (oc148.2.2.2.2.2.2.2.2.2.2.2.2.2.2.2.2.2.2.1), (oc148.2.2.2.2.2.2.2.2.2.2.2.2.2.2.2.2.2.2.2)]))) (fun (σ_151 : ZS) => gd (1 ≤ σ_151.2.2.2.2.1) (gd ((7 : Int32).toNatClampNeg ≤ σ_151.2.2.2.2.2) (nm (σ_151.2.2.2.1) (fun (a_155 : Nat) => nm (sN σ_151 (.inl (w.2.1 0, (7 : Int32).toNatClampNeg, .inl (fun _ => 0))) (7 : Int32).toNatClampNeg) (fun (σ_156 : ZS) => bo (oC20 2 (σ_156.2.2.1 a)) (fun oc158 => nm (sP σ_156 a (.inr (2, [(oc158.1), (oc158.2.1), (oc158.2.2.1), (oc158.2.2.2.1), (oc158.2.2.2.2.1), (oc158.2.2.2.2.2.1), (oc158.2.2.2.2.2.2.1), (oc158.2.2.2.2.2.2.2.1), (oc158.2.2.2.2.2.2.2.2.1), (oc158.2.2.2.2.2.2.2.2.2.1), (oc158.2.2.2.2.2.2.2.2.2.2.1), .ref a_155, (oc158.2.2.2.2.2.2.2.2.2.2.2.2.1), (oc158.2.2.2.2.2.2.2.2.2.2.2.2.2.1), (oc158.2.2.2.2.2.2.2.2.2.2.2.2.2.2.1), (oc158.2.2.2.2.2.2.2.2.2.2.2.2.2.2.2.1), (oc158.2.2.2.2.2.2.2.2.2.2.2.2.2.2.2.2.1), (oc158.2.2.2.2.2.2.2.2.2.2.2.2.2.2.2.2.2.1), (oc158.2.2.2.2.2.2.2.2.2.2.2.2.2.2.2.2.2.2.1), (oc158.2.2.2.2.2.2.2.2.2.2.2.2.2.2.2.2.2.2.2)]))) (fun (σ_161 : ZS) => gd (1 ≤ σ_161.2.2.2.2.1) (gd ((7 : Int32).toNatClampNeg ≤ σ_161.2.2.2.2.2) (nm (σ_161.2.2.2.1) (fun (a_165 : Nat) => nm (sN σ_161 (.inl (w.2.1 0, (7 : Int32).toNatClampNeg, .inl (fun _ => 0))) (7 : Int32).toNatClampNeg) (fun (σ_166 : ZS) => bo (oC20 2 (σ_166.2.2.1 a)) (fun oc168 => nm (sP σ_166 a (.inr (2, [(oc168.1), (oc168.2.1), (oc168.2.2.1), (oc168.2.2.2.1), (oc168.2.2.2.2.1), (oc168.2.2.2.2.2.1), (oc168.2.2.2.2.2.2.1), (oc168.2.2.2.2.2.2.2.1), (oc168.2.2.2.2.2.2.2.2.1), (oc168.2.2.2.2.2.2.2.2.2.1), (oc168.2.2.2.2.2.2.2.2.2.2.1), (oc168.2.2.2.2.2.2.2.2.2.2.2.1), .ref a_165, (oc168.2.2.2.2.2.2.2.2.2.2.2.2.2.1), (oc168.2.2.2.2.2.2.2.2.2.2.2.2.2.2.1), (oc168.2.2.2.2.2.2.2.2.2.2.2.2.2.2.2.1), (oc168.2.2.2.2.2.2.2.2.2.2.2.2.2.2.2.2.1), (oc168.2.2.2.2.2.2.2.2.2.2.2.2.2.2.2.2.2.1), (oc168.2.2.2.2.2.2.2.2.2.2.2.2.2.2.2.2.2.2.1), (oc168.2.2.2.2.2.2.2.2.2.2.2.2.2.2.2.2.2.2.2)]))) (fun (σ_171 : ZS) => gd (1 ≤ σ_171.2.2.2.2.1) (gd ((2 : Int32).toNatClampNeg ≤ σ_171.2.2.2.2.2) (nm (σ_171.2.2.2.1) (fun (a_175 : Nat) => nm (sN σ_171 (.inl (w.2.1 4, (2 : Int32).toNatClampNeg, .inr (.inr (.inr (.inr (fun _ => none)))))) (2 : Int32).toNatClampNeg) (fun (σ_176 : ZS) => bo (oC20 2 (σ_176.2.2.1 a)) (fun oc177 => nm (sP σ_176 a (.inr (2, [(oc177.1), (oc177.2.1), (oc177.2.2.1), (oc177.2.2.2.1), (oc177.2.2.2.2.1), (oc177.2.2.2.2.2.1), (oc177.2.2.2.2.2.2.1), (oc177.2.2.2.2.2.2.2.1), (oc177.2.2.2.2.2.2.2.2.1), (oc177.2.2.2.2.2.2.2.2.2.1), (oc177.2.2.2.2.2.2.2.2.2.2.1), (oc177.2.2.2.2.2.2.2.2.2.2.2.1), (oc177.2.2.2.2.2.2.2.2.2.2.2.2.1), .ref a_175, (oc177.2.2.2.2.2.2.2.2.2.2.2.2.2.2.1), (oc177.2.2.2.2.2.2.2.2.2.2.2.2.2.2.2.1), (oc177.2.2.2.2.2.2.2.2.2.2.2.2.2.2.2.2.1), (oc177.2.2.2.2.2.2.2.2.2.2.2.2.2.2.2.2.2.1), (oc177.2.2.2.2.2.2.2.2.2.2.2.2.2.2.2.2.2.2.1), (oc177.2.2.2.2.2.2.2.2.2.2.2.2.2.2.2.2.2.2.2)]))) (fun (σ_180 : ZS) => nm (sP σ_180 a (.inr (2, [(oc177.1), (oc177.2.1), (oc177.2.2.1), (oc177.2.2.2.1), (oc177.2.2.2.2.1), (oc177.2.2.2.2.2.1), (oc177.2.2.2.2.2.2.1), (oc177.2.2.2.2.2.2.2.1), (oc177.2.2.2.2.2.2.2.2.1), (oc177.2.2.2.2.2.2.2.2.2.1), (oc177.2.2.2.2.2.2.2.2.2.2.1), (oc177.2.2.2.2.2.2.2.2.2.2.2.1), (oc177.2.2.2.2.2.2.2.2.2.2.2.2.1), .ref a_175, .int 1, (oc177.2.2.2.2.2.2.2.2.2.2.2.2.2.2.2.1), (oc177.2.2.2.2.2.2.2.2.2.2.2.2.2.2.2.2.1), (oc177.2.2.2.2.2.2.2.2.2.2.2.2.2.2.2.2.2.1), (oc177.2.2.2.2.2.2.2.2.2.2.2.2.2.2.2.2.2.2.1), (oc177.2.2.2.2.2.2.2.2.2.2.2.2.2.2.2.2.2.2.2)]))) (fun (σ_182 : ZS) => gd (1 ≤ σ_182.2.2.2.2.1) (gd ((50 : Int32).toNatClampNeg ≤ σ_182.2.2.2.2.2) (nm (σ_182.2.2.2.1) (fun (a_186 : Nat) => nm (sN σ_182 (.inl (w.2.1 1, (50 : Int32).toNatClampNeg, .inl (fun _ => 0))) (50 : Int32).toNatClampNeg) (fun (σ_187 : ZS) => bo (oC20 2 (σ_187.2.2.1 a)) (fun oc189 => nm (sP σ_187 a (.inr (2, [(oc189.1), (oc189.2.1), (oc189.2.2.1), (oc189.2.2.2.1), (oc189.2.2.2.2.1), (oc189.2.2.2.2.2.1), (oc189.2.2.2.2.2.2.1), (oc189.2.2.2.2.2.2.2.1), (oc189.2.2.2.2.2.2.2.2.1), (oc189.2.2.2.2.2.2.2.2.2.1), (oc189.2.2.2.2.2.2.2.2.2.2.1), (oc189.2.2.2.2.2.2.2.2.2.2.2.1), (oc189.2.2.2.2.2.2.2.2.2.2.2.2.1), (oc189.2.2.2.2.2.2.2.2.2.2.2.2.2.1), (oc189.2.2.2.2.2.2.2.2.2.2.2.2.2.2.1), .ref a_186, (oc189.2.2.2.2.2.2.2.2.2.2.2.2.2.2.2.2.1), (oc189.2.2.2.2.2.2.2.2.2.2.2.2.2.2.2.2.2.1), (oc189.2.2.2.2.2.2.2.2.2.2.2.2.2.2.2.2.2.2.1), (oc189.2.2.2.2.2.2.2.2.2.2.2.2.2.2.2.2.2.2.2)]))) (fun (σ_192 : ZS) => gd (1 ≤ σ_192.2.2.2.2.1) (gd ((20 : Int32).toNatClampNeg ≤ σ_192.2.2.2.2.2) (nm (σ_192.2.2.2.1) (fun (a_196 : Nat) => nm (sN σ_192 (.inl (w.2.1 0, (20 : Int32).toNatClampNeg, .inl (fun _ => 0))) (20 : Int32).toNatClampNeg) (fun (σ_197 : ZS) => bo (oC20 2 (σ_197.2.2.1 a)) (fun oc199 => nm (sP σ_197 a (.inr (2, [(oc199.1), (oc199.2.1), (oc199.2.2.1), (oc199.2.2.2.1), (oc199.2.2.2.2.1), (oc199.2.2.2.2.2.1), (oc199.2.2.2.2.2.2.1), (oc199.2.2.2.2.2.2.2.1), (oc199.2.2.2.2.2.2.2.2.1), (oc199.2.2.2.2.2.2.2.2.2.1), (oc199.2.2.2.2.2.2.2.2.2.2.1), (oc199.2.2.2.2.2.2.2.2.2.2.2.1), (oc199.2.2.2.2.2.2.2.2.2.2.2.2.1), (oc199.2.2.2.2.2.2.2.2.2.2.2.2.2.1), (oc199.2.2.2.2.2.2.2.2.2.2.2.2.2.2.1), (oc199.2.2.2.2.2.2.2.2.2.2.2.2.2.2.2.1), (oc199.2.2.2.2.2.2.2.2.2.2.2.2.2.2.2.2.1), .ref a_196, (oc199.2.2.2.2.2.2.2.2.2.2.2.2.2.2.2.2.2.2.1), (oc199.2.2.2.2.2.2.2.2.2.2.2.2.2.2.2.2.2.2.2)]))) (fun (σ_202 : ZS) => gd (1 ≤ σ_202.2.2.2.2.1) (gd (1 ≤ σ_202.2.2.2.2.2) (nm (σ_202.2.2.2.1) (fun (a_207 : Nat) => nm (sN σ_202 (.inr (3, [.null])) 1) (fun (σ_206 : ZS) => bd (feX3_init w σ_206 a_207) (fun _ σ_211 => bo (oC20 2 (σ_211.2.2.1 a)) (fun oc212 => nm (sP σ_211 a (.inr (2, [(oc212.1), (oc212.2.1), (oc212.2.2.1), (oc212.2.2.2.1), (oc212.2.2.2.2.1), (oc212.2.2.2.2.2.1), (oc212.2.2.2.2.2.2.1), (oc212.2.2.2.2.2.2.2.1), (oc212.2.2.2.2.2.2.2.2.1), (oc212.2.2.2.2.2.2.2.2.2.1), (oc212.2.2.2.2.2.2.2.2.2.2.1), (oc212.2.2.2.2.2.2.2.2.2.2.2.1), (oc212.2.2.2.2.2.2.2.2.2.2.2.2.1), (oc212.2.2.2.2.2.2.2.2.2.2.2.2.2.1), (oc212.2.2.2.2.2.2.2.2.2.2.2.2.2.2.1), (oc212.2.2.2.2.2.2.2.2.2.2.2.2.2.2.2.1), (oc212.2.2.2.2.2.2.2.2.2.2.2.2.2.2.2.2.1), (oc212.2.2.2.2.2.2.2.2.2.2.2.2.2.2.2.2.2.1), (oc212.2.2.2.2.2.2.2.2.2.2.2.2.2.2.2.2.2.2.1), .ref a_207]))) (fun (σ_215 : ZS) => some ((), σ_215))))))))))))))))))))))))))))))))))))))))))))))))))))))))))))))))))))))))))))))))))))))))))))))))))))))))))))))))))))))))
set_option maxHeartbeats 4000000 in
set_option maxRecDepth 100000 in
theorem teX2_init (l : Launch) (w : ZW) {σ σ' : ZS} {a : Nat} (hf : feX2_init w σ a = some ((), σ')) : zC l w zL0 yX2_init (ws_ yX2_init cX2_init 1 none) 2 26 [.ref a] σ (.returned none) σ' := by
  refine zC.of (plainFor_of_name (by decide)) (Nat.le_of_ble_eq_true rfl) ?_
  intro p e s m args below meth c C hnm
  show Z p l e _ s m args below meth c _ w _ _ 1 σ 0 [(0, .ref a)] []
  unfold feX2_init at hf
  refine z_aload_n C 0 dX2_init_0 rfl rfl ?_
  refine z_objInit C q192 dX2_init_1 (Nat.le_of_ble_eq_true rfl) (Nat.le_of_ble_eq_true rfl) ?_
  refine z_aload_n C 0 dX2_init_4 rfl rfl ?_
  refine z_bipush C 8 dX2_init_5 (by decide) ?_
  obtain ⟨⟨c0v1, c1v1, c2v1, c3v1, c4v1, c5v1, c6v1, c7v1, c8v1, c9v1, c10v1, c11v1, c12v1, c13v1, c14v1, c15v1, c16v1, c17v1, c18v1, c19v1⟩, e_2, hf⟩ := bo_ hf
  try dsimp only at hf
  have hP_3 := oC20_ e_2
  refine z_putP C hP_3 (zPut C (T := TX2) (N := 20) rfl in_X2 tyX2 tyX2_ok nmX2 0 (by decide) q210 (Or.inl rfl) rfl rfl rfl (Nat.le_of_ble_eq_true rfl) dX2_init_7) ?_
  obtain ⟨σ_4, eσ_4, hf⟩ := nmo_ hf
  refine z_w eσ_4.symm ?_
  have hP_5 : σ_4.2.2.1 a = some (.inr (2, [.int 8, c1v1, c2v1, c3v1, c4v1, c5v1, c6v1, c7v1, c8v1, c9v1, c10v1, c11v1, c12v1, c13v1, c14v1, c15v1, c16v1, c17v1, c18v1, c19v1])) := by rw [eσ_4]; exact sP_self
  refine z_aload_n C 0 dX2_init_10 rfl rfl ?_
  refine z_bipush C 8 dX2_init_11 (by decide) ?_
  obtain ⟨g_6, hf⟩ := gd_ hf
  obtain ⟨g_7, hf⟩ := gd_ hf
  refine z_newa C (atype := .int) (ty := .int) 0 rfl q208 rfl (fun _ h => by cases h) rfl (by decide) (by decide) g_6 g_7 dX2_init_13 ?_
  obtain ⟨a_8, ea_8, hf⟩ := nmo_ hf
  refine z_eq (congrArg Value.ref ea_8.symm) ?_
  obtain ⟨σ_9, eσ_9, hf⟩ := nmo_ hf
  refine z_w eσ_9.symm ?_
  refine z_dup C dX2_init_15 rfl ?_
  refine z_iconst C 0 dX2_init_16 (by decide) ?_
  refine z_iconst C 5 dX2_init_17 (by decide) ?_
  obtain ⟨⟨n_11, f_12⟩, e_13, hf⟩ := bo_ hf
  try dsimp only at hf
  have hP_14 := oRow_ e_13
  obtain ⟨g_15, hf⟩ := gd_ hf
  refine z_iastoreP C hP_14 g_15 dX2_init_18 ?_
  obtain ⟨σ_16, eσ_16, hf⟩ := nmo_ hf
  refine z_w eσ_16.symm ?_
  refine z_dup C dX2_init_19 rfl ?_
  refine z_iconst C 1 dX2_init_20 (by decide) ?_
  refine z_iconst C 5 dX2_init_21 (by decide) ?_
  obtain ⟨⟨n_17, f_18⟩, e_19, hf⟩ := bo_ hf
  try dsimp only at hf
  have hP_20 := oRow_ e_19
  obtain ⟨g_21, hf⟩ := gd_ hf
  refine z_iastoreP C hP_20 g_21 dX2_init_22 ?_
  obtain ⟨σ_22, eσ_22, hf⟩ := nmo_ hf
  refine z_w eσ_22.symm ?_
  refine z_dup C dX2_init_23 rfl ?_
  refine z_iconst C 2 dX2_init_24 (by decide) ?_
  refine z_iconst C 5 dX2_init_25 (by decide) ?_
  obtain ⟨⟨n_23, f_24⟩, e_25, hf⟩ := bo_ hf
  try dsimp only at hf
  have hP_26 := oRow_ e_25
  obtain ⟨g_27, hf⟩ := gd_ hf
  refine z_iastoreP C hP_26 g_27 dX2_init_26 ?_
  obtain ⟨σ_28, eσ_28, hf⟩ := nmo_ hf
  refine z_w eσ_28.symm ?_
  refine z_dup C dX2_init_27 rfl ?_
  refine z_iconst C 3 dX2_init_28 (by decide) ?_
  refine z_iconst C 5 dX2_init_29 (by decide) ?_
  obtain ⟨⟨n_29, f_30⟩, e_31, hf⟩ := bo_ hf
  try dsimp only at hf
  have hP_32 := oRow_ e_31
  obtain ⟨g_33, hf⟩ := gd_ hf
  refine z_iastoreP C hP_32 g_33 dX2_init_30 ?_
  obtain ⟨σ_34, eσ_34, hf⟩ := nmo_ hf
  refine z_w eσ_34.symm ?_
  refine z_dup C dX2_init_31 rfl ?_
  refine z_iconst C 4 dX2_init_32 (by decide) ?_
  refine z_iconst C 5 dX2_init_33 (by decide) ?_
  obtain ⟨⟨n_35, f_36⟩, e_37, hf⟩ := bo_ hf
  try dsimp only at hf
  have hP_38 := oRow_ e_37
  obtain ⟨g_39, hf⟩ := gd_ hf
  refine z_iastoreP C hP_38 g_39 dX2_init_34 ?_
  obtain ⟨σ_40, eσ_40, hf⟩ := nmo_ hf
  refine z_w eσ_40.symm ?_
  refine z_dup C dX2_init_35 rfl ?_
  refine z_iconst C 5 dX2_init_36 (by decide) ?_
  refine z_iconst C 5 dX2_init_37 (by decide) ?_
  obtain ⟨⟨n_41, f_42⟩, e_43, hf⟩ := bo_ hf
  try dsimp only at hf
  have hP_44 := oRow_ e_43
  obtain ⟨g_45, hf⟩ := gd_ hf
  refine z_iastoreP C hP_44 g_45 dX2_init_38 ?_
  obtain ⟨σ_46, eσ_46, hf⟩ := nmo_ hf
  refine z_w eσ_46.symm ?_
  refine z_dup C dX2_init_39 rfl ?_
  refine z_bipush C 6 dX2_init_40 (by decide) ?_
  refine z_iconst C 5 dX2_init_42 (by decide) ?_
  obtain ⟨⟨n_47, f_48⟩, e_49, hf⟩ := bo_ hf
  try dsimp only at hf
  have hP_50 := oRow_ e_49
  obtain ⟨g_51, hf⟩ := gd_ hf
  refine z_iastoreP C hP_50 g_51 dX2_init_43 ?_
  obtain ⟨σ_52, eσ_52, hf⟩ := nmo_ hf
  refine z_w eσ_52.symm ?_
  refine z_dup C dX2_init_44 rfl ?_
  refine z_bipush C 7 dX2_init_45 (by decide) ?_
  refine z_iconst C 5 dX2_init_47 (by decide) ?_
  obtain ⟨⟨n_53, f_54⟩, e_55, hf⟩ := bo_ hf
  try dsimp only at hf
  have hP_56 := oRow_ e_55
  obtain ⟨g_57, hf⟩ := gd_ hf
  refine z_iastoreP C hP_56 g_57 dX2_init_48 ?_
  obtain ⟨σ_58, eσ_58, hf⟩ := nmo_ hf
  refine z_w eσ_58.symm ?_
  obtain ⟨⟨c0v59, c1v59, c2v59, c3v59, c4v59, c5v59, c6v59, c7v59, c8v59, c9v59, c10v59, c11v59, c12v59, c13v59, c14v59, c15v59, c16v59, c17v59, c18v59, c19v59⟩, e_60, hf⟩ := bo_ hf
  try dsimp only at hf
  have hP_61 := oC20_ e_60
  refine z_putP C hP_61 (zPutF C (T := TX2) (N := 20) rfl in_X2 tyX2 tyX2_ok nmX2 1 (by decide) q212 (Or.inl rfl) rfl hnm rfl rfl rfl (Nat.le_of_ble_eq_true rfl) dX2_init_49) ?_
  obtain ⟨σ_62, eσ_62, hf⟩ := nmo_ hf
  refine z_w eσ_62.symm ?_
  have hP_63 : σ_62.2.2.1 a = some (.inr (2, [c0v59, .ref a_8, c2v59, c3v59, c4v59, c5v59, c6v59, c7v59, c8v59, c9v59, c10v59, c11v59, c12v59, c13v59, c14v59, c15v59, c16v59, c17v59, c18v59, c19v59])) := by rw [eσ_62]; exact sP_self
  refine z_aload_n C 0 dX2_init_52 rfl rfl ?_
  refine z_bipush C 8 dX2_init_53 (by decide) ?_
  obtain ⟨g_64, hf⟩ := gd_ hf
  obtain ⟨g_65, hf⟩ := gd_ hf
  refine z_newa C (atype := .int) (ty := .int) 0 rfl q208 rfl (fun _ h => by cases h) rfl (by decide) (by decide) g_64 g_65 dX2_init_55 ?_
  obtain ⟨a_66, ea_66, hf⟩ := nmo_ hf
  refine z_eq (congrArg Value.ref ea_66.symm) ?_
  obtain ⟨σ_67, eσ_67, hf⟩ := nmo_ hf
  refine z_w eσ_67.symm ?_
  refine z_dup C dX2_init_57 rfl ?_
  refine z_iconst C 0 dX2_init_58 (by decide) ?_
  refine z_iconst C 1 dX2_init_59 (by decide) ?_
  obtain ⟨⟨n_69, f_70⟩, e_71, hf⟩ := bo_ hf
  try dsimp only at hf
  have hP_72 := oRow_ e_71
  obtain ⟨g_73, hf⟩ := gd_ hf
  refine z_iastoreP C hP_72 g_73 dX2_init_60 ?_
  obtain ⟨σ_74, eσ_74, hf⟩ := nmo_ hf
  refine z_w eσ_74.symm ?_
  refine z_dup C dX2_init_61 rfl ?_
  refine z_iconst C 1 dX2_init_62 (by decide) ?_
  refine z_iconst C 1 dX2_init_63 (by decide) ?_
  obtain ⟨⟨n_75, f_76⟩, e_77, hf⟩ := bo_ hf
  try dsimp only at hf
  have hP_78 := oRow_ e_77
  obtain ⟨g_79, hf⟩ := gd_ hf
  refine z_iastoreP C hP_78 g_79 dX2_init_64 ?_
  obtain ⟨σ_80, eσ_80, hf⟩ := nmo_ hf
  refine z_w eσ_80.symm ?_
  refine z_dup C dX2_init_65 rfl ?_
  refine z_iconst C 2 dX2_init_66 (by decide) ?_
  refine z_iconst C 1 dX2_init_67 (by decide) ?_
  obtain ⟨⟨n_81, f_82⟩, e_83, hf⟩ := bo_ hf
  try dsimp only at hf
  have hP_84 := oRow_ e_83
  obtain ⟨g_85, hf⟩ := gd_ hf
  refine z_iastoreP C hP_84 g_85 dX2_init_68 ?_
  obtain ⟨σ_86, eσ_86, hf⟩ := nmo_ hf
  refine z_w eσ_86.symm ?_
  refine z_dup C dX2_init_69 rfl ?_
  refine z_iconst C 3 dX2_init_70 (by decide) ?_
  refine z_iconst C 1 dX2_init_71 (by decide) ?_
  obtain ⟨⟨n_87, f_88⟩, e_89, hf⟩ := bo_ hf
  try dsimp only at hf
  have hP_90 := oRow_ e_89
  obtain ⟨g_91, hf⟩ := gd_ hf
  refine z_iastoreP C hP_90 g_91 dX2_init_72 ?_
  obtain ⟨σ_92, eσ_92, hf⟩ := nmo_ hf
  refine z_w eσ_92.symm ?_
  refine z_dup C dX2_init_73 rfl ?_
  refine z_iconst C 4 dX2_init_74 (by decide) ?_
  refine z_iconst C 1 dX2_init_75 (by decide) ?_
  obtain ⟨⟨n_93, f_94⟩, e_95, hf⟩ := bo_ hf
  try dsimp only at hf
  have hP_96 := oRow_ e_95
  obtain ⟨g_97, hf⟩ := gd_ hf
  refine z_iastoreP C hP_96 g_97 dX2_init_76 ?_
  obtain ⟨σ_98, eσ_98, hf⟩ := nmo_ hf
  refine z_w eσ_98.symm ?_
  refine z_dup C dX2_init_77 rfl ?_
  refine z_iconst C 5 dX2_init_78 (by decide) ?_
  refine z_iconst C 1 dX2_init_79 (by decide) ?_
  obtain ⟨⟨n_99, f_100⟩, e_101, hf⟩ := bo_ hf
  try dsimp only at hf
  have hP_102 := oRow_ e_101
  obtain ⟨g_103, hf⟩ := gd_ hf
  refine z_iastoreP C hP_102 g_103 dX2_init_80 ?_
  obtain ⟨σ_104, eσ_104, hf⟩ := nmo_ hf
  refine z_w eσ_104.symm ?_
  refine z_dup C dX2_init_81 rfl ?_
  refine z_bipush C 6 dX2_init_82 (by decide) ?_
  refine z_iconst C 1 dX2_init_84 (by decide) ?_
  obtain ⟨⟨n_105, f_106⟩, e_107, hf⟩ := bo_ hf
  try dsimp only at hf
  have hP_108 := oRow_ e_107
  obtain ⟨g_109, hf⟩ := gd_ hf
  refine z_iastoreP C hP_108 g_109 dX2_init_85 ?_
  obtain ⟨σ_110, eσ_110, hf⟩ := nmo_ hf
  refine z_w eσ_110.symm ?_
  refine z_dup C dX2_init_86 rfl ?_
  refine z_bipush C 7 dX2_init_87 (by decide) ?_
  refine z_iconst C 1 dX2_init_89 (by decide) ?_
  obtain ⟨⟨n_111, f_112⟩, e_113, hf⟩ := bo_ hf
  try dsimp only at hf
  have hP_114 := oRow_ e_113
  obtain ⟨g_115, hf⟩ := gd_ hf
  refine z_iastoreP C hP_114 g_115 dX2_init_90 ?_
  obtain ⟨σ_116, eσ_116, hf⟩ := nmo_ hf
  refine z_w eσ_116.symm ?_
  obtain ⟨⟨c0v117, c1v117, c2v117, c3v117, c4v117, c5v117, c6v117, c7v117, c8v117, c9v117, c10v117, c11v117, c12v117, c13v117, c14v117, c15v117, c16v117, c17v117, c18v117, c19v117⟩, e_118, hf⟩ := bo_ hf
  try dsimp only at hf
  have hP_119 := oC20_ e_118
  refine z_putP C hP_119 (zPutF C (T := TX2) (N := 20) rfl in_X2 tyX2 tyX2_ok nmX2 2 (by decide) q214 (Or.inl rfl) rfl hnm rfl rfl rfl (Nat.le_of_ble_eq_true rfl) dX2_init_91) ?_
  obtain ⟨σ_120, eσ_120, hf⟩ := nmo_ hf
  refine z_w eσ_120.symm ?_
  have hP_121 : σ_120.2.2.1 a = some (.inr (2, [c0v117, c1v117, .ref a_66, c3v117, c4v117, c5v117, c6v117, c7v117, c8v117, c9v117, c10v117, c11v117, c12v117, c13v117, c14v117, c15v117, c16v117, c17v117, c18v117, c19v117])) := by rw [eσ_120]; exact sP_self
  refine z_aload_n C 0 dX2_init_94 rfl rfl ?_
  refine z_bipush C 8 dX2_init_95 (by decide) ?_
  obtain ⟨g_122, hf⟩ := gd_ hf
  obtain ⟨g_123, hf⟩ := gd_ hf
  refine z_newa C (atype := .int) (ty := .int) 0 rfl q208 rfl (fun _ h => by cases h) rfl (by decide) (by decide) g_122 g_123 dX2_init_97 ?_
  obtain ⟨a_124, ea_124, hf⟩ := nmo_ hf
  refine z_eq (congrArg Value.ref ea_124.symm) ?_
  obtain ⟨σ_125, eσ_125, hf⟩ := nmo_ hf
  refine z_w eσ_125.symm ?_
  obtain ⟨⟨c0v127, c1v127, c2v127, c3v127, c4v127, c5v127, c6v127, c7v127, c8v127, c9v127, c10v127, c11v127, c12v127, c13v127, c14v127, c15v127, c16v127, c17v127, c18v127, c19v127⟩, e_128, hf⟩ := bo_ hf
  try dsimp only at hf
  have hP_129 := oC20_ e_128
  refine z_putP C hP_129 (zPutF C (T := TX2) (N := 20) rfl in_X2 tyX2 tyX2_ok nmX2 3 (by decide) q216 (Or.inl rfl) rfl hnm rfl rfl rfl (Nat.le_of_ble_eq_true rfl) dX2_init_99) ?_
  obtain ⟨σ_130, eσ_130, hf⟩ := nmo_ hf
  refine z_w eσ_130.symm ?_
  have hP_131 : σ_130.2.2.1 a = some (.inr (2, [c0v127, c1v127, c2v127, .ref a_124, c4v127, c5v127, c6v127, c7v127, c8v127, c9v127, c10v127, c11v127, c12v127, c13v127, c14v127, c15v127, c16v127, c17v127, c18v127, c19v127])) := by rw [eσ_130]; exact sP_self
  refine z_aload_n C 0 dX2_init_102 rfl rfl ?_
  refine z_sipush C 200 dX2_init_103 (by decide) ?_
  refine z_putP C hP_131 (zPut C (T := TX2) (N := 20) rfl in_X2 tyX2 tyX2_ok nmX2 4 (by decide) q218 (Or.inl rfl) rfl rfl rfl (Nat.le_of_ble_eq_true rfl) dX2_init_106) ?_
  obtain ⟨σ_132, eσ_132, hf⟩ := nmo_ hf
  refine z_w eσ_132.symm ?_
  have hP_133 : σ_132.2.2.1 a = some (.inr (2, [c0v127, c1v127, c2v127, .ref a_124, .int 200, c5v127, c6v127, c7v127, c8v127, c9v127, c10v127, c11v127, c12v127, c13v127, c14v127, c15v127, c16v127, c17v127, c18v127, c19v127])) := by rw [eσ_132]; exact sP_self
  refine z_aload_n C 0 dX2_init_109 rfl rfl ?_
  refine z_bipush C 7 dX2_init_110 (by decide) ?_
  obtain ⟨g_134, hf⟩ := gd_ hf
  obtain ⟨g_135, hf⟩ := gd_ hf
  refine z_newq C 3 q193 rfl (by decide) (by decide) (by decide) g_134 g_135 dX2_init_112 ?_
  obtain ⟨a_136, ea_136, hf⟩ := nmo_ hf
  refine z_eq (congrArg Value.ref ea_136.symm) ?_
  obtain ⟨σ_137, eσ_137, hf⟩ := nmo_ hf
  refine z_w eσ_137.symm ?_
  obtain ⟨⟨c0v138, c1v138, c2v138, c3v138, c4v138, c5v138, c6v138, c7v138, c8v138, c9v138, c10v138, c11v138, c12v138, c13v138, c14v138, c15v138, c16v138, c17v138, c18v138, c19v138⟩, e_139, hf⟩ := bo_ hf
  try dsimp only at hf
  have hP_140 := oC20_ e_139
  refine z_putP C hP_140 (zPutF C (T := TX2) (N := 20) rfl in_X2 tyX2 tyX2_ok nmX2 9 (by decide) q231 (Or.inl rfl) rfl hnm rfl rfl rfl (Nat.le_of_ble_eq_true rfl) dX2_init_115) ?_
  obtain ⟨σ_141, eσ_141, hf⟩ := nmo_ hf
  refine z_w eσ_141.symm ?_
  have hP_142 : σ_141.2.2.1 a = some (.inr (2, [c0v138, c1v138, c2v138, c3v138, c4v138, c5v138, c6v138, c7v138, c8v138, .ref a_136, c10v138, c11v138, c12v138, c13v138, c14v138, c15v138, c16v138, c17v138, c18v138, c19v138])) := by rw [eσ_141]; exact sP_self
  refine z_aload_n C 0 dX2_init_118 rfl rfl ?_
  refine z_bipush C 7 dX2_init_119 (by decide) ?_
  obtain ⟨g_143, hf⟩ := gd_ hf
  obtain ⟨g_144, hf⟩ := gd_ hf
  refine z_newa C (atype := .int) (ty := .int) 0 rfl q208 rfl (fun _ h => by cases h) rfl (by decide) (by decide) g_143 g_144 dX2_init_121 ?_
  obtain ⟨a_145, ea_145, hf⟩ := nmo_ hf
  refine z_eq (congrArg Value.ref ea_145.symm) ?_
  obtain ⟨σ_146, eσ_146, hf⟩ := nmo_ hf
  refine z_w eσ_146.symm ?_
  obtain ⟨⟨c0v148, c1v148, c2v148, c3v148, c4v148, c5v148, c6v148, c7v148, c8v148, c9v148, c10v148, c11v148, c12v148, c13v148, c14v148, c15v148, c16v148, c17v148, c18v148, c19v148⟩, e_149, hf⟩ := bo_ hf
  try dsimp only at hf
  have hP_150 := oC20_ e_149
  refine z_putP C hP_150 (zPutF C (T := TX2) (N := 20) rfl in_X2 tyX2 tyX2_ok nmX2 10 (by decide) q233 (Or.inl rfl) rfl hnm rfl rfl rfl (Nat.le_of_ble_eq_true rfl) dX2_init_123) ?_
  obtain ⟨σ_151, eσ_151, hf⟩ := nmo_ hf
  refine z_w eσ_151.symm ?_
  have hP_152 : σ_151.2.2.1 a = some (.inr (2, [c0v148, c1v148, c2v148, c3v148, c4v148, c5v148, c6v148, c7v148, c8v148, c9v148, .ref a_145, c11v148, c12v148, c13v148, c14v148, c15v148, c16v148, c17v148, c18v148, c19v148])) := by rw [eσ_151]; exact sP_self
  refine z_aload_n C 0 dX2_init_126 rfl rfl ?_
  refine z_bipush C 7 dX2_init_127 (by decide) ?_
  obtain ⟨g_153, hf⟩ := gd_ hf
  obtain ⟨g_154, hf⟩ := gd_ hf
  refine z_newa C (atype := .int) (ty := .int) 0 rfl q208 rfl (fun _ h => by cases h) rfl (by decide) (by decide) g_153 g_154 dX2_init_129 ?_
  obtain ⟨a_155, ea_155, hf⟩ := nmo_ hf
  refine z_eq (congrArg Value.ref ea_155.symm) ?_
  obtain ⟨σ_156, eσ_156, hf⟩ := nmo_ hf
  refine z_w eσ_156.symm ?_
  obtain ⟨⟨c0v158, c1v158, c2v158, c3v158, c4v158, c5v158, c6v158, c7v158, c8v158, c9v158, c10v158, c11v158, c12v158, c13v158, c14v158, c15v158, c16v158, c17v158, c18v158, c19v158⟩, e_159, hf⟩ := bo_ hf
  try dsimp only at hf
  have hP_160 := oC20_ e_159
  refine z_putP C hP_160 (zPutF C (T := TX2) (N := 20) rfl in_X2 tyX2 tyX2_ok nmX2 11 (by decide) q235 (Or.inl rfl) rfl hnm rfl rfl rfl (Nat.le_of_ble_eq_true rfl) dX2_init_131) ?_
  obtain ⟨σ_161, eσ_161, hf⟩ := nmo_ hf
  refine z_w eσ_161.symm ?_
  have hP_162 : σ_161.2.2.1 a = some (.inr (2, [c0v158, c1v158, c2v158, c3v158, c4v158, c5v158, c6v158, c7v158, c8v158, c9v158, c10v158, .ref a_155, c12v158, c13v158, c14v158, c15v158, c16v158, c17v158, c18v158, c19v158])) := by rw [eσ_161]; exact sP_self
  refine z_aload_n C 0 dX2_init_134 rfl rfl ?_
  refine z_bipush C 7 dX2_init_135 (by decide) ?_
  obtain ⟨g_163, hf⟩ := gd_ hf
  obtain ⟨g_164, hf⟩ := gd_ hf
  refine z_newa C (atype := .int) (ty := .int) 0 rfl q208 rfl (fun _ h => by cases h) rfl (by decide) (by decide) g_163 g_164 dX2_init_137 ?_
  obtain ⟨a_165, ea_165, hf⟩ := nmo_ hf
  refine z_eq (congrArg Value.ref ea_165.symm) ?_
  obtain ⟨σ_166, eσ_166, hf⟩ := nmo_ hf
  refine z_w eσ_166.symm ?_
  obtain ⟨⟨c0v168, c1v168, c2v168, c3v168, c4v168, c5v168, c6v168, c7v168, c8v168, c9v168, c10v168, c11v168, c12v168, c13v168, c14v168, c15v168, c16v168, c17v168, c18v168, c19v168⟩, e_169, hf⟩ := bo_ hf
  try dsimp only at hf
  have hP_170 := oC20_ e_169
  refine z_putP C hP_170 (zPutF C (T := TX2) (N := 20) rfl in_X2 tyX2 tyX2_ok nmX2 12 (by decide) q237 (Or.inl rfl) rfl hnm rfl rfl rfl (Nat.le_of_ble_eq_true rfl) dX2_init_139) ?_
  obtain ⟨σ_171, eσ_171, hf⟩ := nmo_ hf
  refine z_w eσ_171.symm ?_
  have hP_172 : σ_171.2.2.1 a = some (.inr (2, [c0v168, c1v168, c2v168, c3v168, c4v168, c5v168, c6v168, c7v168, c8v168, c9v168, c10v168, c11v168, .ref a_165, c13v168, c14v168, c15v168, c16v168, c17v168, c18v168, c19v168])) := by rw [eσ_171]; exact sP_self
  refine z_aload_n C 0 dX2_init_142 rfl rfl ?_
  refine z_iconst C 2 dX2_init_143 (by decide) ?_
  obtain ⟨g_173, hf⟩ := gd_ hf
  obtain ⟨g_174, hf⟩ := gd_ hf
  refine z_newq C 4 q195 rfl (by decide) (by decide) (by decide) g_173 g_174 dX2_init_144 ?_
  obtain ⟨a_175, ea_175, hf⟩ := nmo_ hf
  refine z_eq (congrArg Value.ref ea_175.symm) ?_
  obtain ⟨σ_176, eσ_176, hf⟩ := nmo_ hf
  refine z_w eσ_176.symm ?_
  obtain ⟨⟨c0v177, c1v177, c2v177, c3v177, c4v177, c5v177, c6v177, c7v177, c8v177, c9v177, c10v177, c11v177, c12v177, c13v177, c14v177, c15v177, c16v177, c17v177, c18v177, c19v177⟩, e_178, hf⟩ := bo_ hf
  try dsimp only at hf
  have hP_179 := oC20_ e_178
  refine z_putP C hP_179 (zPutF C (T := TX2) (N := 20) rfl in_X2 tyX2 tyX2_ok nmX2 13 (by decide) q239 (Or.inl rfl) rfl hnm rfl rfl rfl (Nat.le_of_ble_eq_true rfl) dX2_init_147) ?_
  obtain ⟨σ_180, eσ_180, hf⟩ := nmo_ hf
  refine z_w eσ_180.symm ?_
  have hP_181 : σ_180.2.2.1 a = some (.inr (2, [c0v177, c1v177, c2v177, c3v177, c4v177, c5v177, c6v177, c7v177, c8v177, c9v177, c10v177, c11v177, c12v177, .ref a_175, c14v177, c15v177, c16v177, c17v177, c18v177, c19v177])) := by rw [eσ_180]; exact sP_self
  refine z_aload_n C 0 dX2_init_150 rfl rfl ?_
  refine z_iconst C 1 dX2_init_151 (by decide) ?_
  refine z_putP C hP_181 (zPut C (T := TX2) (N := 20) rfl in_X2 tyX2 tyX2_ok nmX2 14 (by decide) q241 (Or.inl rfl) rfl rfl rfl (Nat.le_of_ble_eq_true rfl) dX2_init_152) ?_
  obtain ⟨σ_182, eσ_182, hf⟩ := nmo_ hf
  refine z_w eσ_182.symm ?_
  have hP_183 : σ_182.2.2.1 a = some (.inr (2, [c0v177, c1v177, c2v177, c3v177, c4v177, c5v177, c6v177, c7v177, c8v177, c9v177, c10v177, c11v177, c12v177, .ref a_175, .int 1, c15v177, c16v177, c17v177, c18v177, c19v177])) := by rw [eσ_182]; exact sP_self
  refine z_aload_n C 0 dX2_init_155 rfl rfl ?_
  refine z_bipush C 50 dX2_init_156 (by decide) ?_
  obtain ⟨g_184, hf⟩ := gd_ hf
  obtain ⟨g_185, hf⟩ := gd_ hf
  refine z_newa C (atype := .byte) (ty := .byte) 1 rfl q209 rfl (fun _ h => by cases h) rfl (by decide) (by decide) g_184 g_185 dX2_init_158 ?_
  obtain ⟨a_186, ea_186, hf⟩ := nmo_ hf
  refine z_eq (congrArg Value.ref ea_186.symm) ?_
  obtain ⟨σ_187, eσ_187, hf⟩ := nmo_ hf
  refine z_w eσ_187.symm ?_
  obtain ⟨⟨c0v189, c1v189, c2v189, c3v189, c4v189, c5v189, c6v189, c7v189, c8v189, c9v189, c10v189, c11v189, c12v189, c13v189, c14v189, c15v189, c16v189, c17v189, c18v189, c19v189⟩, e_190, hf⟩ := bo_ hf
  try dsimp only at hf
  have hP_191 := oC20_ e_190
  refine z_putP C hP_191 (zPutF C (T := TX2) (N := 20) rfl in_X2 tyX2 tyX2_ok nmX2 15 (by decide) q243 (Or.inl rfl) rfl hnm rfl rfl rfl (Nat.le_of_ble_eq_true rfl) dX2_init_160) ?_
  obtain ⟨σ_192, eσ_192, hf⟩ := nmo_ hf
  refine z_w eσ_192.symm ?_
  have hP_193 : σ_192.2.2.1 a = some (.inr (2, [c0v189, c1v189, c2v189, c3v189, c4v189, c5v189, c6v189, c7v189, c8v189, c9v189, c10v189, c11v189, c12v189, c13v189, c14v189, .ref a_186, c16v189, c17v189, c18v189, c19v189])) := by rw [eσ_192]; exact sP_self
  refine z_aload_n C 0 dX2_init_163 rfl rfl ?_
  refine z_bipush C 20 dX2_init_164 (by decide) ?_
  obtain ⟨g_194, hf⟩ := gd_ hf
  obtain ⟨g_195, hf⟩ := gd_ hf
  refine z_newa C (atype := .int) (ty := .int) 0 rfl q208 rfl (fun _ h => by cases h) rfl (by decide) (by decide) g_194 g_195 dX2_init_166 ?_
  obtain ⟨a_196, ea_196, hf⟩ := nmo_ hf
  refine z_eq (congrArg Value.ref ea_196.symm) ?_
  obtain ⟨σ_197, eσ_197, hf⟩ := nmo_ hf
  refine z_w eσ_197.symm ?_
  obtain ⟨⟨c0v199, c1v199, c2v199, c3v199, c4v199, c5v199, c6v199, c7v199, c8v199, c9v199, c10v199, c11v199, c12v199, c13v199, c14v199, c15v199, c16v199, c17v199, c18v199, c19v199⟩, e_200, hf⟩ := bo_ hf
  try dsimp only at hf
  have hP_201 := oC20_ e_200
  refine z_putP C hP_201 (zPutF C (T := TX2) (N := 20) rfl in_X2 tyX2 tyX2_ok nmX2 17 (by decide) q247 (Or.inl rfl) rfl hnm rfl rfl rfl (Nat.le_of_ble_eq_true rfl) dX2_init_168) ?_
  obtain ⟨σ_202, eσ_202, hf⟩ := nmo_ hf
  refine z_w eσ_202.symm ?_
  have hP_203 : σ_202.2.2.1 a = some (.inr (2, [c0v199, c1v199, c2v199, c3v199, c4v199, c5v199, c6v199, c7v199, c8v199, c9v199, c10v199, c11v199, c12v199, c13v199, c14v199, c15v199, c16v199, .ref a_196, c18v199, c19v199])) := by rw [eσ_202]; exact sP_self
  refine z_aload_n C 0 dX2_init_171 rfl rfl ?_
  obtain ⟨g_204, hf⟩ := gd_ hf
  obtain ⟨g_205, hf⟩ := gd_ hf
  refine z_new C (ci := 3) (Cn := RX3) (T := TX3) (N := 1) rfl in_X3 tyX3 tyX3_ok q197 q198 q80 [.null] (fun j hj => by rcases (show j = 0 by omega) with rfl <;> rfl) g_204 g_205 dX2_init_172 ?_
  obtain ⟨a_207, ea_207, hf⟩ := nmo_ hf
  refine z_eq (congrArg Value.ref ea_207.symm) ?_
  obtain ⟨σ_206, eσ_206, hf⟩ := nmo_ hf
  refine z_w eσ_206.symm ?_
  refine z_dup C dX2_init_175 rfl ?_
  obtain ⟨⟨⟩, σ_211, e_210, hf⟩ := bd_ hf
  refine z_callv C (rest := [.ref a_207, .ref a]) (av := (.ref a_207 :: [])) (zPay.of q201 q80) (fun H ls hH h2 => zInv_IN C (As := []) (rest := [.ref a_207, .ref a]) q199 q200 q201 rfl mh_eX3 np_eX3_init dX2_init_176) (teX3_init l w e_210) (Nat.le_of_ble_eq_true rfl) (Nat.le_of_ble_eq_true rfl) ?_
  obtain ⟨⟨c0v212, c1v212, c2v212, c3v212, c4v212, c5v212, c6v212, c7v212, c8v212, c9v212, c10v212, c11v212, c12v212, c13v212, c14v212, c15v212, c16v212, c17v212, c18v212, c19v212⟩, e_213, hf⟩ := bo_ hf
  try dsimp only at hf
  have hP_214 := oC20_ e_213
  refine z_putP C hP_214 (zPutF C (T := TX2) (N := 20) rfl in_X2 tyX2 tyX2_ok nmX2 19 (by decide) q251 (Or.inl rfl) rfl hnm rfl rfl rfl (Nat.le_of_ble_eq_true rfl) dX2_init_179) ?_
  obtain ⟨σ_215, eσ_215, hf⟩ := nmo_ hf
  refine z_w eσ_215.symm ?_
  have hP_216 : σ_215.2.2.1 a = some (.inr (2, [c0v212, c1v212, c2v212, c3v212, c4v212, c5v212, c6v212, c7v212, c8v212, c9v212, c10v212, c11v212, c12v212, c13v212, c14v212, c15v212, c16v212, c17v212, c18v212, .ref a_207])) := by rw [eσ_215]; exact sP_self
  obtain ⟨-, rfl⟩ := fin_ hf
  exact z_vret C dX2_init_182
def feX0_init_L77 (w : ZW) (a : Nat) : Nat → Int32 → ZS → Option ((Int32) × ZS)
  | 0, _, _ => none
  | n + 1, y1, σ => if 4 ≤ y1 then (some (y1, σ)) else (bo (oFR 0 7 (σ.2.2.1 a)) (fun fr86 => gd (1 ≤ σ.2.2.2.2.1) (gd (1 ≤ σ.2.2.2.2.2) (nm (σ.2.2.2.1) (fun (a_94 : Nat) => nm (sN σ (.inr (5, [.null])) 1) (fun (σ_93 : ZS) => bo (feX5_init a_94) (fun _ => bo (oC1 5 (σ_93.2.2.1 a_94)) (fun c0v98 => bo (oRowG w 5 (σ_93.2.2.1 (fr86.2))) (fun rw101 => gd (¬ (y1 < 0 ∨ (rw101.1) ≤ y1.toNatClampNeg)) (nm (sP σ_93 (fr86.2) (.inl (w.2.1 5, (rw101.1), .inr (.inr (.inr (.inr (va_up (rw101.2) (y1.toNatClampNeg) (some a_94)))))))) (fun (σ_106 : ZS) => nm (y1 + 1) (fun (x1_107 : Int32) => feX0_init_L77 w a n x1_107 σ_106))))))))))))
def feX0_init (w : ZW) (σ : ZS) (a : Nat) : Option (Unit × ZS) := gd (1 ≤ σ.2.2.2.2.1) (gd (7 ≤ σ.2.2.2.2.2) (nm (σ.2.2.2.1) (fun (a_4 : Nat) => nm (sN σ (.inr (1, [.null, .null, .null, .null, .null, .int 0, .int 0])) 7) (fun (σ_3 : ZS) => bd (feX1_init w σ_3 a_4) (fun _ σ_8 => bo (oC8 0 (σ_8.2.2.1 a)) (fun oc9 => nm (sP σ_8 a (.inr (0, [.ref a_4, (oc9.2.1), (oc9.2.2.1), (oc9.2.2.2.1), (oc9.2.2.2.2.1), (oc9.2.2.2.2.2.1), (oc9.2.2.2.2.2.2.1), (oc9.2.2.2.2.2.2.2)]))) (fun (σ_12 : ZS) => gd (1 ≤ σ_12.2.2.2.2.1) (gd (20 ≤ σ_12.2.2.2.2.2) (nm (σ_12.2.2.2.1) (fun (a_17 : Nat) => nm (sN σ_12 (.inr (2, [.int 0, .null, .null, .null, .int 0, .int 0, .int 0, .int 0, .int 0, .null, .null, .null, .null, .null, .int 0, .null, .int 0, .null, .int 0, .null])) 20) (fun (σ_16 : ZS) => bd (feX2_init w σ_16 a_17) (fun _ σ_21 => bo (oC8 0 (σ_21.2.2.1 a)) (fun oc22 => nm (sP σ_21 a (.inr (0, [(oc22.1), .ref a_17, (oc22.2.2.1), (oc22.2.2.2.1), (oc22.2.2.2.2.1), (oc22.2.2.2.2.2.1), (oc22.2.2.2.2.2.2.1), (oc22.2.2.2.2.2.2.2)]))) (fun (σ_25 : ZS) => gd (1 ≤ σ_25.2.2.2.2.1) (gd (20 ≤ σ_25.2.2.2.2.2) (nm (σ_25.2.2.2.1) (fun (a_30 : Nat) => nm (sN σ_25 (.inr (2, [.int 0, .null, .null, .null, .int 0, .int 0, .int 0, .int 0, .int 0, .null, .null, .null, .null, .null, .int 0, .null, .int 0, .null, .int 0, .null])) 20) (fun (σ_29 : ZS) => bd (feX2_init w σ_29 a_30) (fun _ σ_34 => bo (oC8 0 (σ_34.2.2.1 a)) (fun oc35 => nm (sP σ_34 a (.inr (0, [(oc35.1), (oc35.2.1), .ref a_30, (oc35.2.2.2.1), (oc35.2.2.2.2.1), (oc35.2.2.2.2.2.1), (oc35.2.2.2.2.2.2.1), (oc35.2.2.2.2.2.2.2)]))) (fun (σ_38 : ZS) => gd (1 ≤ σ_38.2.2.2.2.1) (gd (20 ≤ σ_38.2.2.2.2.2) (nm (σ_38.2.2.2.1) (fun (a_43 : Nat) => nm (sN σ_38 (.inr (2, [.int 0, .null, .null, .null, .int 0, .int 0, .int 0, .int 0, .int 0, .null, .null, .null, .null, .null, .int 0, .null, .int 0, .null, .int 0, .null])) 20) (fun (σ_42 : ZS) => bd (feX2_init w σ_42 a_43) (fun _ σ_47 => bo (oC8 0 (σ_47.2.2.1 a)) (fun oc48 => nm (sP σ_47 a (.inr (0, [(oc48.1), (oc48.2.1), (oc48.2.2.1), .ref a_43, (oc48.2.2.2.2.1), (oc48.2.2.2.2.2.1), (oc48.2.2.2.2.2.2.1), (oc48.2.2.2.2.2.2.2)]))) (fun (σ_51 : ZS) => gd (1 ≤ σ_51.2.2.2.2.1) (gd (2 ≤ σ_51.2.2.2.2.2) (nm (σ_51.2.2.2.1) (fun (a_56 : Nat) => nm (sN σ_51 (.inr (4, [.null, .int 0])) 2) (fun (σ_55 : ZS) => bd (feX4_init w σ_55 a_56) (fun _ σ_60 => bo (oC8 0 (σ_60.2.2.1 a)) (fun oc61 => nm (sP σ_60 a (.inr (0, [(oc61.1), (oc61.2.1), (oc61.2.2.1), (oc61.2.2.2.1), (oc61.2.2.2.2.1), .ref a_56, (oc61.2.2.2.2.2.2.1), (oc61.2.2.2.2.2.2.2)]))) (fun (σ_64 : ZS) => gd (1 ≤ σ_64.2.2.2.2.1) (gd ((6 : Int32).toNatClampNeg ≤ σ_64.2.2.2.2.2) (nm (σ_64.2.2.2.1) (fun (a_68 : Nat) => nm (sN σ_64 (.inl (w.2.1 0, (6 : Int32).toNatClampNeg, .inl (fun _ => 0))) (6 : Int32).toNatClampNeg) (fun (σ_69 : ZS) => bo (oC8 0 (σ_69.2.2.1 a)) (fun oc71 => nm (sP σ_69 a (.inr (0, [(oc71.1), (oc71.2.1), (oc71.2.2.1), (oc71.2.2.2.1), (oc71.2.2.2.2.1), (oc71.2.2.2.2.2.1), .ref a_68, (oc71.2.2.2.2.2.2.2)]))) (fun (σ_74 : ZS) => gd (1 ≤ σ_74.2.2.2.2.1) (gd ((4 : Int32).toNatClampNeg ≤ σ_74.2.2.2.2.2) (nm (σ_74.2.2.2.1) (fun (a_78 : Nat) => nm (sN σ_74 (.inl (w.2.1 5, (4 : Int32).toNatClampNeg, .inr (.inr (.inr (.inr (fun _ => none)))))) (4 : Int32).toNatClampNeg) (fun (σ_79 : ZS) => bo (oC8 0 (σ_79.2.2.1 a)) (fun oc80 => nm (sP σ_79 a (.inr (0, [(oc80.1), (oc80.2.1), (oc80.2.2.1), (oc80.2.2.2.1), (oc80.2.2.2.2.1), (oc80.2.2.2.2.2.1), (oc80.2.2.2.2.2.2.1), .ref a_78]))) (fun (σ_83 : ZS) => bd (feX0_init_L77 w a 10000 0 σ_83) (fun x1_108 σ_109 => some ((), σ_109)))))))))))))))))))))))))))))))))))))))))))))))))
set_option maxHeartbeats 4000000 in
set_option maxRecDepth 100000 in
theorem lfeX0_init_L77 {p : Program} {l : Launch} {e : Env} {R : Room} {s : State} {m : MethodId} {args : Array Value} {below : List Frame} {meth : Method} {c : Code} {Q : State → Prop} {w : ZW} {A : Nat → Prop} {ret : Option FieldType} {hh : List (Nat × Nat × Nat × Nat)} (C : zCx p s m args meth c w zL0 A 2 cX0_init RX0 ret hh) (hfr : 2 ≤ R.frames) (hlo : 27 ≤ R.locals) {a : Nat} {z1 : Int32} {σ' : ZS} (hk : Z p l e R s m args below meth c Q w zL0 A 2 σ' 101 [(0, .ref a), (1, .int z1)] []) : ∀ (n : Nat) (y1 : Int32) (σ : ZS), feX0_init_L77 w a n y1 σ = some (z1, σ') → Z p l e R s m args below meth c Q w zL0 A 2 σ 77 [(0, .ref a), (1, .int y1)] [] := by
  intro n
  induction n with
  | zero => intro y1 σ hf; exact none_ hf
  | succ n ih =>
    intro y1 σ hf
    rw [feX0_init_L77] at hf
    refine z_iload_n C 1 dX0_init_77 rfl rfl ?_
    refine z_iconst C 4 dX0_init_78 (by decide) ?_
    refine z_icmp_ge C 101 dX0_init_79 (by decide) (fun c_85 => ?_) (fun c_85 => ?_)
    · replace hf := if_t c_85 hf
      obtain ⟨rfl, rfl⟩ := fin_ hf
      exact hk
    · replace hf := if_f c_85 hf
      refine z_aload_n C 0 dX0_init_82 rfl rfl ?_
      obtain ⟨⟨vs_86, r_87⟩, e_88, hf⟩ := bo_ hf
      try dsimp only at hf
      obtain ⟨hP_89, hv_90⟩ := oFR_ e_88
      refine z_get C (ci := 0) (Cn := RX0) (T := TX0) (N := 8) (fs := vs_86) (v := .ref r_87) rfl in_X0 (zSee.pool hP_89) 7 (by decide) q326 (Or.inl rfl) hv_90 dX0_init_83 ?_
      refine z_iload_n C 1 dX0_init_86 rfl rfl ?_
      obtain ⟨g_91, hf⟩ := gd_ hf
      obtain ⟨g_92, hf⟩ := gd_ hf
      refine z_new C (ci := 5) (Cn := RX5) (T := TX5) (N := 1) rfl in_X5 tyX5 tyX5_ok q308 q310 q82 [.null] (fun j hj => by rcases (show j = 0 by omega) with rfl <;> rfl) g_91 g_92 dX0_init_87 ?_
      obtain ⟨a_94, ea_94, hf⟩ := nmo_ hf
      refine z_eq (congrArg Value.ref ea_94.symm) ?_
      obtain ⟨σ_93, eσ_93, hf⟩ := nmo_ hf
      refine z_w eσ_93.symm ?_
      refine z_dup C dX0_init_90 rfl ?_
      obtain ⟨⟨⟩, e_97, hf⟩ := bo_ hf
      refine z_callv C (rest := [.ref a_94, .int y1, .ref r_87]) (av := (.ref a_94 :: [])) (zPay.of q313 q82) (fun H ls hH h2 => zInv_IN C (As := []) (rest := [.ref a_94, .int y1, .ref r_87]) q311 q312 q313 rfl mh_eX5 np_eX5_init dX0_init_91) (teX5_init l w zL0 σ_93 e_97) (Nat.le_trans (Nat.le_of_ble_eq_true rfl) hfr) (Nat.le_trans (Nat.le_of_ble_eq_true rfl) hlo) ?_
      obtain ⟨c0v98, e_99, hf⟩ := bo_ hf
      try dsimp only at hf
      have hP_100 := oC1_ e_99
      obtain ⟨⟨n_101, f_102⟩, e_103, hf⟩ := bo_ hf
      try dsimp only at hf
      have hP_104 := oRowG_ e_103
      obtain ⟨g_105, hf⟩ := gd_ hf
      refine z_aastoreP C 5 hP_104 rfl (zSee.pool hP_100) (r := (RX5, TX5, 1)) rfl (Or.inl rfl) g_105 dX0_init_94 ?_
      obtain ⟨σ_106, eσ_106, hf⟩ := nmo_ hf
      refine z_w eσ_106.symm ?_
      obtain ⟨x1_107, ex1_107, hf⟩ := nmo_ hf
      refine z_iinc C x1_107 1 dX0_init_95 rfl (by rw [ex1_107]; rfl) (by decide) rfl (lv' := [(1, .int x1_107), (0, .ref a)]) ?_
      refine z_goto C 77 dX0_init_98 (by decide) ?_
      exact z_lv [1, 0] rfl (ih _ _ hf)
set_option maxHeartbeats 4000000 in
set_option maxRecDepth 100000 in
theorem teX0_init (l : Launch) (w : ZW) {σ σ' : ZS} {a : Nat} (hf : feX0_init w σ a = some ((), σ')) : zC l w zL0 yX0_init (ws_ yX0_init cX0_init 2 none) 5 74 [.ref a] σ (.returned none) σ' := by
  refine zC.of (plainFor_of_name (by decide)) (Nat.le_of_ble_eq_true rfl) ?_
  intro p e s m args below meth c C hnm
  show Z p l e _ s m args below meth c _ w _ _ 2 σ 0 [(0, .ref a)] []
  unfold feX0_init at hf
  refine z_aload_n C 0 dX0_init_0 rfl rfl ?_
  refine z_objInit C q115 dX0_init_1 (Nat.le_of_ble_eq_true rfl) (Nat.le_of_ble_eq_true rfl) ?_
  refine z_aload_n C 0 dX0_init_4 rfl rfl ?_
  obtain ⟨g_1, hf⟩ := gd_ hf
  obtain ⟨g_2, hf⟩ := gd_ hf
  refine z_new C (ci := 1) (Cn := RX1) (T := TX1) (N := 7) rfl in_X1 tyX1 tyX1_ok q118 q119 q78 [.null, .null, .null, .null, .null, .int 0, .int 0] (fun j hj => by rcases (show j = 0 ∨ j = 1 ∨ j = 2 ∨ j = 3 ∨ j = 4 ∨ j = 5 ∨ j = 6 by omega) with rfl | rfl | rfl | rfl | rfl | rfl | rfl <;> rfl) g_1 g_2 dX0_init_5 ?_
  obtain ⟨a_4, ea_4, hf⟩ := nmo_ hf
  refine z_eq (congrArg Value.ref ea_4.symm) ?_
  obtain ⟨σ_3, eσ_3, hf⟩ := nmo_ hf
  refine z_w eσ_3.symm ?_
  refine z_dup C dX0_init_8 rfl ?_
  obtain ⟨⟨⟩, σ_8, e_7, hf⟩ := bd_ hf
  refine z_callv C (rest := [.ref a_4, .ref a]) (av := (.ref a_4 :: [])) (zPay.of q160 q78) (fun H ls hH h2 => zInv_I C (As := []) (rest := [.ref a_4, .ref a]) q158 q159 q160 rfl mh_eX1 np_eX1_init dX0_init_9) (teX1_init l w e_7) (Nat.le_of_ble_eq_true rfl) (Nat.le_of_ble_eq_true rfl) ?_
  obtain ⟨⟨c0v9, c1v9, c2v9, c3v9, c4v9, c5v9, c6v9, c7v9⟩, e_10, hf⟩ := bo_ hf
  try dsimp only at hf
  have hP_11 := oC8_ e_10
  refine z_putP C hP_11 (zPutF C (T := TX0) (N := 8) rfl in_X0 tyX0 tyX0_ok nmX0 0 (by decide) q319 (Or.inl rfl) rfl hnm rfl rfl rfl (Nat.le_of_ble_eq_true rfl) dX0_init_12) ?_
  obtain ⟨σ_12, eσ_12, hf⟩ := nmo_ hf
  refine z_w eσ_12.symm ?_
  have hP_13 : σ_12.2.2.1 a = some (.inr (0, [.ref a_4, c1v9, c2v9, c3v9, c4v9, c5v9, c6v9, c7v9])) := by rw [eσ_12]; exact sP_self
  refine z_aload_n C 0 dX0_init_15 rfl rfl ?_
  obtain ⟨g_14, hf⟩ := gd_ hf
  obtain ⟨g_15, hf⟩ := gd_ hf
  refine z_new C (ci := 2) (Cn := RX2) (T := TX2) (N := 20) rfl in_X2 tyX2 tyX2_ok q187 q188 q79 [.int 0, .null, .null, .null, .int 0, .int 0, .int 0, .int 0, .int 0, .null, .null, .null, .null, .null, .int 0, .null, .int 0, .null, .int 0, .null] (fun j hj => by rcases (show j = 0 ∨ j = 1 ∨ j = 2 ∨ j = 3 ∨ j = 4 ∨ j = 5 ∨ j = 6 ∨ j = 7 ∨ j = 8 ∨ j = 9 ∨ j = 10 ∨ j = 11 ∨ j = 12 ∨ j = 13 ∨ j = 14 ∨ j = 15 ∨ j = 16 ∨ j = 17 ∨ j = 18 ∨ j = 19 by omega) with rfl | rfl | rfl | rfl | rfl | rfl | rfl | rfl | rfl | rfl | rfl | rfl | rfl | rfl | rfl | rfl | rfl | rfl | rfl | rfl <;> rfl) g_14 g_15 dX0_init_16 ?_
  obtain ⟨a_17, ea_17, hf⟩ := nmo_ hf
  refine z_eq (congrArg Value.ref ea_17.symm) ?_
  obtain ⟨σ_16, eσ_16, hf⟩ := nmo_ hf
  refine z_w eσ_16.symm ?_
  refine z_dup C dX0_init_19 rfl ?_
  obtain ⟨⟨⟩, σ_21, e_20, hf⟩ := bd_ hf
  refine z_callv C (rest := [.ref a_17, .ref a]) (av := (.ref a_17 :: [])) (zPay.of q191 q79) (fun H ls hH h2 => zInv_IN C (As := []) (rest := [.ref a_17, .ref a]) q189 q190 q191 rfl mh_eX2 np_eX2_init dX0_init_20) (teX2_init l w e_20) (Nat.le_of_ble_eq_true rfl) (Nat.le_of_ble_eq_true rfl) ?_
  obtain ⟨⟨c0v22, c1v22, c2v22, c3v22, c4v22, c5v22, c6v22, c7v22⟩, e_23, hf⟩ := bo_ hf
  try dsimp only at hf
  have hP_24 := oC8_ e_23
  refine z_putP C hP_24 (zPutF C (T := TX0) (N := 8) rfl in_X0 tyX0 tyX0_ok nmX0 1 (by decide) q320 (Or.inl rfl) rfl hnm rfl rfl rfl (Nat.le_of_ble_eq_true rfl) dX0_init_23) ?_
  obtain ⟨σ_25, eσ_25, hf⟩ := nmo_ hf
  refine z_w eσ_25.symm ?_
  have hP_26 : σ_25.2.2.1 a = some (.inr (0, [c0v22, .ref a_17, c2v22, c3v22, c4v22, c5v22, c6v22, c7v22])) := by rw [eσ_25]; exact sP_self
  refine z_aload_n C 0 dX0_init_26 rfl rfl ?_
  obtain ⟨g_27, hf⟩ := gd_ hf
  obtain ⟨g_28, hf⟩ := gd_ hf
  refine z_new C (ci := 2) (Cn := RX2) (T := TX2) (N := 20) rfl in_X2 tyX2 tyX2_ok q187 q188 q79 [.int 0, .null, .null, .null, .int 0, .int 0, .int 0, .int 0, .int 0, .null, .null, .null, .null, .null, .int 0, .null, .int 0, .null, .int 0, .null] (fun j hj => by rcases (show j = 0 ∨ j = 1 ∨ j = 2 ∨ j = 3 ∨ j = 4 ∨ j = 5 ∨ j = 6 ∨ j = 7 ∨ j = 8 ∨ j = 9 ∨ j = 10 ∨ j = 11 ∨ j = 12 ∨ j = 13 ∨ j = 14 ∨ j = 15 ∨ j = 16 ∨ j = 17 ∨ j = 18 ∨ j = 19 by omega) with rfl | rfl | rfl | rfl | rfl | rfl | rfl | rfl | rfl | rfl | rfl | rfl | rfl | rfl | rfl | rfl | rfl | rfl | rfl | rfl <;> rfl) g_27 g_28 dX0_init_27 ?_
  obtain ⟨a_30, ea_30, hf⟩ := nmo_ hf
  refine z_eq (congrArg Value.ref ea_30.symm) ?_
  obtain ⟨σ_29, eσ_29, hf⟩ := nmo_ hf
  refine z_w eσ_29.symm ?_
  refine z_dup C dX0_init_30 rfl ?_
  obtain ⟨⟨⟩, σ_34, e_33, hf⟩ := bd_ hf
  refine z_callv C (rest := [.ref a_30, .ref a]) (av := (.ref a_30 :: [])) (zPay.of q191 q79) (fun H ls hH h2 => zInv_IN C (As := []) (rest := [.ref a_30, .ref a]) q189 q190 q191 rfl mh_eX2 np_eX2_init dX0_init_31) (teX2_init l w e_33) (Nat.le_of_ble_eq_true rfl) (Nat.le_of_ble_eq_true rfl) ?_
  obtain ⟨⟨c0v35, c1v35, c2v35, c3v35, c4v35, c5v35, c6v35, c7v35⟩, e_36, hf⟩ := bo_ hf
  try dsimp only at hf
  have hP_37 := oC8_ e_36
  refine z_putP C hP_37 (zPutF C (T := TX0) (N := 8) rfl in_X0 tyX0 tyX0_ok nmX0 2 (by decide) q321 (Or.inl rfl) rfl hnm rfl rfl rfl (Nat.le_of_ble_eq_true rfl) dX0_init_34) ?_
  obtain ⟨σ_38, eσ_38, hf⟩ := nmo_ hf
  refine z_w eσ_38.symm ?_
  have hP_39 : σ_38.2.2.1 a = some (.inr (0, [c0v35, c1v35, .ref a_30, c3v35, c4v35, c5v35, c6v35, c7v35])) := by rw [eσ_38]; exact sP_self
  refine z_aload_n C 0 dX0_init_37 rfl rfl ?_
  obtain ⟨g_40, hf⟩ := gd_ hf
  obtain ⟨g_41, hf⟩ := gd_ hf
  refine z_new C (ci := 2) (Cn := RX2) (T := TX2) (N := 20) rfl in_X2 tyX2 tyX2_ok q187 q188 q79 [.int 0, .null, .null, .null, .int 0, .int 0, .int 0, .int 0, .int 0, .null, .null, .null, .null, .null, .int 0, .null, .int 0, .null, .int 0, .null] (fun j hj => by rcases (show j = 0 ∨ j = 1 ∨ j = 2 ∨ j = 3 ∨ j = 4 ∨ j = 5 ∨ j = 6 ∨ j = 7 ∨ j = 8 ∨ j = 9 ∨ j = 10 ∨ j = 11 ∨ j = 12 ∨ j = 13 ∨ j = 14 ∨ j = 15 ∨ j = 16 ∨ j = 17 ∨ j = 18 ∨ j = 19 by omega) with rfl | rfl | rfl | rfl | rfl | rfl | rfl | rfl | rfl | rfl | rfl | rfl | rfl | rfl | rfl | rfl | rfl | rfl | rfl | rfl <;> rfl) g_40 g_41 dX0_init_38 ?_
  obtain ⟨a_43, ea_43, hf⟩ := nmo_ hf
  refine z_eq (congrArg Value.ref ea_43.symm) ?_
  obtain ⟨σ_42, eσ_42, hf⟩ := nmo_ hf
  refine z_w eσ_42.symm ?_
  refine z_dup C dX0_init_41 rfl ?_
  obtain ⟨⟨⟩, σ_47, e_46, hf⟩ := bd_ hf
  refine z_callv C (rest := [.ref a_43, .ref a]) (av := (.ref a_43 :: [])) (zPay.of q191 q79) (fun H ls hH h2 => zInv_IN C (As := []) (rest := [.ref a_43, .ref a]) q189 q190 q191 rfl mh_eX2 np_eX2_init dX0_init_42) (teX2_init l w e_46) (Nat.le_of_ble_eq_true rfl) (Nat.le_of_ble_eq_true rfl) ?_
  obtain ⟨⟨c0v48, c1v48, c2v48, c3v48, c4v48, c5v48, c6v48, c7v48⟩, e_49, hf⟩ := bo_ hf
  try dsimp only at hf
  have hP_50 := oC8_ e_49
  refine z_putP C hP_50 (zPutF C (T := TX0) (N := 8) rfl in_X0 tyX0 tyX0_ok nmX0 3 (by decide) q322 (Or.inl rfl) rfl hnm rfl rfl rfl (Nat.le_of_ble_eq_true rfl) dX0_init_45) ?_
  obtain ⟨σ_51, eσ_51, hf⟩ := nmo_ hf
  refine z_w eσ_51.symm ?_
  have hP_52 : σ_51.2.2.1 a = some (.inr (0, [c0v48, c1v48, c2v48, .ref a_43, c4v48, c5v48, c6v48, c7v48])) := by rw [eσ_51]; exact sP_self
  refine z_aload_n C 0 dX0_init_48 rfl rfl ?_
  obtain ⟨g_53, hf⟩ := gd_ hf
  obtain ⟨g_54, hf⟩ := gd_ hf
  refine z_new C (ci := 4) (Cn := RX4) (T := TX4) (N := 2) rfl in_X4 tyX4 tyX4_ok q293 q294 q81 [.null, .int 0] (fun j hj => by rcases (show j = 0 ∨ j = 1 by omega) with rfl | rfl <;> rfl) g_53 g_54 dX0_init_49 ?_
  obtain ⟨a_56, ea_56, hf⟩ := nmo_ hf
  refine z_eq (congrArg Value.ref ea_56.symm) ?_
  obtain ⟨σ_55, eσ_55, hf⟩ := nmo_ hf
  refine z_w eσ_55.symm ?_
  refine z_dup C dX0_init_52 rfl ?_
  obtain ⟨⟨⟩, σ_60, e_59, hf⟩ := bd_ hf
  refine z_callv C (rest := [.ref a_56, .ref a]) (av := (.ref a_56 :: [])) (zPay.of q297 q81) (fun H ls hH h2 => zInv_IN C (As := []) (rest := [.ref a_56, .ref a]) q295 q296 q297 rfl mh_eX4 np_eX4_init dX0_init_53) (teX4_init l w e_59) (Nat.le_of_ble_eq_true rfl) (Nat.le_of_ble_eq_true rfl) ?_
  obtain ⟨⟨c0v61, c1v61, c2v61, c3v61, c4v61, c5v61, c6v61, c7v61⟩, e_62, hf⟩ := bo_ hf
  try dsimp only at hf
  have hP_63 := oC8_ e_62
  refine z_putP C hP_63 (zPutF C (T := TX0) (N := 8) rfl in_X0 tyX0 tyX0_ok nmX0 5 (by decide) q324 (Or.inl rfl) rfl hnm rfl rfl rfl (Nat.le_of_ble_eq_true rfl) dX0_init_56) ?_
  obtain ⟨σ_64, eσ_64, hf⟩ := nmo_ hf
  refine z_w eσ_64.symm ?_
  have hP_65 : σ_64.2.2.1 a = some (.inr (0, [c0v61, c1v61, c2v61, c3v61, c4v61, .ref a_56, c6v61, c7v61])) := by rw [eσ_64]; exact sP_self
  refine z_aload_n C 0 dX0_init_59 rfl rfl ?_
  refine z_bipush C 6 dX0_init_60 (by decide) ?_
  obtain ⟨g_66, hf⟩ := gd_ hf
  obtain ⟨g_67, hf⟩ := gd_ hf
  refine z_newa C (atype := .int) (ty := .int) 0 rfl q208 rfl (fun _ h => by cases h) rfl (by decide) (by decide) g_66 g_67 dX0_init_62 ?_
  obtain ⟨a_68, ea_68, hf⟩ := nmo_ hf
  refine z_eq (congrArg Value.ref ea_68.symm) ?_
  obtain ⟨σ_69, eσ_69, hf⟩ := nmo_ hf
  refine z_w eσ_69.symm ?_
  obtain ⟨⟨c0v71, c1v71, c2v71, c3v71, c4v71, c5v71, c6v71, c7v71⟩, e_72, hf⟩ := bo_ hf
  try dsimp only at hf
  have hP_73 := oC8_ e_72
  refine z_putP C hP_73 (zPutF C (T := TX0) (N := 8) rfl in_X0 tyX0 tyX0_ok nmX0 6 (by decide) q325 (Or.inl rfl) rfl hnm rfl rfl rfl (Nat.le_of_ble_eq_true rfl) dX0_init_64) ?_
  obtain ⟨σ_74, eσ_74, hf⟩ := nmo_ hf
  refine z_w eσ_74.symm ?_
  have hP_75 : σ_74.2.2.1 a = some (.inr (0, [c0v71, c1v71, c2v71, c3v71, c4v71, c5v71, .ref a_68, c7v71])) := by rw [eσ_74]; exact sP_self
  refine z_aload_n C 0 dX0_init_67 rfl rfl ?_
  refine z_iconst C 4 dX0_init_68 (by decide) ?_
  obtain ⟨g_76, hf⟩ := gd_ hf
  obtain ⟨g_77, hf⟩ := gd_ hf
  refine z_newq C 5 q308 rfl (by decide) (by decide) (by decide) g_76 g_77 dX0_init_69 ?_
  obtain ⟨a_78, ea_78, hf⟩ := nmo_ hf
  refine z_eq (congrArg Value.ref ea_78.symm) ?_
  obtain ⟨σ_79, eσ_79, hf⟩ := nmo_ hf
  refine z_w eσ_79.symm ?_
  obtain ⟨⟨c0v80, c1v80, c2v80, c3v80, c4v80, c5v80, c6v80, c7v80⟩, e_81, hf⟩ := bo_ hf
  try dsimp only at hf
  have hP_82 := oC8_ e_81
  refine z_putP C hP_82 (zPutF C (T := TX0) (N := 8) rfl in_X0 tyX0 tyX0_ok nmX0 7 (by decide) q326 (Or.inl rfl) rfl hnm rfl rfl rfl (Nat.le_of_ble_eq_true rfl) dX0_init_72) ?_
  obtain ⟨σ_83, eσ_83, hf⟩ := nmo_ hf
  refine z_w eσ_83.symm ?_
  have hP_84 : σ_83.2.2.1 a = some (.inr (0, [c0v80, c1v80, c2v80, c3v80, c4v80, c5v80, c6v80, .ref a_78])) := by rw [eσ_83]; exact sP_self
  refine z_iconst C 0 dX0_init_75 (by decide) ?_
  refine z_istore_n C dX0_init_76 rfl (by decide) rfl (lv' := [(1, .int 0), (0, .ref a)]) ?_
  obtain ⟨x1_108, σ_109, e_110, hf⟩ := bd_ hf
  refine z_lv (lv' := [(0, .ref a), (1, .int 0)]) [1, 0] rfl ?_
  refine lfeX0_init_L77 C (Nat.le_of_ble_eq_true rfl) (Nat.le_of_ble_eq_true rfl)  ?_ _ _ _ e_110
  obtain ⟨-, rfl⟩ := fin_ hf
  exact z_vret C dX0_init_101
def feX6_init (w : ZW) (σ : ZS) (a : Nat) : Option (Unit × ZS) := gd (1 ≤ σ.2.2.2.2.1) (gd ((242 : Int32).toNatClampNeg ≤ σ.2.2.2.2.2) (nm (σ.2.2.2.1) (fun (a_3 : Nat) => nm (sN σ (.inl (w.2.1 0, (242 : Int32).toNatClampNeg, .inl (fun _ => 0))) (242 : Int32).toNatClampNeg) (fun (σ_4 : ZS) => bo (oC24 6 (σ_4.2.2.1 a)) (fun oc6 => nm (sP σ_4 a (.inr (6, [.ref a_3, (oc6.2.1), (oc6.2.2.1), (oc6.2.2.2.1), (oc6.2.2.2.2.1), (oc6.2.2.2.2.2.1), (oc6.2.2.2.2.2.2.1), (oc6.2.2.2.2.2.2.2.1), (oc6.2.2.2.2.2.2.2.2.1), (oc6.2.2.2.2.2.2.2.2.2.1), (oc6.2.2.2.2.2.2.2.2.2.2.1), (oc6.2.2.2.2.2.2.2.2.2.2.2.1), (oc6.2.2.2.2.2.2.2.2.2.2.2.2.1), (oc6.2.2.2.2.2.2.2.2.2.2.2.2.2.1), (oc6.2.2.2.2.2.2.2.2.2.2.2.2.2.2.1), (oc6.2.2.2.2.2.2.2.2.2.2.2.2.2.2.2.1), (oc6.2.2.2.2.2.2.2.2.2.2.2.2.2.2.2.2.1), (oc6.2.2.2.2.2.2.2.2.2.2.2.2.2.2.2.2.2.1), (oc6.2.2.2.2.2.2.2.2.2.2.2.2.2.2.2.2.2.2.1), (oc6.2.2.2.2.2.2.2.2.2.2.2.2.2.2.2.2.2.2.2.1), (oc6.2.2.2.2.2.2.2.2.2.2.2.2.2.2.2.2.2.2.2.2.1), (oc6.2.2.2.2.2.2.2.2.2.2.2.2.2.2.2.2.2.2.2.2.2.1), (oc6.2.2.2.2.2.2.2.2.2.2.2.2.2.2.2.2.2.2.2.2.2.2.1), (oc6.2.2.2.2.2.2.2.2.2.2.2.2.2.2.2.2.2.2.2.2.2.2.2)]))) (fun (σ_9 : ZS) => gd (1 ≤ σ_9.2.2.2.2.1) (gd ((242 : Int32).toNatClampNeg ≤ σ_9.2.2.2.2.2) (nm (σ_9.2.2.2.1) (fun (a_13 : Nat) => nm (sN σ_9 (.inl (w.2.1 0, (242 : Int32).toNatClampNeg, .inl (fun _ => 0))) (242 : Int32).toNatClampNeg) (fun (σ_14 : ZS) => bo (oC24 6 (σ_14.2.2.1 a)) (fun oc16 => nm (sP σ_14 a (.inr (6, [(oc16.1), .ref a_13, (oc16.2.2.1), (oc16.2.2.2.1), (oc16.2.2.2.2.1), (oc16.2.2.2.2.2.1), (oc16.2.2.2.2.2.2.1), (oc16.2.2.2.2.2.2.2.1), (oc16.2.2.2.2.2.2.2.2.1), (oc16.2.2.2.2.2.2.2.2.2.1), (oc16.2.2.2.2.2.2.2.2.2.2.1), (oc16.2.2.2.2.2.2.2.2.2.2.2.1), (oc16.2.2.2.2.2.2.2.2.2.2.2.2.1), (oc16.2.2.2.2.2.2.2.2.2.2.2.2.2.1), (oc16.2.2.2.2.2.2.2.2.2.2.2.2.2.2.1), (oc16.2.2.2.2.2.2.2.2.2.2.2.2.2.2.2.1), (oc16.2.2.2.2.2.2.2.2.2.2.2.2.2.2.2.2.1), (oc16.2.2.2.2.2.2.2.2.2.2.2.2.2.2.2.2.2.1), (oc16.2.2.2.2.2.2.2.2.2.2.2.2.2.2.2.2.2.2.1), (oc16.2.2.2.2.2.2.2.2.2.2.2.2.2.2.2.2.2.2.2.1), (oc16.2.2.2.2.2.2.2.2.2.2.2.2.2.2.2.2.2.2.2.2.1), (oc16.2.2.2.2.2.2.2.2.2.2.2.2.2.2.2.2.2.2.2.2.2.1), (oc16.2.2.2.2.2.2.2.2.2.2.2.2.2.2.2.2.2.2.2.2.2.2.1), (oc16.2.2.2.2.2.2.2.2.2.2.2.2.2.2.2.2.2.2.2.2.2.2.2)]))) (fun (σ_19 : ZS) => gd (1 ≤ σ_19.2.2.2.2.1) (gd ((242 : Int32).toNatClampNeg ≤ σ_19.2.2.2.2.2) (nm (σ_19.2.2.2.1) (fun (a_23 : Nat) => nm (sN σ_19 (.inl (w.2.1 0, (242 : Int32).toNatClampNeg, .inl (fun _ => 0))) (242 : Int32).toNatClampNeg) (fun (σ_24 : ZS) => bo (oC24 6 (σ_24.2.2.1 a)) (fun oc26 => nm (sP σ_24 a (.inr (6, [(oc26.1), (oc26.2.1), .ref a_23, (oc26.2.2.2.1), (oc26.2.2.2.2.1), (oc26.2.2.2.2.2.1), (oc26.2.2.2.2.2.2.1), (oc26.2.2.2.2.2.2.2.1), (oc26.2.2.2.2.2.2.2.2.1), (oc26.2.2.2.2.2.2.2.2.2.1), (oc26.2.2.2.2.2.2.2.2.2.2.1), (oc26.2.2.2.2.2.2.2.2.2.2.2.1), (oc26.2.2.2.2.2.2.2.2.2.2.2.2.1), (oc26.2.2.2.2.2.2.2.2.2.2.2.2.2.1), (oc26.2.2.2.2.2.2.2.2.2.2.2.2.2.2.1), (oc26.2.2.2.2.2.2.2.2.2.2.2.2.2.2.2.1), (oc26.2.2.2.2.2.2.2.2.2.2.2.2.2.2.2.2.1), (oc26.2.2.2.2.2.2.2.2.2.2.2.2.2.2.2.2.2.1), (oc26.2.2.2.2.2.2.2.2.2.2.2.2.2.2.2.2.2.2.1), (oc26.2.2.2.2.2.2.2.2.2.2.2.2.2.2.2.2.2.2.2.1), (oc26.2.2.2.2.2.2.2.2.2.2.2.2.2.2.2.2.2.2.2.2.1), (oc26.2.2.2.2.2.2.2.2.2.2.2.2.2.2.2.2.2.2.2.2.2.1), (oc26.2.2.2.2.2.2.2.2.2.2.2.2.2.2.2.2.2.2.2.2.2.2.1), (oc26.2.2.2.2.2.2.2.2.2.2.2.2.2.2.2.2.2.2.2.2.2.2.2)]))) (fun (σ_29 : ZS) => gd (1 ≤ σ_29.2.2.2.2.1) (gd ((6 : Int32).toNatClampNeg ≤ σ_29.2.2.2.2.2) (nm (σ_29.2.2.2.1) (fun (a_33 : Nat) => nm (sN σ_29 (.inl (w.2.1 0, (6 : Int32).toNatClampNeg, .inl (fun _ => 0))) (6 : Int32).toNatClampNeg) (fun (σ_34 : ZS) => bo (oC24 6 (σ_34.2.2.1 a)) (fun oc36 => nm (sP σ_34 a (.inr (6, [(oc36.1), (oc36.2.1), (oc36.2.2.1), (oc36.2.2.2.1), .ref a_33, (oc36.2.2.2.2.2.1), (oc36.2.2.2.2.2.2.1), (oc36.2.2.2.2.2.2.2.1), (oc36.2.2.2.2.2.2.2.2.1), (oc36.2.2.2.2.2.2.2.2.2.1), (oc36.2.2.2.2.2.2.2.2.2.2.1), (oc36.2.2.2.2.2.2.2.2.2.2.2.1), (oc36.2.2.2.2.2.2.2.2.2.2.2.2.1), (oc36.2.2.2.2.2.2.2.2.2.2.2.2.2.1), (oc36.2.2.2.2.2.2.2.2.2.2.2.2.2.2.1), (oc36.2.2.2.2.2.2.2.2.2.2.2.2.2.2.2.1), (oc36.2.2.2.2.2.2.2.2.2.2.2.2.2.2.2.2.1), (oc36.2.2.2.2.2.2.2.2.2.2.2.2.2.2.2.2.2.1), (oc36.2.2.2.2.2.2.2.2.2.2.2.2.2.2.2.2.2.2.1), (oc36.2.2.2.2.2.2.2.2.2.2.2.2.2.2.2.2.2.2.2.1), (oc36.2.2.2.2.2.2.2.2.2.2.2.2.2.2.2.2.2.2.2.2.1), (oc36.2.2.2.2.2.2.2.2.2.2.2.2.2.2.2.2.2.2.2.2.2.1), (oc36.2.2.2.2.2.2.2.2.2.2.2.2.2.2.2.2.2.2.2.2.2.2.1), (oc36.2.2.2.2.2.2.2.2.2.2.2.2.2.2.2.2.2.2.2.2.2.2.2)]))) (fun (σ_39 : ZS) => gd (1 ≤ σ_39.2.2.2.2.1) (gd ((8000 : Int32).toNatClampNeg ≤ σ_39.2.2.2.2.2) (nm (σ_39.2.2.2.1) (fun (a_43 : Nat) => nm (sN σ_39 (.inl (w.2.1 0, (8000 : Int32).toNatClampNeg, .inl (fun _ => 0))) (8000 : Int32).toNatClampNeg) (fun (σ_44 : ZS) => bo (oC24 6 (σ_44.2.2.1 a)) (fun oc46 => nm (sP σ_44 a (.inr (6, [(oc46.1), (oc46.2.1), (oc46.2.2.1), (oc46.2.2.2.1), (oc46.2.2.2.2.1), .ref a_43, (oc46.2.2.2.2.2.2.1), (oc46.2.2.2.2.2.2.2.1), (oc46.2.2.2.2.2.2.2.2.1), (oc46.2.2.2.2.2.2.2.2.2.1), (oc46.2.2.2.2.2.2.2.2.2.2.1), (oc46.2.2.2.2.2.2.2.2.2.2.2.1), (oc46.2.2.2.2.2.2.2.2.2.2.2.2.1), (oc46.2.2.2.2.2.2.2.2.2.2.2.2.2.1), (oc46.2.2.2.2.2.2.2.2.2.2.2.2.2.2.1), (oc46.2.2.2.2.2.2.2.2.2.2.2.2.2.2.2.1), (oc46.2.2.2.2.2.2.2.2.2.2.2.2.2.2.2.2.1), (oc46.2.2.2.2.2.2.2.2.2.2.2.2.2.2.2.2.2.1), (oc46.2.2.2.2.2.2.2.2.2.2.2.2.2.2.2.2.2.2.1), (oc46.2.2.2.2.2.2.2.2.2.2.2.2.2.2.2.2.2.2.2.1), (oc46.2.2.2.2.2.2.2.2.2.2.2.2.2.2.2.2.2.2.2.2.1), (oc46.2.2.2.2.2.2.2.2.2.2.2.2.2.2.2.2.2.2.2.2.2.1), (oc46.2.2.2.2.2.2.2.2.2.2.2.2.2.2.2.2.2.2.2.2.2.2.1), (oc46.2.2.2.2.2.2.2.2.2.2.2.2.2.2.2.2.2.2.2.2.2.2.2)]))) (fun (σ_49 : ZS) => gd (1 ≤ σ_49.2.2.2.2.1) (gd ((2 : Int32).toNatClampNeg ≤ σ_49.2.2.2.2.2) (nm (σ_49.2.2.2.1) (fun (a_53 : Nat) => nm (sN σ_49 (.inl (w.2.1 6, (2 : Int32).toNatClampNeg, .inr (.inr (.inr (.inr (fun _ => none)))))) (2 : Int32).toNatClampNeg) (fun (σ_54 : ZS) => bo (oRowG w 6 (σ_54.2.2.1 a_53)) (fun rw55 => gd (¬ ((0 : Int32) < 0 ∨ (rw55.1) ≤ (0 : Int32).toNatClampNeg)) (nm (sP σ_54 a_53 (.inl (w.2.1 6, (rw55.1), .inr (.inr (.inr (.inr (va_up (rw55.2) ((0 : Int32).toNatClampNeg) (some (zsK w 9))))))))) (fun (σ_60 : ZS) => bo (oRowG w 6 (σ_60.2.2.1 a_53)) (fun rw61 => gd (¬ ((1 : Int32) < 0 ∨ (rw61.1) ≤ (1 : Int32).toNatClampNeg)) (nm (sP σ_60 a_53 (.inl (w.2.1 6, (rw61.1), .inr (.inr (.inr (.inr (va_up (rw61.2) ((1 : Int32).toNatClampNeg) (some (zsK w 10))))))))) (fun (σ_66 : ZS) => bo (oC24 6 (σ_66.2.2.1 a)) (fun oc67 => nm (sP σ_66 a (.inr (6, [(oc67.1), (oc67.2.1), (oc67.2.2.1), (oc67.2.2.2.1), (oc67.2.2.2.2.1), (oc67.2.2.2.2.2.1), .ref a_53, (oc67.2.2.2.2.2.2.2.1), (oc67.2.2.2.2.2.2.2.2.1), (oc67.2.2.2.2.2.2.2.2.2.1), (oc67.2.2.2.2.2.2.2.2.2.2.1), (oc67.2.2.2.2.2.2.2.2.2.2.2.1), (oc67.2.2.2.2.2.2.2.2.2.2.2.2.1), (oc67.2.2.2.2.2.2.2.2.2.2.2.2.2.1), (oc67.2.2.2.2.2.2.2.2.2.2.2.2.2.2.1), (oc67.2.2.2.2.2.2.2.2.2.2.2.2.2.2.2.1), (oc67.2.2.2.2.2.2.2.2.2.2.2.2.2.2.2.2.1), (oc67.2.2.2.2.2.2.2.2.2.2.2.2.2.2.2.2.2.1), (oc67.2.2.2.2.2.2.2.2.2.2.2.2.2.2.2.2.2.2.1), (oc67.2.2.2.2.2.2.2.2.2.2.2.2.2.2.2.2.2.2.2.1), (oc67.2.2.2.2.2.2.2.2.2.2.2.2.2.2.2.2.2.2.2.2.1), (oc67.2.2.2.2.2.2.2.2.2.2.2.2.2.2.2.2.2.2.2.2.2.1), (oc67.2.2.2.2.2.2.2.2.2.2.2.2.2.2.2.2.2.2.2.2.2.2.1), (oc67.2.2.2.2.2.2.2.2.2.2.2.2.2.2.2.2.2.2.2.2.2.2.2)]))) (fun (σ_70 : ZS) => gd (1 ≤ σ_70.2.2.2.2.1) (gd ((60 : Int32).toNatClampNeg ≤ σ_70.2.2.2.2.2) (nm (σ_70.2.2.2.1) (fun (a_74 : Nat) => nm (sN σ_70 (.inl (w.2.1 0, (60 : Int32).toNatClampNeg, .inl (fun _ => 0))) (60 : Int32).toNatClampNeg) (fun (σ_75 : ZS) => bo (oC24 6 (σ_75.2.2.1 a)) (fun oc77 => nm (sP σ_75 a (.inr (6, [(oc77.1), (oc77.2.1), (oc77.2.2.1), (oc77.2.2.2.1), (oc77.2.2.2.2.1), (oc77.2.2.2.2.2.1), (oc77.2.2.2.2.2.2.1), (oc77.2.2.2.2.2.2.2.1), (oc77.2.2.2.2.2.2.2.2.1), (oc77.2.2.2.2.2.2.2.2.2.1), (oc77.2.2.2.2.2.2.2.2.2.2.1), .ref a_74, (oc77.2.2.2.2.2.2.2.2.2.2.2.2.1), (oc77.2.2.2.2.2.2.2.2.2.2.2.2.2.1), (oc77.2.2.2.2.2.2.2.2.2.2.2.2.2.2.1), (oc77.2.2.2.2.2.2.2.2.2.2.2.2.2.2.2.1), (oc77.2.2.2.2.2.2.2.2.2.2.2.2.2.2.2.2.1), (oc77.2.2.2.2.2.2.2.2.2.2.2.2.2.2.2.2.2.1), (oc77.2.2.2.2.2.2.2.2.2.2.2.2.2.2.2.2.2.2.1), (oc77.2.2.2.2.2.2.2.2.2.2.2.2.2.2.2.2.2.2.2.1), (oc77.2.2.2.2.2.2.2.2.2.2.2.2.2.2.2.2.2.2.2.2.1), (oc77.2.2.2.2.2.2.2.2.2.2.2.2.2.2.2.2.2.2.2.2.2.1), (oc77.2.2.2.2.2.2.2.2.2.2.2.2.2.2.2.2.2.2.2.2.2.2.1), (oc77.2.2.2.2.2.2.2.2.2.2.2.2.2.2.2.2.2.2.2.2.2.2.2)]))) (fun (σ_80 : ZS) => gd (1 ≤ σ_80.2.2.2.2.1) (gd ((4 : Int32).toNatClampNeg ≤ σ_80.2.2.2.2.2) (nm (σ_80.2.2.2.1) (fun (a_84 : Nat) => nm (sN σ_80 (.inl (w.2.1 0, (4 : Int32).toNatClampNeg, .inl (fun _ => 0))) (4 : Int32).toNatClampNeg) (fun (σ_85 : ZS) => bo (oC24 6 (σ_85.2.2.1 a)) (fun oc87 => nm (sP σ_85 a (.inr (6, [(oc87.1), (oc87.2.1), (oc87.2.2.1), (oc87.2.2.2.1), (oc87.2.2.2.2.1), (oc87.2.2.2.2.2.1), (oc87.2.2.2.2.2.2.1), (oc87.2.2.2.2.2.2.2.1), (oc87.2.2.2.2.2.2.2.2.1), (oc87.2.2.2.2.2.2.2.2.2.1), (oc87.2.2.2.2.2.2.2.2.2.2.1), (oc87.2.2.2.2.2.2.2.2.2.2.2.1), (oc87.2.2.2.2.2.2.2.2.2.2.2.2.1), .ref a_84, (oc87.2.2.2.2.2.2.2.2.2.2.2.2.2.2.1), (oc87.2.2.2.2.2.2.2.2.2.2.2.2.2.2.2.1), (oc87.2.2.2.2.2.2.2.2.2.2.2.2.2.2.2.2.1), (oc87.2.2.2.2.2.2.2.2.2.2.2.2.2.2.2.2.2.1), (oc87.2.2.2.2.2.2.2.2.2.2.2.2.2.2.2.2.2.2.1), (oc87.2.2.2.2.2.2.2.2.2.2.2.2.2.2.2.2.2.2.2.1), (oc87.2.2.2.2.2.2.2.2.2.2.2.2.2.2.2.2.2.2.2.2.1), (oc87.2.2.2.2.2.2.2.2.2.2.2.2.2.2.2.2.2.2.2.2.2.1), (oc87.2.2.2.2.2.2.2.2.2.2.2.2.2.2.2.2.2.2.2.2.2.2.1), (oc87.2.2.2.2.2.2.2.2.2.2.2.2.2.2.2.2.2.2.2.2.2.2.2)]))) (fun (σ_90 : ZS) => gd (1 ≤ σ_90.2.2.2.2.1) (gd ((60 : Int32).toNatClampNeg ≤ σ_90.2.2.2.2.2) (nm (σ_90.2.2.2.1) (fun (a_94 : Nat) => nm (sN σ_90 (.inl (w.2.1 0, (60 : Int32).toNatClampNeg, .inl (fun _ => 0))) (60 : Int32).toNatClampNeg) (fun (σ_95 : ZS) => bo (oC24 6 (σ_95.2.2.1 a)) (fun oc97 => nm (sP σ_95 a (.inr (6, [(oc97.1), (oc97.2.1), (oc97.2.2.1), (oc97.2.2.2.1), (oc97.2.2.2.2.1), (oc97.2.2.2.2.2.1), (oc97.2.2.2.2.2.2.1), (oc97.2.2.2.2.2.2.2.1), (oc97.2.2.2.2.2.2.2.2.1), (oc97.2.2.2.2.2.2.2.2.2.1), (oc97.2.2.2.2.2.2.2.2.2.2.1), (oc97.2.2.2.2.2.2.2.2.2.2.2.1), (oc97.2.2.2.2.2.2.2.2.2.2.2.2.1), (oc97.2.2.2.2.2.2.2.2.2.2.2.2.2.1), .ref a_94, (oc97.2.2.2.2.2.2.2.2.2.2.2.2.2.2.2.1), (oc97.2.2.2.2.2.2.2.2.2.2.2.2.2.2.2.2.1), (oc97.2.2.2.2.2.2.2.2.2.2.2.2.2.2.2.2.2.1), (oc97.2.2.2.2.2.2.2.2.2.2.2.2.2.2.2.2.2.2.1), (oc97.2.2.2.2.2.2.2.2.2.2.2.2.2.2.2.2.2.2.2.1), (oc97.2.2.2.2.2.2.2.2.2.2.2.2.2.2.2.2.2.2.2.2.1), (oc97.2.2.2.2.2.2.2.2.2.2.2.2.2.2.2.2.2.2.2.2.2.1), (oc97.2.2.2.2.2.2.2.2.2.2.2.2.2.2.2.2.2.2.2.2.2.2.1), (oc97.2.2.2.2.2.2.2.2.2.2.2.2.2.2.2.2.2.2.2.2.2.2.2)]))) (fun (σ_100 : ZS) => gd (1 ≤ σ_100.2.2.2.2.1) (gd ((40 : Int32).toNatClampNeg ≤ σ_100.2.2.2.2.2) (nm (σ_100.2.2.2.1) (fun (a_104 : Nat) => nm (sN σ_100 (.inl (w.2.1 0, (40 : Int32).toNatClampNeg, .inl (fun _ => 0))) (40 : Int32).toNatClampNeg) (fun (σ_105 : ZS) => bo (oC24 6 (σ_105.2.2.1 a)) (fun oc107 => nm (sP σ_105 a (.inr (6, [(oc107.1), (oc107.2.1), (oc107.2.2.1), (oc107.2.2.2.1), (oc107.2.2.2.2.1), (oc107.2.2.2.2.2.1), (oc107.2.2.2.2.2.2.1), (oc107.2.2.2.2.2.2.2.1), (oc107.2.2.2.2.2.2.2.2.1), (oc107.2.2.2.2.2.2.2.2.2.1), (oc107.2.2.2.2.2.2.2.2.2.2.1), (oc107.2.2.2.2.2.2.2.2.2.2.2.1), (oc107.2.2.2.2.2.2.2.2.2.2.2.2.1), (oc107.2.2.2.2.2.2.2.2.2.2.2.2.2.1), (oc107.2.2.2.2.2.2.2.2.2.2.2.2.2.2.1), .ref a_104, (oc107.2.2.2.2.2.2.2.2.2.2.2.2.2.2.2.2.1), (oc107.2.2.2.2.2.2.2.2.2.2.2.2.2.2.2.2.2.1), (oc107.2.2.2.2.2.2.2.2.2.2.2.2.2.2.2.2.2.2.1), (oc107.2.2.2.2.2.2.2.2.2.2.2.2.2.2.2.2.2.2.2.1), (oc107.2.2.2.2.2.2.2.2.2.2.2.2.2.2.2.2.2.2.2.2.1), (oc107.2.2.2.2.2.2.2.2.2.2.2.2.2.2.2.2.2.2.2.2.2.1), (oc107.2.2.2.2.2.2.2.2.2.2.2.2.2.2.2.2.2.2.2.2.2.2.1), (oc107.2.2.2.2.2.2.2.2.2.2.2.2.2.2.2.2.2.2.2.2.2.2.2)]))) (fun (σ_110 : ZS) => gd (1 ≤ σ_110.2.2.2.2.1) (gd ((4 : Int32).toNatClampNeg ≤ σ_110.2.2.2.2.2) (nm (σ_110.2.2.2.1) (fun (a_114 : Nat) => nm (sN σ_110 (.inl (w.2.1 0, (4 : Int32).toNatClampNeg, .inl (fun _ => 0))) (4 : Int32).toNatClampNeg) (fun (σ_115 : ZS) => bo (oC24 6 (σ_115.2.2.1 a)) (fun oc117 => nm (sP σ_115 a (.inr (6, [(oc117.1), (oc117.2.1), (oc117.2.2.1), (oc117.2.2.2.1), (oc117.2.2.2.2.1), (oc117.2.2.2.2.2.1), (oc117.2.2.2.2.2.2.1), (oc117.2.2.2.2.2.2.2.1), (oc117.2.2.2.2.2.2.2.2.1), (oc117.2.2.2.2.2.2.2.2.2.1), (oc117.2.2.2.2.2.2.2.2.2.2.1), (oc117.2.2.2.2.2.2.2.2.2.2.2.1), (oc117.2.2.2.2.2.2.2.2.2.2.2.2.1), (oc117.2.2.2.2.2.2.2.2.2.2.2.2.2.1), (oc117.2.2.2.2.2.2.2.2.2.2.2.2.2.2.1), (oc117.2.2.2.2.2.2.2.2.2.2.2.2.2.2.2.1), (oc117.2.2.2.2.2.2.2.2.2.2.2.2.2.2.2.2.1), (oc117.2.2.2.2.2.2.2.2.2.2.2.2.2.2.2.2.2.1), (oc117.2.2.2.2.2.2.2.2.2.2.2.2.2.2.2.2.2.2.1), (oc117.2.2.2.2.2.2.2.2.2.2.2.2.2.2.2.2.2.2.2.1), .ref a_114, (oc117.2.2.2.2.2.2.2.2.2.2.2.2.2.2.2.2.2.2.2.2.2.1), (oc117.2.2.2.2.2.2.2.2.2.2.2.2.2.2.2.2.2.2.2.2.2.2.1), (oc117.2.2.2.2.2.2.2.2.2.2.2.2.2.2.2.2.2.2.2.2.2.2.2)]))) (fun (σ_120 : ZS) => gd (1 ≤ σ_120.2.2.2.2.1) (gd ((4 : Int32).toNatClampNeg ≤ σ_120.2.2.2.2.2) (nm (σ_120.2.2.2.1) (fun (a_124 : Nat) => nm (sN σ_120 (.inl (w.2.1 0, (4 : Int32).toNatClampNeg, .inl (fun _ => 0))) (4 : Int32).toNatClampNeg) (fun (σ_125 : ZS) => bo (oC24 6 (σ_125.2.2.1 a)) (fun oc127 => nm (sP σ_125 a (.inr (6, [(oc127.1), (oc127.2.1), (oc127.2.2.1), (oc127.2.2.2.1), (oc127.2.2.2.2.1), (oc127.2.2.2.2.2.1), (oc127.2.2.2.2.2.2.1), (oc127.2.2.2.2.2.2.2.1), (oc127.2.2.2.2.2.2.2.2.1), (oc127.2.2.2.2.2.2.2.2.2.1), (oc127.2.2.2.2.2.2.2.2.2.2.1), (oc127.2.2.2.2.2.2.2.2.2.2.2.1), (oc127.2.2.2.2.2.2.2.2.2.2.2.2.1), (oc127.2.2.2.2.2.2.2.2.2.2.2.2.2.1), (oc127.2.2.2.2.2.2.2.2.2.2.2.2.2.2.1), (oc127.2.2.2.2.2.2.2.2.2.2.2.2.2.2.2.1), (oc127.2.2.2.2.2.2.2.2.2.2.2.2.2.2.2.2.1), (oc127.2.2.2.2.2.2.2.2.2.2.2.2.2.2.2.2.2.1), (oc127.2.2.2.2.2.2.2.2.2.2.2.2.2.2.2.2.2.2.1), (oc127.2.2.2.2.2.2.2.2.2.2.2.2.2.2.2.2.2.2.2.1), (oc127.2.2.2.2.2.2.2.2.2.2.2.2.2.2.2.2.2.2.2.2.1), .ref a_124, (oc127.2.2.2.2.2.2.2.2.2.2.2.2.2.2.2.2.2.2.2.2.2.2.1), (oc127.2.2.2.2.2.2.2.2.2.2.2.2.2.2.2.2.2.2.2.2.2.2.2)]))) (fun (σ_130 : ZS) => gd (1 ≤ σ_130.2.2.2.2.1) (gd ((160 : Int32).toNatClampNeg ≤ σ_130.2.2.2.2.2) (nm (σ_130.2.2.2.1) (fun (a_134 : Nat) => nm (sN σ_130 (.inl (w.2.1 0, (160 : Int32).toNatClampNeg, .inl (fun _ => 0))) (160 : Int32).toNatClampNeg) (fun (σ_135 : ZS) => bo (oC24 6 (σ_135.2.2.1 a)) (fun oc137 => nm (sP σ_135 a (.inr (6, [(oc137.1), (oc137.2.1), (oc137.2.2.1), (oc137.2.2.2.1), (oc137.2.2.2.2.1), (oc137.2.2.2.2.2.1), (oc137.2.2.2.2.2.2.1), (oc137.2.2.2.2.2.2.2.1), (oc137.2.2.2.2.2.2.2.2.1), (oc137.2.2.2.2.2.2.2.2.2.1), (oc137.2.2.2.2.2.2.2.2.2.2.1), (oc137.2.2.2.2.2.2.2.2.2.2.2.1), (oc137.2.2.2.2.2.2.2.2.2.2.2.2.1), (oc137.2.2.2.2.2.2.2.2.2.2.2.2.2.1), (oc137.2.2.2.2.2.2.2.2.2.2.2.2.2.2.1), (oc137.2.2.2.2.2.2.2.2.2.2.2.2.2.2.2.1), (oc137.2.2.2.2.2.2.2.2.2.2.2.2.2.2.2.2.1), (oc137.2.2.2.2.2.2.2.2.2.2.2.2.2.2.2.2.2.1), (oc137.2.2.2.2.2.2.2.2.2.2.2.2.2.2.2.2.2.2.1), (oc137.2.2.2.2.2.2.2.2.2.2.2.2.2.2.2.2.2.2.2.1), (oc137.2.2.2.2.2.2.2.2.2.2.2.2.2.2.2.2.2.2.2.2.1), (oc137.2.2.2.2.2.2.2.2.2.2.2.2.2.2.2.2.2.2.2.2.2.1), .ref a_134, (oc137.2.2.2.2.2.2.2.2.2.2.2.2.2.2.2.2.2.2.2.2.2.2.2)]))) (fun (σ_140 : ZS) => gd (1 ≤ σ_140.2.2.2.2.1) (gd ((40 : Int32).toNatClampNeg ≤ σ_140.2.2.2.2.2) (nm (σ_140.2.2.2.1) (fun (a_144 : Nat) => nm (sN σ_140 (.inl (w.2.1 0, (40 : Int32).toNatClampNeg, .inl (fun _ => 0))) (40 : Int32).toNatClampNeg) (fun (σ_145 : ZS) => bo (oC24 6 (σ_145.2.2.1 a)) (fun oc147 => nm (sP σ_145 a (.inr (6, [(oc147.1), (oc147.2.1), (oc147.2.2.1), (oc147.2.2.2.1), (oc147.2.2.2.2.1), (oc147.2.2.2.2.2.1), (oc147.2.2.2.2.2.2.1), (oc147.2.2.2.2.2.2.2.1), (oc147.2.2.2.2.2.2.2.2.1), (oc147.2.2.2.2.2.2.2.2.2.1), (oc147.2.2.2.2.2.2.2.2.2.2.1), (oc147.2.2.2.2.2.2.2.2.2.2.2.1), (oc147.2.2.2.2.2.2.2.2.2.2.2.2.1), (oc147.2.2.2.2.2.2.2.2.2.2.2.2.2.1), (oc147.2.2.2.2.2.2.2.2.2.2.2.2.2.2.1), (oc147.2.2.2.2.2.2.2.2.2.2.2.2.2.2.2.1), (oc147.2.2.2.2.2.2.2.2.2.2.2.2.2.2.2.2.1), (oc147.2.2.2.2.2.2.2.2.2.2.2.2.2.2.2.2.2.1), (oc147.2.2.2.2.2.2.2.2.2.2.2.2.2.2.2.2.2.2.1), (oc147.2.2.2.2.2.2.2.2.2.2.2.2.2.2.2.2.2.2.2.1), (oc147.2.2.2.2.2.2.2.2.2.2.2.2.2.2.2.2.2.2.2.2.1), (oc147.2.2.2.2.2.2.2.2.2.2.2.2.2.2.2.2.2.2.2.2.2.1), (oc147.2.2.2.2.2.2.2.2.2.2.2.2.2.2.2.2.2.2.2.2.2.2.1), .ref a_144]))) (fun (σ_150 : ZS) => bo (oFR 6 0 (σ_150.2.2.1 a)) (fun fr152 => bo (oRow w 0 (σ_150.2.2.1 (fr152.2))) (fun rw157 => gd (¬ ((6 : Int32) < 0 ∨ (rw157.1) ≤ (6 : Int32).toNatClampNeg)) (nm (sP σ_150 (fr152.2) (.inl (w.2.1 0, (rw157.1), .inl (upd (rw157.2) ((6 : Int32).toNatClampNeg) 1)))) (fun (σ_162 : ZS) => bo (oFR 6 0 (σ_162.2.2.1 a)) (fun fr163 => bo (oRow w 0 (σ_162.2.2.1 (fr163.2))) (fun rw168 => gd (¬ ((3 : Int32) < 0 ∨ (rw168.1) ≤ (3 : Int32).toNatClampNeg)) (nm (sP σ_162 (fr163.2) (.inl (w.2.1 0, (rw168.1), .inl (upd (rw168.2) ((3 : Int32).toNatClampNeg) 200)))) (fun (σ_173 : ZS) => some ((), σ_173)))))))))))))))))))))))))))))))))))))))))))))))))))))))))))))))))))))))))))))))))))))))))))))))))))
set_option maxHeartbeats 4000000 in
set_option maxRecDepth 100000 in
theorem teX6_init {p : Program} {l : Launch} {e : Env} {R : Room} {s : State} {m : MethodId} {args : Array Value} {below : List Frame} {meth : Method} {c : Code} {Q : State → Prop} {w : ZW} {A : Nat → Prop} {ret : Option FieldType} {hh : List (Nat × Nat × Nat × Nat)} (C : zCx p s m args meth c w zL0 A 1 cX6_init RX6 ret hh) (hnm : meth.name = "<init>") (hfr : 1 ≤ R.frames) (hlo : 12 ≤ R.locals) {σ σ' : ZS} {a : Nat} (hf : feX6_init w σ a = some ((), σ')) (kk : Z p l e R s m args below meth c Q w zL0 A 1 σ' 145 [(0, .ref a)] []) : Z p l e R s m args below meth c Q w zL0 A 1 σ 0 [(0, .ref a)] [] := by
  unfold feX6_init at hf
  refine z_aload_n C 0 dX6_init_0 rfl rfl ?_
  refine z_objInit C q1384 dX6_init_1 (Nat.le_trans (Nat.le_of_ble_eq_true rfl) hfr) (Nat.le_trans (Nat.le_of_ble_eq_true rfl) hlo) ?_
  refine z_aload_n C 0 dX6_init_4 rfl rfl ?_
  refine z_sipush C 242 dX6_init_5 (by decide) ?_
  obtain ⟨g_1, hf⟩ := gd_ hf
  obtain ⟨g_2, hf⟩ := gd_ hf
  refine z_newa C (atype := .int) (ty := .int) 0 rfl q208 rfl (fun _ h => by cases h) rfl (by decide) (by decide) g_1 g_2 dX6_init_8 ?_
  obtain ⟨a_3, ea_3, hf⟩ := nmo_ hf
  refine z_eq (congrArg Value.ref ea_3.symm) ?_
  obtain ⟨σ_4, eσ_4, hf⟩ := nmo_ hf
  refine z_w eσ_4.symm ?_
  obtain ⟨⟨c0v6, c1v6, c2v6, c3v6, c4v6, c5v6, c6v6, c7v6, c8v6, c9v6, c10v6, c11v6, c12v6, c13v6, c14v6, c15v6, c16v6, c17v6, c18v6, c19v6, c20v6, c21v6, c22v6, c23v6⟩, e_7, hf⟩ := bo_ hf
  try dsimp only at hf
  have hP_8 := oC24_ e_7
  refine z_putP C hP_8 (zPutF C (T := TX6) (N := 24) rfl in_X6 tyX6 tyX6_ok nmX6 0 (by decide) q1404 (Or.inl rfl) rfl hnm rfl rfl rfl (Nat.le_of_ble_eq_true rfl) dX6_init_10) ?_
  obtain ⟨σ_9, eσ_9, hf⟩ := nmo_ hf
  refine z_w eσ_9.symm ?_
  have hP_10 : σ_9.2.2.1 a = some (.inr (6, [.ref a_3, c1v6, c2v6, c3v6, c4v6, c5v6, c6v6, c7v6, c8v6, c9v6, c10v6, c11v6, c12v6, c13v6, c14v6, c15v6, c16v6, c17v6, c18v6, c19v6, c20v6, c21v6, c22v6, c23v6])) := by rw [eσ_9]; exact sP_self
  refine z_aload_n C 0 dX6_init_13 rfl rfl ?_
  refine z_sipush C 242 dX6_init_14 (by decide) ?_
  obtain ⟨g_11, hf⟩ := gd_ hf
  obtain ⟨g_12, hf⟩ := gd_ hf
  refine z_newa C (atype := .int) (ty := .int) 0 rfl q208 rfl (fun _ h => by cases h) rfl (by decide) (by decide) g_11 g_12 dX6_init_17 ?_
  obtain ⟨a_13, ea_13, hf⟩ := nmo_ hf
  refine z_eq (congrArg Value.ref ea_13.symm) ?_
  obtain ⟨σ_14, eσ_14, hf⟩ := nmo_ hf
  refine z_w eσ_14.symm ?_
  obtain ⟨⟨c0v16, c1v16, c2v16, c3v16, c4v16, c5v16, c6v16, c7v16, c8v16, c9v16, c10v16, c11v16, c12v16, c13v16, c14v16, c15v16, c16v16, c17v16, c18v16, c19v16, c20v16, c21v16, c22v16, c23v16⟩, e_17, hf⟩ := bo_ hf
  try dsimp only at hf
  have hP_18 := oC24_ e_17
  refine z_putP C hP_18 (zPutF C (T := TX6) (N := 24) rfl in_X6 tyX6 tyX6_ok nmX6 1 (by decide) q1405 (Or.inl rfl) rfl hnm rfl rfl rfl (Nat.le_of_ble_eq_true rfl) dX6_init_19) ?_
  obtain ⟨σ_19, eσ_19, hf⟩ := nmo_ hf
  refine z_w eσ_19.symm ?_
  have hP_20 : σ_19.2.2.1 a = some (.inr (6, [c0v16, .ref a_13, c2v16, c3v16, c4v16, c5v16, c6v16, c7v16, c8v16, c9v16, c10v16, c11v16, c12v16, c13v16, c14v16, c15v16, c16v16, c17v16, c18v16, c19v16, c20v16, c21v16, c22v16, c23v16])) := by rw [eσ_19]; exact sP_self
  refine z_aload_n C 0 dX6_init_22 rfl rfl ?_
  refine z_sipush C 242 dX6_init_23 (by decide) ?_
  obtain ⟨g_21, hf⟩ := gd_ hf
  obtain ⟨g_22, hf⟩ := gd_ hf
  refine z_newa C (atype := .int) (ty := .int) 0 rfl q208 rfl (fun _ h => by cases h) rfl (by decide) (by decide) g_21 g_22 dX6_init_26 ?_
  obtain ⟨a_23, ea_23, hf⟩ := nmo_ hf
  refine z_eq (congrArg Value.ref ea_23.symm) ?_
  obtain ⟨σ_24, eσ_24, hf⟩ := nmo_ hf
  refine z_w eσ_24.symm ?_
  obtain ⟨⟨c0v26, c1v26, c2v26, c3v26, c4v26, c5v26, c6v26, c7v26, c8v26, c9v26, c10v26, c11v26, c12v26, c13v26, c14v26, c15v26, c16v26, c17v26, c18v26, c19v26, c20v26, c21v26, c22v26, c23v26⟩, e_27, hf⟩ := bo_ hf
  try dsimp only at hf
  have hP_28 := oC24_ e_27
  refine z_putP C hP_28 (zPutF C (T := TX6) (N := 24) rfl in_X6 tyX6 tyX6_ok nmX6 2 (by decide) q1406 (Or.inl rfl) rfl hnm rfl rfl rfl (Nat.le_of_ble_eq_true rfl) dX6_init_28) ?_
  obtain ⟨σ_29, eσ_29, hf⟩ := nmo_ hf
  refine z_w eσ_29.symm ?_
  have hP_30 : σ_29.2.2.1 a = some (.inr (6, [c0v26, c1v26, .ref a_23, c3v26, c4v26, c5v26, c6v26, c7v26, c8v26, c9v26, c10v26, c11v26, c12v26, c13v26, c14v26, c15v26, c16v26, c17v26, c18v26, c19v26, c20v26, c21v26, c22v26, c23v26])) := by rw [eσ_29]; exact sP_self
  refine z_aload_n C 0 dX6_init_31 rfl rfl ?_
  refine z_bipush C 6 dX6_init_32 (by decide) ?_
  obtain ⟨g_31, hf⟩ := gd_ hf
  obtain ⟨g_32, hf⟩ := gd_ hf
  refine z_newa C (atype := .int) (ty := .int) 0 rfl q208 rfl (fun _ h => by cases h) rfl (by decide) (by decide) g_31 g_32 dX6_init_34 ?_
  obtain ⟨a_33, ea_33, hf⟩ := nmo_ hf
  refine z_eq (congrArg Value.ref ea_33.symm) ?_
  obtain ⟨σ_34, eσ_34, hf⟩ := nmo_ hf
  refine z_w eσ_34.symm ?_
  obtain ⟨⟨c0v36, c1v36, c2v36, c3v36, c4v36, c5v36, c6v36, c7v36, c8v36, c9v36, c10v36, c11v36, c12v36, c13v36, c14v36, c15v36, c16v36, c17v36, c18v36, c19v36, c20v36, c21v36, c22v36, c23v36⟩, e_37, hf⟩ := bo_ hf
  try dsimp only at hf
  have hP_38 := oC24_ e_37
  refine z_putP C hP_38 (zPutF C (T := TX6) (N := 24) rfl in_X6 tyX6 tyX6_ok nmX6 4 (by decide) q1408 (Or.inl rfl) rfl hnm rfl rfl rfl (Nat.le_of_ble_eq_true rfl) dX6_init_36) ?_
  obtain ⟨σ_39, eσ_39, hf⟩ := nmo_ hf
  refine z_w eσ_39.symm ?_
  have hP_40 : σ_39.2.2.1 a = some (.inr (6, [c0v36, c1v36, c2v36, c3v36, .ref a_33, c5v36, c6v36, c7v36, c8v36, c9v36, c10v36, c11v36, c12v36, c13v36, c14v36, c15v36, c16v36, c17v36, c18v36, c19v36, c20v36, c21v36, c22v36, c23v36])) := by rw [eσ_39]; exact sP_self
  refine z_aload_n C 0 dX6_init_39 rfl rfl ?_
  refine z_sipush C 8000 dX6_init_40 (by decide) ?_
  obtain ⟨g_41, hf⟩ := gd_ hf
  obtain ⟨g_42, hf⟩ := gd_ hf
  refine z_newa C (atype := .int) (ty := .int) 0 rfl q208 rfl (fun _ h => by cases h) rfl (by decide) (by decide) g_41 g_42 dX6_init_43 ?_
  obtain ⟨a_43, ea_43, hf⟩ := nmo_ hf
  refine z_eq (congrArg Value.ref ea_43.symm) ?_
  obtain ⟨σ_44, eσ_44, hf⟩ := nmo_ hf
  refine z_w eσ_44.symm ?_
  obtain ⟨⟨c0v46, c1v46, c2v46, c3v46, c4v46, c5v46, c6v46, c7v46, c8v46, c9v46, c10v46, c11v46, c12v46, c13v46, c14v46, c15v46, c16v46, c17v46, c18v46, c19v46, c20v46, c21v46, c22v46, c23v46⟩, e_47, hf⟩ := bo_ hf
  try dsimp only at hf
  have hP_48 := oC24_ e_47
  refine z_putP C hP_48 (zPutF C (T := TX6) (N := 24) rfl in_X6 tyX6 tyX6_ok nmX6 5 (by decide) q1409 (Or.inl rfl) rfl hnm rfl rfl rfl (Nat.le_of_ble_eq_true rfl) dX6_init_45) ?_
  obtain ⟨σ_49, eσ_49, hf⟩ := nmo_ hf
  refine z_w eσ_49.symm ?_
  have hP_50 : σ_49.2.2.1 a = some (.inr (6, [c0v46, c1v46, c2v46, c3v46, c4v46, .ref a_43, c6v46, c7v46, c8v46, c9v46, c10v46, c11v46, c12v46, c13v46, c14v46, c15v46, c16v46, c17v46, c18v46, c19v46, c20v46, c21v46, c22v46, c23v46])) := by rw [eσ_49]; exact sP_self
  refine z_aload_n C 0 dX6_init_48 rfl rfl ?_
  refine z_iconst C 2 dX6_init_49 (by decide) ?_
  obtain ⟨g_51, hf⟩ := gd_ hf
  obtain ⟨g_52, hf⟩ := gd_ hf
  refine z_newq C 6 q1385 rfl (by decide) (by decide) (by decide) g_51 g_52 dX6_init_50 ?_
  obtain ⟨a_53, ea_53, hf⟩ := nmo_ hf
  refine z_eq (congrArg Value.ref ea_53.symm) ?_
  obtain ⟨σ_54, eσ_54, hf⟩ := nmo_ hf
  refine z_w eσ_54.symm ?_
  refine z_dup C dX6_init_53 rfl ?_
  refine z_iconst C 0 dX6_init_54 (by decide) ?_
  refine z_ldcS C (i := 9) rfl dX6_init_55 ?_
  obtain ⟨⟨n_55, f_56⟩, e_57, hf⟩ := bo_ hf
  try dsimp only at hf
  have hP_58 := oRowG_ e_57
  obtain ⟨g_59, hf⟩ := gd_ hf
  refine z_aastoreK C (show zsB[9]? = some [99, 121, 98] from rfl) hP_58 g_59 dX6_init_57 ?_
  obtain ⟨σ_60, eσ_60, hf⟩ := nmo_ hf
  refine z_w eσ_60.symm ?_
  refine z_dup C dX6_init_58 rfl ?_
  refine z_iconst C 1 dX6_init_59 (by decide) ?_
  refine z_ldcS C (i := 10) rfl dX6_init_60 ?_
  obtain ⟨⟨n_61, f_62⟩, e_63, hf⟩ := bo_ hf
  try dsimp only at hf
  have hP_64 := oRowG_ e_63
  obtain ⟨g_65, hf⟩ := gd_ hf
  refine z_aastoreK C (show zsB[10]? = some [100, 109, 104] from rfl) hP_64 g_65 dX6_init_62 ?_
  obtain ⟨σ_66, eσ_66, hf⟩ := nmo_ hf
  refine z_w eσ_66.symm ?_
  obtain ⟨⟨c0v67, c1v67, c2v67, c3v67, c4v67, c5v67, c6v67, c7v67, c8v67, c9v67, c10v67, c11v67, c12v67, c13v67, c14v67, c15v67, c16v67, c17v67, c18v67, c19v67, c20v67, c21v67, c22v67, c23v67⟩, e_68, hf⟩ := bo_ hf
  try dsimp only at hf
  have hP_69 := oC24_ e_68
  refine z_putP C hP_69 (zPutF C (T := TX6) (N := 24) rfl in_X6 tyX6 tyX6_ok nmX6 6 (by decide) q1410 (Or.inl rfl) rfl hnm rfl rfl rfl (Nat.le_of_ble_eq_true rfl) dX6_init_63) ?_
  obtain ⟨σ_70, eσ_70, hf⟩ := nmo_ hf
  refine z_w eσ_70.symm ?_
  have hP_71 : σ_70.2.2.1 a = some (.inr (6, [c0v67, c1v67, c2v67, c3v67, c4v67, c5v67, .ref a_53, c7v67, c8v67, c9v67, c10v67, c11v67, c12v67, c13v67, c14v67, c15v67, c16v67, c17v67, c18v67, c19v67, c20v67, c21v67, c22v67, c23v67])) := by rw [eσ_70]; exact sP_self
  refine z_aload_n C 0 dX6_init_66 rfl rfl ?_
  refine z_bipush C 60 dX6_init_67 (by decide) ?_
  obtain ⟨g_72, hf⟩ := gd_ hf
  obtain ⟨g_73, hf⟩ := gd_ hf
  refine z_newa C (atype := .int) (ty := .int) 0 rfl q208 rfl (fun _ h => by cases h) rfl (by decide) (by decide) g_72 g_73 dX6_init_69 ?_
  obtain ⟨a_74, ea_74, hf⟩ := nmo_ hf
  refine z_eq (congrArg Value.ref ea_74.symm) ?_
  obtain ⟨σ_75, eσ_75, hf⟩ := nmo_ hf
  refine z_w eσ_75.symm ?_
  obtain ⟨⟨c0v77, c1v77, c2v77, c3v77, c4v77, c5v77, c6v77, c7v77, c8v77, c9v77, c10v77, c11v77, c12v77, c13v77, c14v77, c15v77, c16v77, c17v77, c18v77, c19v77, c20v77, c21v77, c22v77, c23v77⟩, e_78, hf⟩ := bo_ hf
  try dsimp only at hf
  have hP_79 := oC24_ e_78
  refine z_putP C hP_79 (zPutF C (T := TX6) (N := 24) rfl in_X6 tyX6 tyX6_ok nmX6 11 (by decide) q1415 (Or.inl rfl) rfl hnm rfl rfl rfl (Nat.le_of_ble_eq_true rfl) dX6_init_71) ?_
  obtain ⟨σ_80, eσ_80, hf⟩ := nmo_ hf
  refine z_w eσ_80.symm ?_
  have hP_81 : σ_80.2.2.1 a = some (.inr (6, [c0v77, c1v77, c2v77, c3v77, c4v77, c5v77, c6v77, c7v77, c8v77, c9v77, c10v77, .ref a_74, c12v77, c13v77, c14v77, c15v77, c16v77, c17v77, c18v77, c19v77, c20v77, c21v77, c22v77, c23v77])) := by rw [eσ_80]; exact sP_self
  refine z_aload_n C 0 dX6_init_74 rfl rfl ?_
  refine z_iconst C 4 dX6_init_75 (by decide) ?_
  obtain ⟨g_82, hf⟩ := gd_ hf
  obtain ⟨g_83, hf⟩ := gd_ hf
  refine z_newa C (atype := .int) (ty := .int) 0 rfl q208 rfl (fun _ h => by cases h) rfl (by decide) (by decide) g_82 g_83 dX6_init_76 ?_
  obtain ⟨a_84, ea_84, hf⟩ := nmo_ hf
  refine z_eq (congrArg Value.ref ea_84.symm) ?_
  obtain ⟨σ_85, eσ_85, hf⟩ := nmo_ hf
  refine z_w eσ_85.symm ?_
  obtain ⟨⟨c0v87, c1v87, c2v87, c3v87, c4v87, c5v87, c6v87, c7v87, c8v87, c9v87, c10v87, c11v87, c12v87, c13v87, c14v87, c15v87, c16v87, c17v87, c18v87, c19v87, c20v87, c21v87, c22v87, c23v87⟩, e_88, hf⟩ := bo_ hf
  try dsimp only at hf
  have hP_89 := oC24_ e_88
  refine z_putP C hP_89 (zPutF C (T := TX6) (N := 24) rfl in_X6 tyX6 tyX6_ok nmX6 13 (by decide) q1417 (Or.inl rfl) rfl hnm rfl rfl rfl (Nat.le_of_ble_eq_true rfl) dX6_init_78) ?_
  obtain ⟨σ_90, eσ_90, hf⟩ := nmo_ hf
  refine z_w eσ_90.symm ?_
  have hP_91 : σ_90.2.2.1 a = some (.inr (6, [c0v87, c1v87, c2v87, c3v87, c4v87, c5v87, c6v87, c7v87, c8v87, c9v87, c10v87, c11v87, c12v87, .ref a_84, c14v87, c15v87, c16v87, c17v87, c18v87, c19v87, c20v87, c21v87, c22v87, c23v87])) := by rw [eσ_90]; exact sP_self
  refine z_aload_n C 0 dX6_init_81 rfl rfl ?_
  refine z_bipush C 60 dX6_init_82 (by decide) ?_
  obtain ⟨g_92, hf⟩ := gd_ hf
  obtain ⟨g_93, hf⟩ := gd_ hf
  refine z_newa C (atype := .int) (ty := .int) 0 rfl q208 rfl (fun _ h => by cases h) rfl (by decide) (by decide) g_92 g_93 dX6_init_84 ?_
  obtain ⟨a_94, ea_94, hf⟩ := nmo_ hf
  refine z_eq (congrArg Value.ref ea_94.symm) ?_
  obtain ⟨σ_95, eσ_95, hf⟩ := nmo_ hf
  refine z_w eσ_95.symm ?_
  obtain ⟨⟨c0v97, c1v97, c2v97, c3v97, c4v97, c5v97, c6v97, c7v97, c8v97, c9v97, c10v97, c11v97, c12v97, c13v97, c14v97, c15v97, c16v97, c17v97, c18v97, c19v97, c20v97, c21v97, c22v97, c23v97⟩, e_98, hf⟩ := bo_ hf
  try dsimp only at hf
  have hP_99 := oC24_ e_98
  refine z_putP C hP_99 (zPutF C (T := TX6) (N := 24) rfl in_X6 tyX6 tyX6_ok nmX6 14 (by decide) q1418 (Or.inl rfl) rfl hnm rfl rfl rfl (Nat.le_of_ble_eq_true rfl) dX6_init_86) ?_
  obtain ⟨σ_100, eσ_100, hf⟩ := nmo_ hf
  refine z_w eσ_100.symm ?_
  have hP_101 : σ_100.2.2.1 a = some (.inr (6, [c0v97, c1v97, c2v97, c3v97, c4v97, c5v97, c6v97, c7v97, c8v97, c9v97, c10v97, c11v97, c12v97, c13v97, .ref a_94, c15v97, c16v97, c17v97, c18v97, c19v97, c20v97, c21v97, c22v97, c23v97])) := by rw [eσ_100]; exact sP_self
  refine z_aload_n C 0 dX6_init_89 rfl rfl ?_
  refine z_bipush C 40 dX6_init_90 (by decide) ?_
  obtain ⟨g_102, hf⟩ := gd_ hf
  obtain ⟨g_103, hf⟩ := gd_ hf
  refine z_newa C (atype := .int) (ty := .int) 0 rfl q208 rfl (fun _ h => by cases h) rfl (by decide) (by decide) g_102 g_103 dX6_init_92 ?_
  obtain ⟨a_104, ea_104, hf⟩ := nmo_ hf
  refine z_eq (congrArg Value.ref ea_104.symm) ?_
  obtain ⟨σ_105, eσ_105, hf⟩ := nmo_ hf
  refine z_w eσ_105.symm ?_
  obtain ⟨⟨c0v107, c1v107, c2v107, c3v107, c4v107, c5v107, c6v107, c7v107, c8v107, c9v107, c10v107, c11v107, c12v107, c13v107, c14v107, c15v107, c16v107, c17v107, c18v107, c19v107, c20v107, c21v107, c22v107, c23v107⟩, e_108, hf⟩ := bo_ hf
  try dsimp only at hf
  have hP_109 := oC24_ e_108
  refine z_putP C hP_109 (zPutF C (T := TX6) (N := 24) rfl in_X6 tyX6 tyX6_ok nmX6 15 (by decide) q1419 (Or.inl rfl) rfl hnm rfl rfl rfl (Nat.le_of_ble_eq_true rfl) dX6_init_94) ?_
  obtain ⟨σ_110, eσ_110, hf⟩ := nmo_ hf
  refine z_w eσ_110.symm ?_
  have hP_111 : σ_110.2.2.1 a = some (.inr (6, [c0v107, c1v107, c2v107, c3v107, c4v107, c5v107, c6v107, c7v107, c8v107, c9v107, c10v107, c11v107, c12v107, c13v107, c14v107, .ref a_104, c16v107, c17v107, c18v107, c19v107, c20v107, c21v107, c22v107, c23v107])) := by rw [eσ_110]; exact sP_self
  refine z_aload_n C 0 dX6_init_97 rfl rfl ?_
  refine z_iconst C 4 dX6_init_98 (by decide) ?_
  obtain ⟨g_112, hf⟩ := gd_ hf
  obtain ⟨g_113, hf⟩ := gd_ hf
  refine z_newa C (atype := .int) (ty := .int) 0 rfl q208 rfl (fun _ h => by cases h) rfl (by decide) (by decide) g_112 g_113 dX6_init_99 ?_
  obtain ⟨a_114, ea_114, hf⟩ := nmo_ hf
  refine z_eq (congrArg Value.ref ea_114.symm) ?_
  obtain ⟨σ_115, eσ_115, hf⟩ := nmo_ hf
  refine z_w eσ_115.symm ?_
  obtain ⟨⟨c0v117, c1v117, c2v117, c3v117, c4v117, c5v117, c6v117, c7v117, c8v117, c9v117, c10v117, c11v117, c12v117, c13v117, c14v117, c15v117, c16v117, c17v117, c18v117, c19v117, c20v117, c21v117, c22v117, c23v117⟩, e_118, hf⟩ := bo_ hf
  try dsimp only at hf
  have hP_119 := oC24_ e_118
  refine z_putP C hP_119 (zPutF C (T := TX6) (N := 24) rfl in_X6 tyX6 tyX6_ok nmX6 20 (by decide) q1424 (Or.inl rfl) rfl hnm rfl rfl rfl (Nat.le_of_ble_eq_true rfl) dX6_init_101) ?_
  obtain ⟨σ_120, eσ_120, hf⟩ := nmo_ hf
  refine z_w eσ_120.symm ?_
  have hP_121 : σ_120.2.2.1 a = some (.inr (6, [c0v117, c1v117, c2v117, c3v117, c4v117, c5v117, c6v117, c7v117, c8v117, c9v117, c10v117, c11v117, c12v117, c13v117, c14v117, c15v117, c16v117, c17v117, c18v117, c19v117, .ref a_114, c21v117, c22v117, c23v117])) := by rw [eσ_120]; exact sP_self
  refine z_aload_n C 0 dX6_init_104 rfl rfl ?_
  refine z_iconst C 4 dX6_init_105 (by decide) ?_
  obtain ⟨g_122, hf⟩ := gd_ hf
  obtain ⟨g_123, hf⟩ := gd_ hf
  refine z_newa C (atype := .int) (ty := .int) 0 rfl q208 rfl (fun _ h => by cases h) rfl (by decide) (by decide) g_122 g_123 dX6_init_106 ?_
  obtain ⟨a_124, ea_124, hf⟩ := nmo_ hf
  refine z_eq (congrArg Value.ref ea_124.symm) ?_
  obtain ⟨σ_125, eσ_125, hf⟩ := nmo_ hf
  refine z_w eσ_125.symm ?_
  obtain ⟨⟨c0v127, c1v127, c2v127, c3v127, c4v127, c5v127, c6v127, c7v127, c8v127, c9v127, c10v127, c11v127, c12v127, c13v127, c14v127, c15v127, c16v127, c17v127, c18v127, c19v127, c20v127, c21v127, c22v127, c23v127⟩, e_128, hf⟩ := bo_ hf
  try dsimp only at hf
  have hP_129 := oC24_ e_128
  refine z_putP C hP_129 (zPutF C (T := TX6) (N := 24) rfl in_X6 tyX6 tyX6_ok nmX6 21 (by decide) q1425 (Or.inl rfl) rfl hnm rfl rfl rfl (Nat.le_of_ble_eq_true rfl) dX6_init_108) ?_
  obtain ⟨σ_130, eσ_130, hf⟩ := nmo_ hf
  refine z_w eσ_130.symm ?_
  have hP_131 : σ_130.2.2.1 a = some (.inr (6, [c0v127, c1v127, c2v127, c3v127, c4v127, c5v127, c6v127, c7v127, c8v127, c9v127, c10v127, c11v127, c12v127, c13v127, c14v127, c15v127, c16v127, c17v127, c18v127, c19v127, c20v127, .ref a_124, c22v127, c23v127])) := by rw [eσ_130]; exact sP_self
  refine z_aload_n C 0 dX6_init_111 rfl rfl ?_
  refine z_sipush C 160 dX6_init_112 (by decide) ?_
  obtain ⟨g_132, hf⟩ := gd_ hf
  obtain ⟨g_133, hf⟩ := gd_ hf
  refine z_newa C (atype := .int) (ty := .int) 0 rfl q208 rfl (fun _ h => by cases h) rfl (by decide) (by decide) g_132 g_133 dX6_init_115 ?_
  obtain ⟨a_134, ea_134, hf⟩ := nmo_ hf
  refine z_eq (congrArg Value.ref ea_134.symm) ?_
  obtain ⟨σ_135, eσ_135, hf⟩ := nmo_ hf
  refine z_w eσ_135.symm ?_
  obtain ⟨⟨c0v137, c1v137, c2v137, c3v137, c4v137, c5v137, c6v137, c7v137, c8v137, c9v137, c10v137, c11v137, c12v137, c13v137, c14v137, c15v137, c16v137, c17v137, c18v137, c19v137, c20v137, c21v137, c22v137, c23v137⟩, e_138, hf⟩ := bo_ hf
  try dsimp only at hf
  have hP_139 := oC24_ e_138
  refine z_putP C hP_139 (zPutF C (T := TX6) (N := 24) rfl in_X6 tyX6 tyX6_ok nmX6 22 (by decide) q1426 (Or.inl rfl) rfl hnm rfl rfl rfl (Nat.le_of_ble_eq_true rfl) dX6_init_117) ?_
  obtain ⟨σ_140, eσ_140, hf⟩ := nmo_ hf
  refine z_w eσ_140.symm ?_
  have hP_141 : σ_140.2.2.1 a = some (.inr (6, [c0v137, c1v137, c2v137, c3v137, c4v137, c5v137, c6v137, c7v137, c8v137, c9v137, c10v137, c11v137, c12v137, c13v137, c14v137, c15v137, c16v137, c17v137, c18v137, c19v137, c20v137, c21v137, .ref a_134, c23v137])) := by rw [eσ_140]; exact sP_self
  refine z_aload_n C 0 dX6_init_120 rfl rfl ?_
  refine z_bipush C 40 dX6_init_121 (by decide) ?_
  obtain ⟨g_142, hf⟩ := gd_ hf
  obtain ⟨g_143, hf⟩ := gd_ hf
  refine z_newa C (atype := .int) (ty := .int) 0 rfl q208 rfl (fun _ h => by cases h) rfl (by decide) (by decide) g_142 g_143 dX6_init_123 ?_
  obtain ⟨a_144, ea_144, hf⟩ := nmo_ hf
  refine z_eq (congrArg Value.ref ea_144.symm) ?_
  obtain ⟨σ_145, eσ_145, hf⟩ := nmo_ hf
  refine z_w eσ_145.symm ?_
  obtain ⟨⟨c0v147, c1v147, c2v147, c3v147, c4v147, c5v147, c6v147, c7v147, c8v147, c9v147, c10v147, c11v147, c12v147, c13v147, c14v147, c15v147, c16v147, c17v147, c18v147, c19v147, c20v147, c21v147, c22v147, c23v147⟩, e_148, hf⟩ := bo_ hf
  try dsimp only at hf
  have hP_149 := oC24_ e_148
  refine z_putP C hP_149 (zPutF C (T := TX6) (N := 24) rfl in_X6 tyX6 tyX6_ok nmX6 23 (by decide) q1427 (Or.inl rfl) rfl hnm rfl rfl rfl (Nat.le_of_ble_eq_true rfl) dX6_init_125) ?_
  obtain ⟨σ_150, eσ_150, hf⟩ := nmo_ hf
  refine z_w eσ_150.symm ?_
  have hP_151 : σ_150.2.2.1 a = some (.inr (6, [c0v147, c1v147, c2v147, c3v147, c4v147, c5v147, c6v147, c7v147, c8v147, c9v147, c10v147, c11v147, c12v147, c13v147, c14v147, c15v147, c16v147, c17v147, c18v147, c19v147, c20v147, c21v147, c22v147, .ref a_144])) := by rw [eσ_150]; exact sP_self
  refine z_aload_n C 0 dX6_init_128 rfl rfl ?_
  obtain ⟨⟨vs_152, r_153⟩, e_154, hf⟩ := bo_ hf
  try dsimp only at hf
  obtain ⟨hP_155, hv_156⟩ := oFR_ e_154
  refine z_get C (ci := 6) (Cn := RX6) (T := TX6) (N := 24) (fs := vs_152) (v := .ref r_153) rfl in_X6 (zSee.pool hP_155) 0 (by decide) q1404 (Or.inl rfl) hv_156 dX6_init_129 ?_
  refine z_bipush C 6 dX6_init_132 (by decide) ?_
  refine z_iconst C 1 dX6_init_134 (by decide) ?_
  obtain ⟨⟨n_157, f_158⟩, e_159, hf⟩ := bo_ hf
  try dsimp only at hf
  have hP_160 := oRow_ e_159
  obtain ⟨g_161, hf⟩ := gd_ hf
  refine z_iastoreP C hP_160 g_161 dX6_init_135 ?_
  obtain ⟨σ_162, eσ_162, hf⟩ := nmo_ hf
  refine z_w eσ_162.symm ?_
  refine z_aload_n C 0 dX6_init_136 rfl rfl ?_
  obtain ⟨⟨vs_163, r_164⟩, e_165, hf⟩ := bo_ hf
  try dsimp only at hf
  obtain ⟨hP_166, hv_167⟩ := oFR_ e_165
  refine z_get C (ci := 6) (Cn := RX6) (T := TX6) (N := 24) (fs := vs_163) (v := .ref r_164) rfl in_X6 (zSee.pool hP_166) 0 (by decide) q1404 (Or.inl rfl) hv_167 dX6_init_137 ?_
  refine z_iconst C 3 dX6_init_140 (by decide) ?_
  refine z_sipush C 200 dX6_init_141 (by decide) ?_
  obtain ⟨⟨n_168, f_169⟩, e_170, hf⟩ := bo_ hf
  try dsimp only at hf
  have hP_171 := oRow_ e_170
  obtain ⟨g_172, hf⟩ := gd_ hf
  refine z_iastoreP C hP_171 g_172 dX6_init_144 ?_
  obtain ⟨σ_173, eσ_173, hf⟩ := nmo_ hf
  refine z_w eσ_173.symm ?_
  obtain ⟨-, rfl⟩ := fin_ hf
  exact kk
