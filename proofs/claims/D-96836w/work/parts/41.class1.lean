/-! the class, walked (written by gen/main_x.py) -/
def fX23_put (w : ZW) (σ : ZS) (ro : Nat) (p1 : Int32) (p2 : Int32) : Option (Unit × ZS) := nm (p2.toInt16.toInt32) (fun (v_1 : Int32) => bo (oRow w 2 (σ.2.2.1 ro)) (fun rw2 => gd (¬ (p1 < 0 ∨ (rw2.1) ≤ p1.toNatClampNeg)) (nm (sP σ ro (.inl (w.2.1 2, (rw2.1), .inl (upd (rw2.2) (p1.toNatClampNeg) (vp_nar .short v_1))))) (fun (σ_7 : ZS) => some ((), σ_7)))))
set_option maxHeartbeats 4000000 in
set_option maxRecDepth 100000 in
theorem tX23_put (l : Launch) (w : ZW) {σ σ' : ZS} {ro : Nat} {p1 : Int32} {p2 : Int32} {a : Nat} (hP : σ.2.2.1 a = some (.inr (21, [.ref ro]))) (hf : fX23_put w σ ro p1 p2 = some ((), σ')) : zC l w zLx yX23_put (ws_ yX23_put cX23_put 3 none) 0 0 [.ref a, .int p1, .int p2] σ (.returned none) σ' := by
  refine zC.of (plainFor_of_name (by decide)) (Nat.le_of_ble_eq_true rfl) ?_
  intro p e s m args below meth c C hnm
  show Z p l e _ s m args below meth c _ w _ _ 3 σ 0 [(0, .ref a), (1, .int p1), (2, .int p2)] []
  unfold fX23_put at hf
  refine z_aload_n C 0 dX23_put_0 rfl rfl ?_
  refine z_get C (ci := 21) (Cn := RX23) (T := TX23) (N := 1) (fs := [.ref ro]) (v := .ref ro) rfl in_X23 (zSee.pool hP) 0 (by decide) q1299 (Or.inl rfl) rfl dX23_put_1 ?_
  refine z_iload_n C 1 dX23_put_4 rfl rfl ?_
  refine z_iload_n C 2 dX23_put_5 rfl rfl ?_
  refine z_i2s C dX23_put_6 ?_
  obtain ⟨v_1, ev_1, hf⟩ := nmo_ hf
  refine z_top ev_1 ?_
  obtain ⟨⟨n_2, f_3⟩, e_4, hf⟩ := bo_ hf
  try dsimp only at hf
  have hP_5 := oRow_ e_4
  obtain ⟨g_6, hf⟩ := gd_ hf
  refine z_sastoreP C hP_5 g_6 dX23_put_7 ?_
  obtain ⟨σ_7, eσ_7, hf⟩ := nmo_ hf
  refine z_w eσ_7.symm ?_
  obtain ⟨-, rfl⟩ := fin_ hf
  exact z_vret C dX23_put_8
def fX23_width (σ : ZS) (ro : Nat) : Int32 := 16
set_option maxHeartbeats 4000000 in
set_option maxRecDepth 100000 in
theorem tX23_width (l : Launch) (w : ZW) (σ : ZS) (ro : Nat) {a : Nat} (hP : σ.2.2.1 a = some (.inr (21, [.ref ro]))) : zC l w zLx yX23_width (ws_ yX23_width cX23_width 1 (some .int)) 0 0 [.ref a] σ (.returned (some (.int (fX23_width σ ro)))) σ := by
  obtain ⟨r, hf⟩ : ∃ r, r = fX23_width σ ro := ⟨_, rfl⟩
  rw [← hf]
  refine zC.of (plainFor_of_name (by decide)) (Nat.le_of_ble_eq_true rfl) ?_
  intro p e s m args below meth c C hnm
  show Z p l e _ s m args below meth c _ w _ _ 1 σ 0 [(0, .ref a)] []
  unfold fX23_width at hf
  refine z_bipush C 16 dX23_width_0 (by decide) ?_
  subst hf
  exact z_iret C rfl dX23_width_2
def fX24_size (w : ZW) (σ : ZS) (ro : Nat) : Option Int32 := bo (oRow w 0 (σ.2.2.1 ro)) (fun rw1 => some (Int32.ofNat (rw1.1)))
set_option maxHeartbeats 4000000 in
set_option maxRecDepth 100000 in
theorem tX24_size (l : Launch) (w : ZW) {σ : ZS} {ro : Nat} {a : Nat} (hP : σ.2.2.1 a = some (.inr (22, [.ref ro]))) {r : Int32} (hf : fX24_size w σ ro = some r) : zC l w zLx yX24_size (ws_ yX24_size cX24_size 1 (some .int)) 0 0 [.ref a] σ (.returned (some (.int r))) σ := by
  refine zC.of (plainFor_of_name (by decide)) (Nat.le_of_ble_eq_true rfl) ?_
  intro p e s m args below meth c C hnm
  show Z p l e _ s m args below meth c _ w _ _ 1 σ 0 [(0, .ref a)] []
  unfold fX24_size at hf
  refine z_aload_n C 0 dX24_size_0 rfl rfl ?_
  refine z_get C (ci := 22) (Cn := RX24) (T := TX24) (N := 1) (fs := [.ref ro]) (v := .ref ro) rfl in_X24 (zSee.pool hP) 0 (by decide) q1310 (Or.inl rfl) rfl dX24_size_1 ?_
  obtain ⟨⟨n_1, f_2⟩, e_3, hf⟩ := bo_ hf
  try dsimp only at hf
  have hP_4 := oRow_ e_3
  refine z_alen C 0 (zSee.pool hP_4) rfl dX24_size_4 ?_
  obtain rfl := fino_ hf
  exact z_iret C rfl dX24_size_5
def fX24_get (w : ZW) (σ : ZS) (ro : Nat) (p1 : Int32) : Option Int32 := bo (oRow w 0 (σ.2.2.1 ro)) (fun rw1 => gd (¬ (p1 < 0 ∨ (rw1.1) ≤ p1.toNatClampNeg)) (some ((rw1.2) (p1.toNatClampNeg))))
set_option maxHeartbeats 4000000 in
set_option maxRecDepth 100000 in
theorem tX24_get (l : Launch) (w : ZW) {σ : ZS} {ro : Nat} {p1 : Int32} {a : Nat} (hP : σ.2.2.1 a = some (.inr (22, [.ref ro]))) {r : Int32} (hf : fX24_get w σ ro p1 = some r) : zC l w zLx yX24_get (ws_ yX24_get cX24_get 2 (some .int)) 0 0 [.ref a, .int p1] σ (.returned (some (.int r))) σ := by
  refine zC.of (plainFor_of_name (by decide)) (Nat.le_of_ble_eq_true rfl) ?_
  intro p e s m args below meth c C hnm
  show Z p l e _ s m args below meth c _ w _ _ 2 σ 0 [(0, .ref a), (1, .int p1)] []
  unfold fX24_get at hf
  refine z_aload_n C 0 dX24_get_0 rfl rfl ?_
  refine z_get C (ci := 22) (Cn := RX24) (T := TX24) (N := 1) (fs := [.ref ro]) (v := .ref ro) rfl in_X24 (zSee.pool hP) 0 (by decide) q1310 (Or.inl rfl) rfl dX24_get_1 ?_
  refine z_iload_n C 1 dX24_get_4 rfl rfl ?_
  obtain ⟨⟨n_1, f_2⟩, e_3, hf⟩ := bo_ hf
  try dsimp only at hf
  have hP_4 := oRow_ e_3
  obtain ⟨g_5, hf⟩ := gd_ hf
  refine z_iaload C (zSee.pool hP_4) g_5 dX24_get_5 ?_
  obtain rfl := fino_ hf
  exact z_iret C rfl dX24_get_6
def fX24_init (w : ZW) (σ : ZS) (a : Nat) (p1 : Int32) : Option (Unit × ZS) := bo (fX21_init a) (fun _ => gd (¬ p1 < 0) (gd (p1.toNatClampNeg ≤ 1000) (gd (1 ≤ σ.2.2.2.2.1) (gd (p1.toNatClampNeg ≤ σ.2.2.2.2.2) (nm (σ.2.2.2.1) (fun (a_7 : Nat) => nm (sN σ (.inl (w.2.1 0, p1.toNatClampNeg, .inl (fun _ => 0))) p1.toNatClampNeg) (fun (σ_8 : ZS) => gd (oNul (σ_8.2.2.1 a) = some 22) (nm (sP σ_8 a (.inr (22, [.ref a_7]))) (fun (σ_11 : ZS) => some ((), σ_11))))))))))
set_option maxHeartbeats 4000000 in
set_option maxRecDepth 100000 in
theorem tX24_init (l : Launch) (w : ZW) {σ σ' : ZS} {a : Nat} {p1 : Int32} (hf : fX24_init w σ a p1 = some ((), σ')) : zC l w zLx yX24_init (ws_ yX24_init cX24_init 2 none) 2 24 [.ref a, .int p1] σ (.returned none) σ' := by
  refine zC.of (plainFor_of_name (by decide)) (Nat.le_of_ble_eq_true rfl) ?_
  intro p e s m args below meth c C hnm
  show Z p l e _ s m args below meth c _ w _ _ 2 σ 0 [(0, .ref a), (1, .int p1)] []
  unfold fX24_init at hf
  refine z_aload_n C 0 dX24_init_0 rfl rfl ?_
  obtain ⟨⟨⟩, e_2, hf⟩ := bo_ hf
  refine z_callv C (rest := []) (av := (.ref a :: [])) (zPay.of q1287 q106) (fun H ls hH h2 => zInv_IN C (As := []) (rest := []) q1309 q1286 q1287 rfl mh_X21 np_X21_init dX24_init_1) (tX21_init l w zLx σ e_2) (Nat.le_of_ble_eq_true rfl) (Nat.le_of_ble_eq_true rfl) ?_
  refine z_aload_n C 0 dX24_init_4 rfl rfl ?_
  refine z_iload_n C 1 dX24_init_5 rfl rfl ?_
  obtain ⟨g_3, hf⟩ := gd_ hf
  obtain ⟨g_4, hf⟩ := gd_ hf
  obtain ⟨g_5, hf⟩ := gd_ hf
  obtain ⟨g_6, hf⟩ := gd_ hf
  refine z_newa C (atype := .int) (ty := .int) 0 rfl q208 rfl (fun _ h => by cases h) rfl g_3 (Nat.le_trans (Nat.mul_le_mul_right _ g_4) (by decide)) g_5 g_6 dX24_init_6 ?_
  obtain ⟨a_7, ea_7, hf⟩ := nmo_ hf
  refine z_eq (congrArg Value.ref ea_7.symm) ?_
  obtain ⟨σ_8, eσ_8, hf⟩ := nmo_ hf
  refine z_w eσ_8.symm ?_
  obtain ⟨g_10, hf⟩ := gd_ hf
  refine z_putP C (oNul_ g_10) (zPutF C (T := TX24) (N := 1) rfl in_X24 tyX24 tyX24_ok nmX24 0 (by decide) q1310 (Or.inl rfl) rfl hnm rfl rfl rfl (Nat.le_of_ble_eq_true rfl) dX24_init_8) ?_
  obtain ⟨σ_11, eσ_11, hf⟩ := nmo_ hf
  refine z_w eσ_11.symm ?_
  obtain ⟨-, rfl⟩ := fin_ hf
  exact z_vret C dX24_init_11
def fX24_put (w : ZW) (σ : ZS) (ro : Nat) (p1 : Int32) (p2 : Int32) : Option (Unit × ZS) := bo (oRow w 0 (σ.2.2.1 ro)) (fun rw1 => gd (¬ (p1 < 0 ∨ (rw1.1) ≤ p1.toNatClampNeg)) (nm (sP σ ro (.inl (w.2.1 0, (rw1.1), .inl (upd (rw1.2) (p1.toNatClampNeg) p2)))) (fun (σ_6 : ZS) => some ((), σ_6))))
set_option maxHeartbeats 4000000 in
set_option maxRecDepth 100000 in
theorem tX24_put (l : Launch) (w : ZW) {σ σ' : ZS} {ro : Nat} {p1 : Int32} {p2 : Int32} {a : Nat} (hP : σ.2.2.1 a = some (.inr (22, [.ref ro]))) (hf : fX24_put w σ ro p1 p2 = some ((), σ')) : zC l w zLx yX24_put (ws_ yX24_put cX24_put 3 none) 0 0 [.ref a, .int p1, .int p2] σ (.returned none) σ' := by
  refine zC.of (plainFor_of_name (by decide)) (Nat.le_of_ble_eq_true rfl) ?_
  intro p e s m args below meth c C hnm
  show Z p l e _ s m args below meth c _ w _ _ 3 σ 0 [(0, .ref a), (1, .int p1), (2, .int p2)] []
  unfold fX24_put at hf
  refine z_aload_n C 0 dX24_put_0 rfl rfl ?_
  refine z_get C (ci := 22) (Cn := RX24) (T := TX24) (N := 1) (fs := [.ref ro]) (v := .ref ro) rfl in_X24 (zSee.pool hP) 0 (by decide) q1310 (Or.inl rfl) rfl dX24_put_1 ?_
  refine z_iload_n C 1 dX24_put_4 rfl rfl ?_
  refine z_iload_n C 2 dX24_put_5 rfl rfl ?_
  obtain ⟨⟨n_1, f_2⟩, e_3, hf⟩ := bo_ hf
  try dsimp only at hf
  have hP_4 := oRow_ e_3
  obtain ⟨g_5, hf⟩ := gd_ hf
  refine z_iastoreP C hP_4 g_5 dX24_put_6 ?_
  obtain ⟨σ_6, eσ_6, hf⟩ := nmo_ hf
  refine z_w eσ_6.symm ?_
  obtain ⟨-, rfl⟩ := fin_ hf
  exact z_vret C dX24_put_7
def fX24_width (σ : ZS) (ro : Nat) : Int32 := 32
set_option maxHeartbeats 4000000 in
set_option maxRecDepth 100000 in
theorem tX24_width (l : Launch) (w : ZW) (σ : ZS) (ro : Nat) {a : Nat} (hP : σ.2.2.1 a = some (.inr (22, [.ref ro]))) : zC l w zLx yX24_width (ws_ yX24_width cX24_width 1 (some .int)) 0 0 [.ref a] σ (.returned (some (.int (fX24_width σ ro)))) σ := by
  obtain ⟨r, hf⟩ : ∃ r, r = fX24_width σ ro := ⟨_, rfl⟩
  rw [← hf]
  refine zC.of (plainFor_of_name (by decide)) (Nat.le_of_ble_eq_true rfl) ?_
  intro p e s m args below meth c C hnm
  show Z p l e _ s m args below meth c _ w _ _ 1 σ 0 [(0, .ref a)] []
  unfold fX24_width at hf
  refine z_bipush C 32 dX24_width_0 (by decide) ?_
  subst hf
  exact z_iret C rfl dX24_width_2
def fX5_init (a : Nat) : Option Unit := some ()
set_option maxHeartbeats 4000000 in
set_option maxRecDepth 100000 in
theorem tX5_init (l : Launch) (w : ZW) (L : ZL) (σ : ZS) {a : Nat} (hf : fX5_init a = some ()) : zC l w L yX5_init (ws_ yX5_init cX5_init 1 none) 1 12 [.ref a] σ (.returned none) σ := by
  refine zC.of (plainFor_of_name (by decide)) (Nat.le_of_ble_eq_true rfl) ?_
  intro p e s m args below meth c C hnm
  show Z p l e _ s m args below meth c _ w _ _ 1 σ 0 [(0, .ref a)] []
  unfold fX5_init at hf
  refine z_aload_n C 0 dX5_init_0 rfl rfl ?_
  refine z_objInit C q314 dX5_init_1 (Nat.le_of_ble_eq_true rfl) (Nat.le_of_ble_eq_true rfl) ?_
  exact z_vret C dX5_init_4
def fX7_init (a : Nat) : Option Unit := some ()
set_option maxHeartbeats 4000000 in
set_option maxRecDepth 100000 in
theorem tX7_init (l : Launch) (w : ZW) (L : ZL) (σ : ZS) {a : Nat} (hf : fX7_init a = some ()) : zC l w L yX7_init (ws_ yX7_init cX7_init 1 none) 1 12 [.ref a] σ (.returned none) σ := by
  refine zC.of (plainFor_of_name (by decide)) (Nat.le_of_ble_eq_true rfl) ?_
  intro p e s m args below meth c C hnm
  show Z p l e _ s m args below meth c _ w _ _ 1 σ 0 [(0, .ref a)] []
  unfold fX7_init at hf
  refine z_aload_n C 0 dX7_init_0 rfl rfl ?_
  refine z_objInit C q829 dX7_init_1 (Nat.le_of_ble_eq_true rfl) (Nat.le_of_ble_eq_true rfl) ?_
  exact z_vret C dX7_init_4
def fX8_init (σ : ZS) (a : Nat) (p1 : Int32) (p2 : Nat) (p3 : Nat) : Option (Unit × ZS) := bo (fX7_init a) (fun _ => bo (oC3 7 (σ.2.2.1 a)) (fun oc3 => nm (sP σ a (.inr (7, [.int p1, (oc3.2.1), (oc3.2.2)]))) (fun (σ_6 : ZS) => nm (sP σ_6 a (.inr (7, [.int p1, .ref p2, (oc3.2.2)]))) (fun (σ_8 : ZS) => nm (sP σ_8 a (.inr (7, [.int p1, .ref p2, .ref p3]))) (fun (σ_10 : ZS) => some ((), σ_10))))))
set_option maxHeartbeats 4000000 in
set_option maxRecDepth 100000 in
theorem tX8_init (l : Launch) (w : ZW) {σ σ' : ZS} {a : Nat} {p1 : Int32} {p2 : Nat} {p3 : Nat} (hf : fX8_init σ a p1 p2 p3 = some ((), σ')) : zC l w zLx yX8_init (ws_ yX8_init cX8_init 4 none) 2 24 [.ref a, .int p1, .ref p2, .ref p3] σ (.returned none) σ' := by
  refine zC.of (plainFor_of_name (by decide)) (Nat.le_of_ble_eq_true rfl) ?_
  intro p e s m args below meth c C hnm
  show Z p l e _ s m args below meth c _ w _ _ 4 σ 0 [(0, .ref a), (1, .int p1), (2, .ref p2), (3, .ref p3)] []
  unfold fX8_init at hf
  refine z_aload_n C 0 dX8_init_0 rfl rfl ?_
  obtain ⟨⟨⟩, e_2, hf⟩ := bo_ hf
  refine z_callv C (rest := []) (av := (.ref a :: [])) (zPay.of q828 q85) (fun H ls hH h2 => zInv_IN C (As := []) (rest := []) q890 q827 q828 rfl mh_X7 np_X7_init dX8_init_1) (tX7_init l w zLx σ e_2) (Nat.le_of_ble_eq_true rfl) (Nat.le_of_ble_eq_true rfl) ?_
  refine z_aload_n C 0 dX8_init_4 rfl rfl ?_
  refine z_iload_n C 1 dX8_init_5 rfl rfl ?_
  obtain ⟨⟨c0v3, c1v3, c2v3⟩, e_4, hf⟩ := bo_ hf
  try dsimp only at hf
  have hP_5 := oC3_ e_4
  refine z_putP C hP_5 (zPutF C (T := TX8) (N := 3) rfl in_X8 tyX8 tyX8_ok nmX8 0 (by decide) q891 (Or.inl rfl) rfl hnm rfl rfl rfl (Nat.le_of_ble_eq_true rfl) dX8_init_6) ?_
  obtain ⟨σ_6, eσ_6, hf⟩ := nmo_ hf
  refine z_w eσ_6.symm ?_
  have hP_7 : σ_6.2.2.1 a = some (.inr (7, [.int p1, c1v3, c2v3])) := by rw [eσ_6]; exact sP_self
  refine z_aload_n C 0 dX8_init_9 rfl rfl ?_
  refine z_aload_n C 2 dX8_init_10 rfl rfl ?_
  refine z_putP C hP_7 (zPutF C (T := TX8) (N := 3) rfl in_X8 tyX8 tyX8_ok nmX8 1 (by decide) q892 (Or.inl rfl) rfl hnm rfl rfl rfl (Nat.le_of_ble_eq_true rfl) dX8_init_11) ?_
  obtain ⟨σ_8, eσ_8, hf⟩ := nmo_ hf
  refine z_w eσ_8.symm ?_
  have hP_9 : σ_8.2.2.1 a = some (.inr (7, [.int p1, .ref p2, c2v3])) := by rw [eσ_8]; exact sP_self
  refine z_aload_n C 0 dX8_init_14 rfl rfl ?_
  refine z_aload_n C 3 dX8_init_15 rfl rfl ?_
  refine z_putP C hP_9 (zPutF C (T := TX8) (N := 3) rfl in_X8 tyX8 tyX8_ok nmX8 2 (by decide) q893 (Or.inl rfl) rfl hnm rfl rfl rfl (Nat.le_of_ble_eq_true rfl) dX8_init_16) ?_
  obtain ⟨σ_10, eσ_10, hf⟩ := nmo_ hf
  refine z_w eσ_10.symm ?_
  have hP_11 : σ_10.2.2.1 a = some (.inr (7, [.int p1, .ref p2, .ref p3])) := by rw [eσ_10]; exact sP_self
  obtain ⟨-, rfl⟩ := fin_ hf
  exact z_vret C dX8_init_19
def fX9_init (w : ZW) (σ : ZS) (a : Nat) (ci : Nat) (p2 : Int32) (p3 : Int32) : Option (Unit × ZS) := nm (sP σ a (.inr (ci, [.ref (w.2.2 4), .int 0, .int 0]))) (fun (σ_1 : ZS) => nm (sP σ_1 a (.inr (ci, [.ref (w.2.2 4), .int p2, .int 0]))) (fun (σ_3 : ZS) => nm (sP σ_3 a (.inr (ci, [.ref (w.2.2 4), .int p2, .int p3]))) (fun (σ_5 : ZS) => some ((), σ_5))))
set_option maxHeartbeats 4000000 in
set_option maxRecDepth 100000 in
theorem tX9_init (l : Launch) (w : ZW) {σ σ' : ZS} {a : Nat} {ci : Nat} {p2 : Int32} {p3 : Int32} (hci : zShipC ci) (hP : σ.2.2.1 a = some (.inr (ci, [.null, .int 0, .int 0]))) (hf : fX9_init w σ a ci p2 p3 = some ((), σ')) : zC l w zLx yX9_init (ws_ yX9_init cX9_init 4 none) 1 12 [.ref a, .ref (w.2.2 4), .int p2, .int p3] σ (.returned none) σ' := by
  refine zC.of (plainFor_of_name (by decide)) (Nat.le_of_ble_eq_true rfl) ?_
  intro p e s m args below meth c C hnm
  show Z p l e _ s m args below meth c _ w _ _ 4 σ 0 [(0, .ref a), (1, .ref (w.2.2 4)), (2, .int p2), (3, .int p3)] []
  unfold fX9_init at hf
  refine z_aload_n C 0 dX9_init_0 rfl rfl ?_
  refine z_objInit C q464 dX9_init_1 (Nat.le_of_ble_eq_true rfl) (Nat.le_of_ble_eq_true rfl) ?_
  refine z_aload_n C 0 dX9_init_4 rfl rfl ?_
  refine z_aload_n C 1 dX9_init_5 rfl rfl ?_
  refine z_putS0 C hnm hci hP q465 rfl rfl dX9_init_6 ?_
  obtain ⟨σ_1, eσ_1, hf⟩ := nmo_ hf
  refine z_w eσ_1.symm ?_
  have hP_2 : σ_1.2.2.1 a = some (.inr (ci, [.ref (w.2.2 4), .int 0, .int 0])) := by rw [eσ_1]; exact sP_self
  refine z_aload_n C 0 dX9_init_9 rfl rfl ?_
  refine z_iload_n C 2 dX9_init_10 rfl rfl ?_
  refine z_putS1 C hnm hci hP_2 q478 rfl rfl dX9_init_11 ?_
  obtain ⟨σ_3, eσ_3, hf⟩ := nmo_ hf
  refine z_w eσ_3.symm ?_
  have hP_4 : σ_3.2.2.1 a = some (.inr (ci, [.ref (w.2.2 4), .int p2, .int 0])) := by rw [eσ_3]; exact sP_self
  refine z_aload_n C 0 dX9_init_14 rfl rfl ?_
  refine z_iload_n C 3 dX9_init_15 rfl rfl ?_
  refine z_putS2 C hnm hci hP_4 q481 rfl rfl dX9_init_16 ?_
  obtain ⟨σ_5, eσ_5, hf⟩ := nmo_ hf
  refine z_w eσ_5.symm ?_
  have hP_6 : σ_5.2.2.1 a = some (.inr (ci, [.ref (w.2.2 4), .int p2, .int p3])) := by rw [eσ_5]; exact sP_self
  obtain ⟨-, rfl⟩ := fin_ hf
  exact z_vret C dX9_init_19
def fX9_kind (a : Nat) (ci : Nat) (n : Int32) (k : Int32) : Int32 := 0
set_option maxHeartbeats 4000000 in
set_option maxRecDepth 100000 in
theorem tX9_kind (l : Launch) (w : ZW) (L : ZL) (σ : ZS) (a : Nat) (ci : Nat) (n : Int32) (k : Int32) (hci : zShipC ci) (hP : σ.2.2.1 a = some (.inr (ci, [.ref (w.2.2 4), .int n, .int k]))) : zC l w L yX9_kind (ws_ yX9_kind cX9_kind 1 (some .int)) 0 0 [.ref a] σ (.returned (some (.int (fX9_kind a ci n k)))) σ := by
  obtain ⟨r, hf⟩ : ∃ r, r = fX9_kind a ci n k := ⟨_, rfl⟩
  rw [← hf]
  refine zC.of (plainFor_of_name (by decide)) (Nat.le_of_ble_eq_true rfl) ?_
  intro p e s m args below meth c C hnm
  show Z p l e _ s m args below meth c _ w _ _ 1 σ 0 [(0, .ref a)] []
  unfold fX9_kind at hf
  refine z_iconst C 0 dX9_kind_0 (by decide) ?_
  subst hf
  exact z_iret C rfl dX9_kind_1
def fX9_isOf (a : Nat) (ci : Nat) (n : Int32) (k : Int32) (p1 : Int32) : Int32 := nm (if p1 = 0 then 1 else 0) (fun (j_1 : Int32) => j_1)
set_option maxHeartbeats 4000000 in
set_option maxRecDepth 100000 in
theorem tX9_isOf (l : Launch) (w : ZW) (L : ZL) (σ : ZS) (a : Nat) (ci : Nat) (n : Int32) (k : Int32) (p1 : Int32) (hci : zShipC ci) (hP : σ.2.2.1 a = some (.inr (ci, [.ref (w.2.2 4), .int n, .int k]))) : zC l w L yX9_isOf (ws_ yX9_isOf cX9_isOf 2 (some .boolean)) 0 0 [.ref a, .int p1] σ (.returned (some (.int (fX9_isOf a ci n k p1)))) σ := by
  obtain ⟨r, hf⟩ : ∃ r, r = fX9_isOf a ci n k p1 := ⟨_, rfl⟩
  rw [← hf]
  refine zC.of (plainFor_of_name (by decide)) (Nat.le_of_ble_eq_true rfl) ?_
  intro p e s m args below meth c C hnm
  show Z p l e _ s m args below meth c _ w _ _ 2 σ 0 [(0, .ref a), (1, .int p1)] []
  unfold fX9_isOf at hf
  refine z_iload_n C 1 dX9_isOf_0 rfl rfl ?_
  obtain ⟨j_1, ej_1, hf⟩ := nmp_ hf
  have hj_1 : j_1 = 0 ∨ j_1 = 1 := by rw [ej_1]; (try dsimp only [nm]); (repeat' split) <;> first | exact Or.inl rfl | exact Or.inr rfl
  have hjj_1 : Z p l e (zRm 0 0 σ) s m args below meth c (zQ below w L σ (.returned (some (.int r))) σ args s) w L (zA w L σ) 2 σ 9 [(0, .ref a), (1, .int p1)] [.int j_1] := by
    subst hf
    exact z_iret C (b01 hj_1) dX9_isOf_9
  replace hf := ej_1
  refine z_if_ne C 8 dX9_isOf_1 (by decide) (fun c_2 => ?_) (fun c_2 => ?_)
  · replace hf := ifp_f c_2 hf
    refine z_iconst C 0 dX9_isOf_8 (by decide) ?_
    subst hf
    exact hjj_1
  · replace hf := ifp_t c_2 hf
    refine z_iconst C 1 dX9_isOf_4 (by decide) ?_
    refine z_goto C 9 dX9_isOf_5 (by decide) ?_
    subst hf
    exact hjj_1
theorem bX9_isOf (a : Nat) (ci : Nat) (n : Int32) (k : Int32) (p1 : Int32) : fX9_isOf a ci n k p1 = 0 ∨ fX9_isOf a ci n k p1 = 1 := by
  unfold fX9_isOf
  simp only [nm]
  repeat' split
  all_goals first | exact Or.inl rfl | exact Or.inr rfl
def fX9_sails (w : ZW) (σ : ZS) (a : Nat) (ci : Nat) (n : Int32) (k : Int32) (p1 : Int32) : Option (Int32 × ZS) := bd (fX4_begins σ 10) (fun _ σ_3 => gd (oShip w (σ_3.2.2.1 a) = some (ci, n, k)) (some (p1 + n, σ_3)))
set_option maxHeartbeats 4000000 in
set_option maxRecDepth 100000 in
theorem tX9_sails (l : Launch) (w : ZW) {σ σ' : ZS} {a : Nat} {ci : Nat} {n : Int32} {k : Int32} {p1 : Int32} (hci : zShipC ci) (hP : σ.2.2.1 a = some (.inr (ci, [.ref (w.2.2 4), .int n, .int k]))) {r : Int32} (hf : fX9_sails w σ a ci n k p1 = some (r, σ')) : zC l w zLx yX9_sails (ws_ yX9_sails cX9_sails 2 (some .int)) 1 13 [.ref a, .int p1] σ (.returned (some (.int r))) σ' := by
  refine zC.of (plainFor_of_name (by decide)) (Nat.le_of_ble_eq_true rfl) ?_
  intro p e s m args below meth c C hnm
  show Z p l e _ s m args below meth c _ w _ _ 2 σ 0 [(0, .ref a), (1, .int p1)] []
  unfold fX9_sails at hf
  refine z_aload_n C 0 dX9_sails_0 rfl rfl ?_
  refine z_getS0 C hci hP q465 (Or.inl rfl) dX9_sails_1 ?_
  refine z_bipush C 10 dX9_sails_4 (by decide) ?_
  obtain ⟨⟨⟩, σ_3, e_2, hf⟩ := bd_ hf
  refine z_callv C (rest := []) (av := (.ref (w.2.2 4) :: [.int 10])) (zPay.of q1105 q81) (fun H ls hH h2 => zInv_V C (As := [.int 10]) (rest := []) (ci := 4) (T := TX4) (N := 2) rfl (zSee.fix ly_x4) hH q1109 q1103 q1104 (Or.inl rfl) q1105 mh_X4 np_X4_begins dX9_sails_6) (tX4_begins l w e_2) (Nat.le_of_ble_eq_true rfl) (Nat.le_of_ble_eq_true rfl) ?_
  refine z_iload_n C 1 dX9_sails_9 rfl rfl ?_
  refine z_aload_n C 0 dX9_sails_10 rfl rfl ?_
  obtain ⟨g_4, hf⟩ := gd_ hf
  have hP_5 := (oShip_ g_4).1
  refine z_getS1 C hci hP_5 q478 (Or.inl rfl) dX9_sails_11 ?_
  refine z_iadd C dX9_sails_14 ?_
  obtain ⟨rfl, rfl⟩ := fin_ hf
  exact z_iret C rfl dX9_sails_15
def fX9_sounds (w : ZW) (σ : ZS) (a : Nat) (ci : Nat) (n : Int32) (k : Int32) (p1 : Int32) : Option (Int32 × ZS) := bd (fX4_begins σ 12) (fun _ σ_3 => gd (oShip w (σ_3.2.2.1 a) = some (ci, n, k)) (some (p1 - k, σ_3)))
set_option maxHeartbeats 4000000 in
set_option maxRecDepth 100000 in
theorem tX9_sounds (l : Launch) (w : ZW) {σ σ' : ZS} {a : Nat} {ci : Nat} {n : Int32} {k : Int32} {p1 : Int32} (hci : zShipC ci) (hP : σ.2.2.1 a = some (.inr (ci, [.ref (w.2.2 4), .int n, .int k]))) {r : Int32} (hf : fX9_sounds w σ a ci n k p1 = some (r, σ')) : zC l w zLx yX9_sounds (ws_ yX9_sounds cX9_sounds 2 (some .int)) 1 13 [.ref a, .int p1] σ (.returned (some (.int r))) σ' := by
  refine zC.of (plainFor_of_name (by decide)) (Nat.le_of_ble_eq_true rfl) ?_
  intro p e s m args below meth c C hnm
  show Z p l e _ s m args below meth c _ w _ _ 2 σ 0 [(0, .ref a), (1, .int p1)] []
  unfold fX9_sounds at hf
  refine z_aload_n C 0 dX9_sounds_0 rfl rfl ?_
  refine z_getS0 C hci hP q465 (Or.inl rfl) dX9_sounds_1 ?_
  refine z_bipush C 12 dX9_sounds_4 (by decide) ?_
  obtain ⟨⟨⟩, σ_3, e_2, hf⟩ := bd_ hf
  refine z_callv C (rest := []) (av := (.ref (w.2.2 4) :: [.int 12])) (zPay.of q1105 q81) (fun H ls hH h2 => zInv_V C (As := [.int 12]) (rest := []) (ci := 4) (T := TX4) (N := 2) rfl (zSee.fix ly_x4) hH q1109 q1103 q1104 (Or.inl rfl) q1105 mh_X4 np_X4_begins dX9_sounds_6) (tX4_begins l w e_2) (Nat.le_of_ble_eq_true rfl) (Nat.le_of_ble_eq_true rfl) ?_
  refine z_iload_n C 1 dX9_sounds_9 rfl rfl ?_
  refine z_aload_n C 0 dX9_sounds_10 rfl rfl ?_
  obtain ⟨g_4, hf⟩ := gd_ hf
  have hP_5 := (oShip_ g_4).1
  refine z_getS2 C hci hP_5 q481 (Or.inl rfl) dX9_sounds_11 ?_
  refine z_isub C dX9_sounds_14 ?_
  obtain ⟨rfl, rfl⟩ := fin_ hf
  exact z_iret C rfl dX9_sounds_15
def fS_Sheet_size (w : ZW) (σ : ZS) (a ci r : Nat) : Option Int32 := if ci = 20 then (fX22_size w σ r ) else (if ci = 21 then (fX23_size w σ r ) else (if ci = 22 then (fX24_size w σ r ) else (none)))
section
variable {p : Program} {l : Launch} {e : Env} {R : Room} {s : State} {m : MethodId} {args : Array Value} {below : List Frame} {meth : Method} {c : Code} {Q : State → Prop} {w : ZW} {A : Nat → Prop} {nL : Nat} {cc : ByteArray} {own : String} {ret : Option FieldType} {hh : List (Nat × Nat × Nat × Nat)} {σ : ZS} {pc : Nat} {lv : List (Nat × Value)} {st : List Value}
theorem z_Sh_size (C : zCx p s m args meth c w zLx A nL cc own ret hh) {index a ci r : Nat} {v : Int32} (hci : zSheetC ci) (hP : σ.2.2.1 a = some (.inr (ci, [.ref r]))) (hq1 : Cond.methodLink own index ⟨"OldLight$Sheet", "size", "()I"⟩ ∈ lw_all) (hf : fS_Sheet_size w σ a ci r  = some v) (hd : decode cc pc = .ok (.invokevirtual index, 3)) (hfr : 0 + 1 ≤ R.frames) (hlo : (st.map fun v => v.category).sum + (1 + 11) + 0 ≤ R.locals) (kk : Z p l e R s m args below meth c Q w zLx A nL σ (pc + 3) lv (.int v :: st)) : Z p l e R s m args below meth c Q w zLx A nL σ pc lv (.ref a :: st) := by
  rcases hci with rfl | rfl | rfl
  · skip
    exact z_calli C (rest := st) (av := (.ref a :: [])) (zPay.of q1019 q107) (fun H ls hH h2 => zInv_U C (x := ⟨"OldLight$Sheet", "size", "()I"⟩) (owner := "OldLight$Sheet") (As := []) (rest := st) (ci := 20) (T := TX22) (N := 1) rfl (zSee.pool hP) hH hq1 q1016 (zDecl_abs C q1015) (by unfold zMH; decide) q1018 q1017 np_X22_size hd) (tX22_size l w hP hf) (by have := hfr; omega) (by have := hlo; omega) kk
  · skip
    exact z_calli C (rest := st) (av := (.ref a :: [])) (zPay.of q1025 q108) (fun H ls hH h2 => zInv_U C (x := ⟨"OldLight$Sheet", "size", "()I"⟩) (owner := "OldLight$Sheet") (As := []) (rest := st) (ci := 21) (T := TX23) (N := 1) rfl (zSee.pool hP) hH hq1 q1016 (zDecl_abs C q1015) (by unfold zMH; decide) q1024 q1023 np_X23_size hd) (tX23_size l w hP hf) (by have := hfr; omega) (by have := hlo; omega) kk
  · skip
    exact z_calli C (rest := st) (av := (.ref a :: [])) (zPay.of q1022 q109) (fun H ls hH h2 => zInv_U C (x := ⟨"OldLight$Sheet", "size", "()I"⟩) (owner := "OldLight$Sheet") (As := []) (rest := st) (ci := 22) (T := TX24) (N := 1) rfl (zSee.pool hP) hH hq1 q1016 (zDecl_abs C q1015) (by unfold zMH; decide) q1021 q1020 np_X24_size hd) (tX24_size l w hP hf) (by have := hfr; omega) (by have := hlo; omega) kk
end
def fS_Sheet_get (w : ZW) (σ : ZS) (a ci r : Nat) (p1 : Int32) : Option Int32 := if ci = 20 then (fX22_get w σ r p1) else (if ci = 21 then (fX23_get w σ r p1) else (if ci = 22 then (fX24_get w σ r p1) else (none)))
section
variable {p : Program} {l : Launch} {e : Env} {R : Room} {s : State} {m : MethodId} {args : Array Value} {below : List Frame} {meth : Method} {c : Code} {Q : State → Prop} {w : ZW} {A : Nat → Prop} {nL : Nat} {cc : ByteArray} {own : String} {ret : Option FieldType} {hh : List (Nat × Nat × Nat × Nat)} {σ : ZS} {pc : Nat} {lv : List (Nat × Value)} {st : List Value}
theorem z_Sh_get (C : zCx p s m args meth c w zLx A nL cc own ret hh) {index a ci r : Nat} {p1 : Int32} {v : Int32} (hci : zSheetC ci) (hP : σ.2.2.1 a = some (.inr (ci, [.ref r]))) (hq1 : Cond.methodLink own index ⟨"OldLight$Sheet", "get", "(I)I"⟩ ∈ lw_all) (hf : fS_Sheet_get w σ a ci r p1 = some v) (hd : decode cc pc = .ok (.invokevirtual index, 3)) (hfr : 0 + 1 ≤ R.frames) (hlo : (st.map fun v => v.category).sum + (2 + 11) + 0 ≤ R.locals) (kk : Z p l e R s m args below meth c Q w zLx A nL σ (pc + 3) lv (.int v :: st)) : Z p l e R s m args below meth c Q w zLx A nL σ pc lv (.int p1 :: .ref a :: st) := by
  rcases hci with rfl | rfl | rfl
  · skip
    exact z_calli C (rest := st) (av := (.ref a :: [.int p1])) (zPay.of q1035 q107) (fun H ls hH h2 => zInv_U C (x := ⟨"OldLight$Sheet", "get", "(I)I"⟩) (owner := "OldLight$Sheet") (As := [.int p1]) (rest := st) (ci := 20) (T := TX22) (N := 1) rfl (zSee.pool hP) hH hq1 q1032 (zDecl_abs C q1031) (by unfold zMH; decide) q1034 q1033 np_X22_get hd) (tX22_get l w hP hf) (by have := hfr; omega) (by have := hlo; omega) kk
  · skip
    exact z_calli C (rest := st) (av := (.ref a :: [.int p1])) (zPay.of q1041 q108) (fun H ls hH h2 => zInv_U C (x := ⟨"OldLight$Sheet", "get", "(I)I"⟩) (owner := "OldLight$Sheet") (As := [.int p1]) (rest := st) (ci := 21) (T := TX23) (N := 1) rfl (zSee.pool hP) hH hq1 q1032 (zDecl_abs C q1031) (by unfold zMH; decide) q1040 q1039 np_X23_get hd) (tX23_get l w hP hf) (by have := hfr; omega) (by have := hlo; omega) kk
  · skip
    exact z_calli C (rest := st) (av := (.ref a :: [.int p1])) (zPay.of q1038 q109) (fun H ls hH h2 => zInv_U C (x := ⟨"OldLight$Sheet", "get", "(I)I"⟩) (owner := "OldLight$Sheet") (As := [.int p1]) (rest := st) (ci := 22) (T := TX24) (N := 1) rfl (zSee.pool hP) hH hq1 q1032 (zDecl_abs C q1031) (by unfold zMH; decide) q1037 q1036 np_X24_get hd) (tX24_get l w hP hf) (by have := hfr; omega) (by have := hlo; omega) kk
end
def fS_Sheet_put (w : ZW) (σ : ZS) (a ci r : Nat) (p1 : Int32) (p2 : Int32) : Option (Unit × ZS) := if ci = 20 then (fX22_put w σ r p1 p2) else (if ci = 21 then (fX23_put w σ r p1 p2) else (if ci = 22 then (fX24_put w σ r p1 p2) else (none)))
section
variable {p : Program} {l : Launch} {e : Env} {R : Room} {s : State} {m : MethodId} {args : Array Value} {below : List Frame} {meth : Method} {c : Code} {Q : State → Prop} {w : ZW} {A : Nat → Prop} {nL : Nat} {cc : ByteArray} {own : String} {ret : Option FieldType} {hh : List (Nat × Nat × Nat × Nat)} {σ : ZS} {pc : Nat} {lv : List (Nat × Value)} {st : List Value}
theorem z_Sh_put (C : zCx p s m args meth c w zLx A nL cc own ret hh) {index a ci r : Nat} {p1 : Int32} {p2 : Int32} {σ' : ZS} (hci : zSheetC ci) (hP : σ.2.2.1 a = some (.inr (ci, [.ref r]))) (hq1 : Cond.methodLink own index ⟨"OldLight$Sheet", "put", "(II)V"⟩ ∈ lw_all) (hf : fS_Sheet_put w σ a ci r p1 p2 = some ((), σ')) (hd : decode cc pc = .ok (.invokevirtual index, 3)) (hfr : 0 + 1 ≤ R.frames) (hlo : (st.map fun v => v.category).sum + (3 + 11) + 0 ≤ R.locals) (kk : Z p l e R s m args below meth c Q w zLx A nL σ' (pc + 3) lv st) : Z p l e R s m args below meth c Q w zLx A nL σ pc lv (.int p2 :: .int p1 :: .ref a :: st) := by
  rcases hci with rfl | rfl | rfl
  · skip
    exact z_callv C (rest := st) (av := (.ref a :: [.int p1, .int p2])) (zPay.of q1323 q107) (fun H ls hH h2 => zInv_U C (x := ⟨"OldLight$Sheet", "put", "(II)V"⟩) (owner := "OldLight$Sheet") (As := [.int p1, .int p2]) (rest := st) (ci := 20) (T := TX22) (N := 1) rfl (zSee.pool hP) hH hq1 q1320 (zDecl_abs C q1319) (by unfold zMH; decide) q1322 q1321 np_X22_put hd) (tX22_put l w hP hf) (by have := hfr; omega) (by have := hlo; omega) kk
  · skip
    exact z_callv C (rest := st) (av := (.ref a :: [.int p1, .int p2])) (zPay.of q1329 q108) (fun H ls hH h2 => zInv_U C (x := ⟨"OldLight$Sheet", "put", "(II)V"⟩) (owner := "OldLight$Sheet") (As := [.int p1, .int p2]) (rest := st) (ci := 21) (T := TX23) (N := 1) rfl (zSee.pool hP) hH hq1 q1320 (zDecl_abs C q1319) (by unfold zMH; decide) q1328 q1327 np_X23_put hd) (tX23_put l w hP hf) (by have := hfr; omega) (by have := hlo; omega) kk
  · skip
    exact z_callv C (rest := st) (av := (.ref a :: [.int p1, .int p2])) (zPay.of q1326 q109) (fun H ls hH h2 => zInv_U C (x := ⟨"OldLight$Sheet", "put", "(II)V"⟩) (owner := "OldLight$Sheet") (As := [.int p1, .int p2]) (rest := st) (ci := 22) (T := TX24) (N := 1) rfl (zSee.pool hP) hH hq1 q1320 (zDecl_abs C q1319) (by unfold zMH; decide) q1325 q1324 np_X24_put hd) (tX24_put l w hP hf) (by have := hfr; omega) (by have := hlo; omega) kk
end
def fS_Sheet_width (w : ZW) (σ : ZS) (a ci r : Nat) : Option Int32 := if ci = 20 then (some (fX22_width σ r )) else (if ci = 21 then (some (fX23_width σ r )) else (if ci = 22 then (some (fX24_width σ r )) else (none)))
section
variable {p : Program} {l : Launch} {e : Env} {R : Room} {s : State} {m : MethodId} {args : Array Value} {below : List Frame} {meth : Method} {c : Code} {Q : State → Prop} {w : ZW} {A : Nat → Prop} {nL : Nat} {cc : ByteArray} {own : String} {ret : Option FieldType} {hh : List (Nat × Nat × Nat × Nat)} {σ : ZS} {pc : Nat} {lv : List (Nat × Value)} {st : List Value}
theorem z_Sh_width (C : zCx p s m args meth c w zLx A nL cc own ret hh) {index a ci r : Nat} {v : Int32} (hci : zSheetC ci) (hP : σ.2.2.1 a = some (.inr (ci, [.ref r]))) (hq1 : Cond.methodLink own index ⟨"OldLight$Sheet", "width", "()I"⟩ ∈ lw_all) (hf : fS_Sheet_width w σ a ci r  = some v) (hd : decode cc pc = .ok (.invokevirtual index, 3)) (hfr : 0 + 1 ≤ R.frames) (hlo : (st.map fun v => v.category).sum + (1 + 11) + 0 ≤ R.locals) (kk : Z p l e R s m args below meth c Q w zLx A nL σ (pc + 3) lv (.int v :: st)) : Z p l e R s m args below meth c Q w zLx A nL σ pc lv (.ref a :: st) := by
  rcases hci with rfl | rfl | rfl
  · obtain rfl := fino_ hf
    exact z_calli C (rest := st) (av := (.ref a :: [])) (zPay.of q1339 q107) (fun H ls hH h2 => zInv_U C (x := ⟨"OldLight$Sheet", "width", "()I"⟩) (owner := "OldLight$Sheet") (As := []) (rest := st) (ci := 20) (T := TX22) (N := 1) rfl (zSee.pool hP) hH hq1 q1336 (zDecl_abs C q1335) (by unfold zMH; decide) q1338 q1337 np_X22_width hd) (tX22_width l w σ r  hP) (by have := hfr; omega) (by have := hlo; omega) kk
  · obtain rfl := fino_ hf
    exact z_calli C (rest := st) (av := (.ref a :: [])) (zPay.of q1345 q108) (fun H ls hH h2 => zInv_U C (x := ⟨"OldLight$Sheet", "width", "()I"⟩) (owner := "OldLight$Sheet") (As := []) (rest := st) (ci := 21) (T := TX23) (N := 1) rfl (zSee.pool hP) hH hq1 q1336 (zDecl_abs C q1335) (by unfold zMH; decide) q1344 q1343 np_X23_width hd) (tX23_width l w σ r  hP) (by have := hfr; omega) (by have := hlo; omega) kk
  · obtain rfl := fino_ hf
    exact z_calli C (rest := st) (av := (.ref a :: [])) (zPay.of q1342 q109) (fun H ls hH h2 => zInv_U C (x := ⟨"OldLight$Sheet", "width", "()I"⟩) (owner := "OldLight$Sheet") (As := []) (rest := st) (ci := 22) (T := TX24) (N := 1) rfl (zSee.pool hP) hH hq1 q1336 (zDecl_abs C q1335) (by unfold zMH; decide) q1341 q1340 np_X24_width hd) (tX24_width l w σ r  hP) (by have := hfr; omega) (by have := hlo; omega) kk
end
def fS_Ship_kind (w : ZW) (σ : ZS) (a ci : Nat) (n k : Int32) : Option Int32 := if ci = 8 then (some (fX9_kind a ci n k )) else (if ci = 9 then (some (fX10_kind a ci n k )) else (if ci = 10 then (some (fX11_kind a ci n k )) else (if ci = 11 then (some (fX12_kind a ci n k )) else (if ci = 12 then (some (fX13_kind a ci n k )) else (if ci = 13 then (some (fX14_kind a ci n k )) else (if ci = 14 then (some (fX15_kind a ci n k )) else (none)))))))
section
variable {p : Program} {l : Launch} {e : Env} {R : Room} {s : State} {m : MethodId} {args : Array Value} {below : List Frame} {meth : Method} {c : Code} {Q : State → Prop} {w : ZW} {A : Nat → Prop} {nL : Nat} {cc : ByteArray} {own : String} {ret : Option FieldType} {hh : List (Nat × Nat × Nat × Nat)} {σ : ZS} {pc : Nat} {lv : List (Nat × Value)} {st : List Value}
theorem z_S_Ship_kind (C : zCx p s m args meth c w zLx A nL cc own ret hh) {index a ci : Nat} {n k r : Int32} (hci : zShipC ci) (hP : σ.2.2.1 a = some (.inr (ci, [.ref (w.2.2 4), .int n, .int k]))) (hq1 : Cond.methodLink own index ⟨"OldLight$Ship", "kind", "()I"⟩ ∈ lw_all) (hf : fS_Ship_kind w σ a ci n k  = some r) (hd : decode cc pc = .ok (.invokevirtual index, 3)) (hfr : 0 + 1 ≤ R.frames) (hlo : (st.map fun v => v.category).sum + (1 + 11) + 0 ≤ R.locals) (kk : Z p l e R s m args below meth c Q w zLx A nL σ (pc + 3) lv (.int r :: st)) : Z p l e R s m args below meth c Q w zLx A nL σ pc lv (.ref a :: st) := by
  rcases hci with rfl | rfl | rfl | rfl | rfl | rfl | rfl
  · obtain rfl := fino_ hf
    exact z_calli C (rest := st) (av := (.ref a :: [])) (zPay.of q584 q87) (fun H ls hH h2 => zInv_U C (x := ⟨"OldLight$Ship", "kind", "()I"⟩) (owner := "OldLight$Ship") (As := []) (rest := st) (ci := 8) (T := TX9) (N := 3) rfl (zSee.pool hP) hH hq1 q565 (zDecl_of C q563 q584) (by unfold zMH; decide) q563 q564 np_X9_kind hd) (tX9_kind l w zLx σ a 8 n k  (by unfold zShipC; decide) hP) (by have := hfr; omega) (by have := hlo; omega) kk
  · obtain rfl := fino_ hf
    exact z_calli C (rest := st) (av := (.ref a :: [])) (zPay.of q568 q88) (fun H ls hH h2 => zInv_U C (x := ⟨"OldLight$Ship", "kind", "()I"⟩) (owner := "OldLight$Ship") (As := []) (rest := st) (ci := 9) (T := TX10) (N := 3) rfl (zSee.pool hP) hH hq1 q565 (zDecl_of C q563 q584) (by unfold zMH; decide) q567 q566 np_X10_kind hd) (tX10_kind l w zLx σ a 9 n k  (by unfold zShipC; decide) hP) (by have := hfr; omega) (by have := hlo; omega) kk
  · obtain rfl := fino_ hf
    exact z_calli C (rest := st) (av := (.ref a :: [])) (zPay.of q577 q89) (fun H ls hH h2 => zInv_U C (x := ⟨"OldLight$Ship", "kind", "()I"⟩) (owner := "OldLight$Ship") (As := []) (rest := st) (ci := 10) (T := TX11) (N := 3) rfl (zSee.pool hP) hH hq1 q565 (zDecl_of C q563 q584) (by unfold zMH; decide) q576 q575 np_X11_kind hd) (tX11_kind l w zLx σ a 10 n k  (by unfold zShipC; decide) hP) (by have := hfr; omega) (by have := hlo; omega) kk
  · obtain rfl := fino_ hf
    exact z_calli C (rest := st) (av := (.ref a :: [])) (zPay.of q583 q90) (fun H ls hH h2 => zInv_U C (x := ⟨"OldLight$Ship", "kind", "()I"⟩) (owner := "OldLight$Ship") (As := []) (rest := st) (ci := 11) (T := TX12) (N := 3) rfl (zSee.pool hP) hH hq1 q565 (zDecl_of C q563 q584) (by unfold zMH; decide) q582 q581 np_X12_kind hd) (tX12_kind l w zLx σ a 11 n k  (by unfold zShipC; decide) hP) (by have := hfr; omega) (by have := hlo; omega) kk
  · obtain rfl := fino_ hf
    exact z_calli C (rest := st) (av := (.ref a :: [])) (zPay.of q571 q91) (fun H ls hH h2 => zInv_U C (x := ⟨"OldLight$Ship", "kind", "()I"⟩) (owner := "OldLight$Ship") (As := []) (rest := st) (ci := 12) (T := TX13) (N := 3) rfl (zSee.pool hP) hH hq1 q565 (zDecl_of C q563 q584) (by unfold zMH; decide) q570 q569 np_X13_kind hd) (tX13_kind l w zLx σ a 12 n k  (by unfold zShipC; decide) hP) (by have := hfr; omega) (by have := hlo; omega) kk
  · obtain rfl := fino_ hf
    exact z_calli C (rest := st) (av := (.ref a :: [])) (zPay.of q580 q92) (fun H ls hH h2 => zInv_U C (x := ⟨"OldLight$Ship", "kind", "()I"⟩) (owner := "OldLight$Ship") (As := []) (rest := st) (ci := 13) (T := TX14) (N := 3) rfl (zSee.pool hP) hH hq1 q565 (zDecl_of C q563 q584) (by unfold zMH; decide) q579 q578 np_X14_kind hd) (tX14_kind l w zLx σ a 13 n k  (by unfold zShipC; decide) hP) (by have := hfr; omega) (by have := hlo; omega) kk
  · obtain rfl := fino_ hf
    exact z_calli C (rest := st) (av := (.ref a :: [])) (zPay.of q574 q93) (fun H ls hH h2 => zInv_U C (x := ⟨"OldLight$Ship", "kind", "()I"⟩) (owner := "OldLight$Ship") (As := []) (rest := st) (ci := 14) (T := TX15) (N := 3) rfl (zSee.pool hP) hH hq1 q565 (zDecl_of C q563 q584) (by unfold zMH; decide) q573 q572 np_X15_kind hd) (tX15_kind l w zLx σ a 14 n k  (by unfold zShipC; decide) hP) (by have := hfr; omega) (by have := hlo; omega) kk
end
def fS_Rower_sounds (w : ZW) (σ : ZS) (a ci : Nat) (n k : Int32) (p1 : Int32) : Option (Int32 × ZS) := if ci = 10 then (fX9_sounds w σ a ci n k p1) else (if ci = 13 then (fX9_sounds w σ a ci n k p1) else (none))
section
variable {p : Program} {l : Launch} {e : Env} {R : Room} {s : State} {m : MethodId} {args : Array Value} {below : List Frame} {meth : Method} {c : Code} {Q : State → Prop} {w : ZW} {A : Nat → Prop} {nL : Nat} {cc : ByteArray} {own : String} {ret : Option FieldType} {hh : List (Nat × Nat × Nat × Nat)} {σ : ZS} {pc : Nat} {lv : List (Nat × Value)} {st : List Value}
theorem z_S_Rower_sounds (C : zCx p s m args meth c w zLx A nL cc own ret hh) {index a ci : Nat} {n k p1 r : Int32} {σ' : ZS} (hci : zShipC ci) (hP : σ.2.2.1 a = some (.inr (ci, [.ref (w.2.2 4), .int n, .int k]))) (hq1 : Cond.methodLink own index ⟨"OldLight$Rower", "sounds", "(I)I"⟩ ∈ lw_all) (hf : fS_Rower_sounds w σ a ci n k p1 = some (r, σ')) (hd : decode cc pc = .ok (.invokevirtual index, 3)) (hfr : 1 + 1 ≤ R.frames) (hlo : (st.map fun v => v.category).sum + (2 + 11) + 13 ≤ R.locals) (kk : Z p l e R s m args below meth c Q w zLx A nL σ' (pc + 3) lv (.int r :: st)) : Z p l e R s m args below meth c Q w zLx A nL σ pc lv (.int p1 :: .ref a :: st) := by
  rcases hci with rfl | rfl | rfl | rfl | rfl | rfl | rfl
  · exact none_ hf
  · exact none_ hf
  · skip
    exact z_calli C (rest := st) (av := (.ref a :: [.int p1])) (zPay.of q1160 q87) (fun H ls hH h2 => zInv_U C (x := ⟨"OldLight$Rower", "sounds", "(I)I"⟩) (owner := "OldLight$Ship") (As := [.int p1]) (rest := st) (ci := 10) (T := TX11) (N := 3) rfl (zSee.pool hP) hH hq1 q1155 (zDecl_of C q1159 q1160) (by unfold zMH; decide) q1159 q1157 np_X9_sounds hd) (tX9_sounds l w (by unfold zShipC; decide) hP hf) (by have := hfr; omega) (by have := hlo; omega) kk
  · exact none_ hf
  · exact none_ hf
  · skip
    exact z_calli C (rest := st) (av := (.ref a :: [.int p1])) (zPay.of q1160 q87) (fun H ls hH h2 => zInv_U C (x := ⟨"OldLight$Rower", "sounds", "(I)I"⟩) (owner := "OldLight$Ship") (As := [.int p1]) (rest := st) (ci := 13) (T := TX14) (N := 3) rfl (zSee.pool hP) hH hq1 q1155 (zDecl_of C q1159 q1160) (by unfold zMH; decide) q1159 q1158 np_X9_sounds hd) (tX9_sounds l w (by unfold zShipC; decide) hP hf) (by have := hfr; omega) (by have := hlo; omega) kk
  · exact none_ hf
end
def fX0_need (σ : ZS) (p1 : Int32) (p2 : Int32) : Option ((Unit ⊕ Unit) × ZS) := if p1 = 0 then (bd (fX1_of σ p2) (fun _ σ_4 => some (.inr (), σ_4))) else (some (.inl (), σ))
set_option maxHeartbeats 4000000 in
set_option maxRecDepth 100000 in
theorem tX0_need (l : Launch) (w : ZW) {σ σ' : ZS} {p1 : Int32} {p2 : Int32} {r : Unit ⊕ Unit} (hf : fX0_need σ p1 p2 = some (r, σ')) : zC l w zLx yX0_need (ws_ yX0_need cX0_need 3 none) 1 13 [.ref (w.2.2 0), .int p1, .int p2] σ (ocV w r) σ' := by
  refine zC.of (plainFor_of_name (by decide)) (Nat.le_of_ble_eq_true rfl) ?_
  intro p e s m args below meth c C hnm
  show Z p l e _ s m args below meth c _ w _ _ 3 σ 0 [(0, .ref (w.2.2 0)), (1, .int p1), (2, .int p2)] []
  unfold fX0_need at hf
  refine z_iload_n C 1 dX0_need_0 rfl rfl ?_
  refine z_if_ne C 13 dX0_need_1 (by decide) (fun c_1 => ?_) (fun c_1 => ?_)
  · replace hf := if_f c_1 hf
    obtain ⟨rfl, rfl⟩ := fin_ hf
    exact z_vret C dX0_need_13
  · replace hf := if_t c_1 hf
    refine z_aload_n C 0 dX0_need_4 rfl rfl ?_
    refine z_getR C ly_x0 (Cn := RX0) (T := TX0) (N := 8) rfl in_X0 0 (by decide) q319 (Or.inl rfl) rfl dX0_need_5 ?_
    refine z_iload_n C 2 dX0_need_8 rfl rfl ?_
    obtain ⟨⟨⟩, σ_4, e_3, hf⟩ := bd_ hf
    refine z_callr C (rest := []) (av := (.ref (w.2.2 1) :: [.int p2])) (zPay.of q358 q78) (fun H ls hH h2 => zInv_V C (As := [.int p2]) (rest := []) (ci := 1) (T := TX1) (N := 7) rfl (zSee.fix ly_x1) hH q355 q356 q357 (Or.inl rfl) q358 mh_X1 np_X1_of dX0_need_9) (tX1_of l w e_3) (Nat.le_of_ble_eq_true rfl) (Nat.le_of_ble_eq_true rfl) ?_
    obtain ⟨rfl, rfl⟩ := fin_ hf
    exact z_athrow C (by decide) dX0_need_12
def fX0_lay (σ : ZS) (p1 : Int32) (p2 : Int32) (p3 : Int32) : Option (Int32 × ZS) := nm (if (fX0_isCell σ p1) = 0 then 0 else (if (fX0_in p2 0 2) = 0 then 0 else (nm (if p2 = 0 then 9 else 999) (fun (j_34 : Int32) => if (fX0_in p3 0 j_34) = 0 then 0 else 1)))) (fun (j_1 : Int32) => bd (fX0_need σ j_1 1) (fun r_2 σ_4 => sc r_2 (fun _ => nm (fX0_cellRow σ_4 p2) (fun (q_7 : Nat) => if q_7 = (100 + 2) then (gd (¬ (p1 < 0 ∨ 8 ≤ p1.toNatClampNeg)) (nm (σ_4.1 (100 + 2) p1.toNatClampNeg) (fun (x4_10 : Int32) => nm (fX0_cellRow σ_4 p2) (fun (q_11 : Nat) => if q_11 = (100 + 2) then (some (x4_10, sI σ_4 (100 + 2) (p1.toNatClampNeg) p3)) else (if q_11 = (100 + 3) then (some (x4_10, sI σ_4 (100 + 3) (p1.toNatClampNeg) p3)) else (gd (q_11 = (100 + 4)) (some (x4_10, sI σ_4 (100 + 4) (p1.toNatClampNeg) p3)))))))) else (if q_7 = (100 + 3) then (gd (¬ (p1 < 0 ∨ 8 ≤ p1.toNatClampNeg)) (nm (σ_4.1 (100 + 3) p1.toNatClampNeg) (fun (x4_17 : Int32) => nm (fX0_cellRow σ_4 p2) (fun (q_18 : Nat) => if q_18 = (100 + 2) then (some (x4_17, sI σ_4 (100 + 2) (p1.toNatClampNeg) p3)) else (if q_18 = (100 + 3) then (some (x4_17, sI σ_4 (100 + 3) (p1.toNatClampNeg) p3)) else (gd (q_18 = (100 + 4)) (some (x4_17, sI σ_4 (100 + 4) (p1.toNatClampNeg) p3)))))))) else (gd (q_7 = (100 + 4)) (gd (¬ (p1 < 0 ∨ 8 ≤ p1.toNatClampNeg)) (nm (σ_4.1 (100 + 4) p1.toNatClampNeg) (fun (x4_24 : Int32) => nm (fX0_cellRow σ_4 p2) (fun (q_25 : Nat) => if q_25 = (100 + 2) then (some (x4_24, sI σ_4 (100 + 2) (p1.toNatClampNeg) p3)) else (if q_25 = (100 + 3) then (some (x4_24, sI σ_4 (100 + 3) (p1.toNatClampNeg) p3)) else (gd (q_25 = (100 + 4)) (some (x4_24, sI σ_4 (100 + 4) (p1.toNatClampNeg) p3)))))))))))) (fun _ => bd (fX0_finds σ_4) (fun r_29 σ_31 => some (r_29, σ_31)))))
set_option maxHeartbeats 4000000 in
set_option maxRecDepth 100000 in
theorem tX0_lay (l : Launch) (w : ZW) {σ σ' : ZS} {p1 : Int32} {p2 : Int32} {p3 : Int32} {r : Int32} (hf : fX0_lay σ p1 p2 p3 = some (r, σ')) : zC l w zLx yX0_lay (wsW_ yX0_lay cX0_lay 5 (some .int) [(0, 66, 67, 8)]) 2 28 [.ref (w.2.2 0), .int p1, .int p2, .int p3] σ (.returned (some (.int r))) σ' := by
  refine zC.ofW (plainFor_of_name (by decide)) (Nat.le_of_ble_eq_true rfl) ?_
  intro p e s m args below meth c C hnm
  show Z p l e _ s m args below meth c _ w _ _ 5 σ 0 [(0, .ref (w.2.2 0)), (1, .int p1), (2, .int p2), (3, .int p3)] []
  unfold fX0_lay at hf
  refine z_aload_n C 0 dX0_lay_0 rfl rfl ?_
  refine z_aload_n C 0 dX0_lay_1 rfl rfl ?_
  refine z_iload_n C 1 dX0_lay_2 rfl rfl ?_
  refine z_calli C (rest := [.ref (w.2.2 0)]) (av := (.ref (w.2.2 0) :: [.int p1])) (zPay.of q371 q74) (fun H ls hH h2 => zInv_V C (As := [.int p1]) (rest := [.ref (w.2.2 0)]) (ci := 0) (T := TX0) (N := 8) rfl (zSee.fix ly_x0) hH q368 q370 qs3 (Or.inl rfl) q371 mh_X0 np_X0_isCell dX0_lay_3) (tX0_isCell l w σ p1) (Nat.le_of_ble_eq_true rfl) (Nat.le_of_ble_eq_true rfl) ?_
  obtain ⟨j_1, ej_1, hf⟩ := nmo_ hf
  have hj_1 : j_1 = 0 ∨ j_1 = 1 := by rw [ej_1]; (try dsimp only [nm]); (repeat' split) <;> first | exact Or.inl rfl | exact Or.inr rfl
  have hjj_1 : Z p l e (zRm 2 28 σ) s m args below meth c (zQ below w zLx σ (.returned (some (.int r))) σ' args s) w zLx (zA w zLx σ) 5 σ 43 [(0, .ref (w.2.2 0)), (1, .int p1), (2, .int p2), (3, .int p3)] [.int j_1, .ref (w.2.2 0)] := by
    refine z_iconst C 1 dX0_lay_43 (by decide) ?_
    obtain ⟨r_2, σ_4, e_3, hf⟩ := bd_ hf
    rcases r_2 with ⟨⟩ | ⟨⟩
    · dsimp only [sc] at hf
      refine z_callv C (rest := []) (av := (.ref (w.2.2 0) :: [.int j_1, .int 1])) (zPay.of q354 q74) (fun H ls hH h2 => zInv_V C (As := [.int j_1, .int 1]) (rest := []) (ci := 0) (T := TX0) (N := 8) rfl (zSee.fix ly_x0) hH q351 q353 qs1 (Or.inl rfl) q354 mh_X0 np_X0_need dX0_lay_44) (tX0_need l w e_3) (Nat.le_of_ble_eq_true rfl) (Nat.le_of_ble_eq_true rfl) ?_
      refine z_aload_n C 0 dX0_lay_47 rfl rfl ?_
      refine z_iload_n C 2 dX0_lay_48 rfl rfl ?_
      refine z_callr C (rest := []) (av := (.ref (w.2.2 0) :: [.int p2])) (zPay.of q375 q74) (fun H ls hH h2 => zInv_V C (As := [.int p2]) (rest := []) (ci := 0) (T := TX0) (N := 8) rfl (zSee.fix ly_x0) hH q372 q374 qs4 (Or.inl rfl) q375 mh_X0 np_X0_cellRow dX0_lay_49) (tX0_cellRow l w σ_4 p2) (Nat.le_of_ble_eq_true rfl) (Nat.le_of_ble_eq_true rfl) ?_
      obtain ⟨q_7, eq_7, hf⟩ := nmo_ hf
      refine z_eq (congrArg (fun z => Value.ref (w.2.2 z)) eq_7.symm) ?_
      by_cases c_8 : q_7 = (100 + 2)
      · replace hf := if_t c_8 hf
        refine z_eq (congrArg (fun z => Value.ref (w.2.2 z)) c_8) ?_
        refine z_iload_n C 1 dX0_lay_52 rfl rfl ?_
        obtain ⟨g_9, hf⟩ := gd_ hf
        refine z_ialoadF C (ly_b2 zb100) g_9 dX0_lay_53 ?_
        obtain ⟨x4_10, ex4_10, hf⟩ := nmo_ hf
        refine z_top ex4_10 ?_
        refine z_istore C dX0_lay_54 (by decide) rfl (lv' := [(4, .int x4_10), (0, .ref (w.2.2 0)), (1, .int p1), (2, .int p2), (3, .int p3)]) ?_
        refine z_aload_n C 1 dX0_lay_56 rfl rfl ?_
        refine z_iload_n C 3 dX0_lay_57 rfl rfl ?_
        refine z_callr C (rest := []) (av := (.ref (w.2.2 0) :: [.int p2])) (zPay.of q375 q74) (fun H ls hH h2 => zInv_V C (As := [.int p2]) (rest := []) (ci := 0) (T := TX0) (N := 8) rfl (zSee.fix ly_x0) hH q372 q374 qs4 (Or.inl rfl) q375 mh_X0 np_X0_cellRow dX0_lay_58) (tX0_cellRow l w σ_4 p2) (Nat.le_of_ble_eq_true rfl) (Nat.le_of_ble_eq_true rfl) ?_
        obtain ⟨q_11, eq_11, hf⟩ := nmo_ hf
        refine z_eq (congrArg (fun z => Value.ref (w.2.2 z)) eq_11.symm) ?_
        by_cases c_12 : q_11 = (100 + 2)
        · replace hf := if_t c_12 hf
          refine z_eq (congrArg (fun z => Value.ref (w.2.2 z)) c_12) ?_
          refine z_iload_n C 2 dX0_lay_61 rfl rfl ?_
          refine z_iload_n C 4 dX0_lay_62 rfl rfl ?_
          refine z_iastore C (ly_b2 zb100) g_9 dX0_lay_63 ?_
          refine z_iload C 0 dX0_lay_64 rfl ?_
          obtain ⟨rfl, rfl⟩ := fin_ hf
          exact z_iret C rfl dX0_lay_66
        replace hf := if_f c_12 hf
        by_cases c_13 : q_11 = (100 + 3)
        · replace hf := if_t c_13 hf
          refine z_eq (congrArg (fun z => Value.ref (w.2.2 z)) c_13) ?_
          refine z_iload_n C 2 dX0_lay_61 rfl rfl ?_
          refine z_iload_n C 4 dX0_lay_62 rfl rfl ?_
          refine z_iastore C (ly_b3 zb100) g_9 dX0_lay_63 ?_
          refine z_iload C 0 dX0_lay_64 rfl ?_
          obtain ⟨rfl, rfl⟩ := fin_ hf
          exact z_iret C rfl dX0_lay_66
        replace hf := if_f c_13 hf
        obtain ⟨c_14, hf⟩ := gd_ hf
        refine z_eq (congrArg (fun z => Value.ref (w.2.2 z)) c_14) ?_
        refine z_iload_n C 2 dX0_lay_61 rfl rfl ?_
        refine z_iload_n C 4 dX0_lay_62 rfl rfl ?_
        refine z_iastore C (ly_b4 zb100) g_9 dX0_lay_63 ?_
        refine z_iload C 0 dX0_lay_64 rfl ?_
        obtain ⟨rfl, rfl⟩ := fin_ hf
        exact z_iret C rfl dX0_lay_66
      replace hf := if_f c_8 hf
      by_cases c_15 : q_7 = (100 + 3)
      · replace hf := if_t c_15 hf
        refine z_eq (congrArg (fun z => Value.ref (w.2.2 z)) c_15) ?_
        refine z_iload_n C 1 dX0_lay_52 rfl rfl ?_
        obtain ⟨g_16, hf⟩ := gd_ hf
        refine z_ialoadF C (ly_b3 zb100) g_16 dX0_lay_53 ?_
        obtain ⟨x4_17, ex4_17, hf⟩ := nmo_ hf
        refine z_top ex4_17 ?_
        refine z_istore C dX0_lay_54 (by decide) rfl (lv' := [(4, .int x4_17), (0, .ref (w.2.2 0)), (1, .int p1), (2, .int p2), (3, .int p3)]) ?_
        refine z_aload_n C 1 dX0_lay_56 rfl rfl ?_
        refine z_iload_n C 3 dX0_lay_57 rfl rfl ?_
        refine z_callr C (rest := []) (av := (.ref (w.2.2 0) :: [.int p2])) (zPay.of q375 q74) (fun H ls hH h2 => zInv_V C (As := [.int p2]) (rest := []) (ci := 0) (T := TX0) (N := 8) rfl (zSee.fix ly_x0) hH q372 q374 qs4 (Or.inl rfl) q375 mh_X0 np_X0_cellRow dX0_lay_58) (tX0_cellRow l w σ_4 p2) (Nat.le_of_ble_eq_true rfl) (Nat.le_of_ble_eq_true rfl) ?_
        obtain ⟨q_18, eq_18, hf⟩ := nmo_ hf
        refine z_eq (congrArg (fun z => Value.ref (w.2.2 z)) eq_18.symm) ?_
        by_cases c_19 : q_18 = (100 + 2)
        · replace hf := if_t c_19 hf
          refine z_eq (congrArg (fun z => Value.ref (w.2.2 z)) c_19) ?_
          refine z_iload_n C 2 dX0_lay_61 rfl rfl ?_
          refine z_iload_n C 4 dX0_lay_62 rfl rfl ?_
          refine z_iastore C (ly_b2 zb100) g_16 dX0_lay_63 ?_
          refine z_iload C 0 dX0_lay_64 rfl ?_
          obtain ⟨rfl, rfl⟩ := fin_ hf
          exact z_iret C rfl dX0_lay_66
        replace hf := if_f c_19 hf
        by_cases c_20 : q_18 = (100 + 3)
        · replace hf := if_t c_20 hf
          refine z_eq (congrArg (fun z => Value.ref (w.2.2 z)) c_20) ?_
          refine z_iload_n C 2 dX0_lay_61 rfl rfl ?_
          refine z_iload_n C 4 dX0_lay_62 rfl rfl ?_
          refine z_iastore C (ly_b3 zb100) g_16 dX0_lay_63 ?_
          refine z_iload C 0 dX0_lay_64 rfl ?_
          obtain ⟨rfl, rfl⟩ := fin_ hf
          exact z_iret C rfl dX0_lay_66
        replace hf := if_f c_20 hf
        obtain ⟨c_21, hf⟩ := gd_ hf
        refine z_eq (congrArg (fun z => Value.ref (w.2.2 z)) c_21) ?_
        refine z_iload_n C 2 dX0_lay_61 rfl rfl ?_
        refine z_iload_n C 4 dX0_lay_62 rfl rfl ?_
        refine z_iastore C (ly_b4 zb100) g_16 dX0_lay_63 ?_
        refine z_iload C 0 dX0_lay_64 rfl ?_
        obtain ⟨rfl, rfl⟩ := fin_ hf
        exact z_iret C rfl dX0_lay_66
      replace hf := if_f c_15 hf
      obtain ⟨c_22, hf⟩ := gd_ hf
      refine z_eq (congrArg (fun z => Value.ref (w.2.2 z)) c_22) ?_
      refine z_iload_n C 1 dX0_lay_52 rfl rfl ?_
      obtain ⟨g_23, hf⟩ := gd_ hf
      refine z_ialoadF C (ly_b4 zb100) g_23 dX0_lay_53 ?_
      obtain ⟨x4_24, ex4_24, hf⟩ := nmo_ hf
      refine z_top ex4_24 ?_
      refine z_istore C dX0_lay_54 (by decide) rfl (lv' := [(4, .int x4_24), (0, .ref (w.2.2 0)), (1, .int p1), (2, .int p2), (3, .int p3)]) ?_
      refine z_aload_n C 1 dX0_lay_56 rfl rfl ?_
      refine z_iload_n C 3 dX0_lay_57 rfl rfl ?_
      refine z_callr C (rest := []) (av := (.ref (w.2.2 0) :: [.int p2])) (zPay.of q375 q74) (fun H ls hH h2 => zInv_V C (As := [.int p2]) (rest := []) (ci := 0) (T := TX0) (N := 8) rfl (zSee.fix ly_x0) hH q372 q374 qs4 (Or.inl rfl) q375 mh_X0 np_X0_cellRow dX0_lay_58) (tX0_cellRow l w σ_4 p2) (Nat.le_of_ble_eq_true rfl) (Nat.le_of_ble_eq_true rfl) ?_
      obtain ⟨q_25, eq_25, hf⟩ := nmo_ hf
      refine z_eq (congrArg (fun z => Value.ref (w.2.2 z)) eq_25.symm) ?_
      by_cases c_26 : q_25 = (100 + 2)
      · replace hf := if_t c_26 hf
        refine z_eq (congrArg (fun z => Value.ref (w.2.2 z)) c_26) ?_
        refine z_iload_n C 2 dX0_lay_61 rfl rfl ?_
        refine z_iload_n C 4 dX0_lay_62 rfl rfl ?_
        refine z_iastore C (ly_b2 zb100) g_23 dX0_lay_63 ?_
        refine z_iload C 0 dX0_lay_64 rfl ?_
        obtain ⟨rfl, rfl⟩ := fin_ hf
        exact z_iret C rfl dX0_lay_66
      replace hf := if_f c_26 hf
      by_cases c_27 : q_25 = (100 + 3)
      · replace hf := if_t c_27 hf
        refine z_eq (congrArg (fun z => Value.ref (w.2.2 z)) c_27) ?_
        refine z_iload_n C 2 dX0_lay_61 rfl rfl ?_
        refine z_iload_n C 4 dX0_lay_62 rfl rfl ?_
        refine z_iastore C (ly_b3 zb100) g_23 dX0_lay_63 ?_
        refine z_iload C 0 dX0_lay_64 rfl ?_
        obtain ⟨rfl, rfl⟩ := fin_ hf
        exact z_iret C rfl dX0_lay_66
      replace hf := if_f c_27 hf
      obtain ⟨c_28, hf⟩ := gd_ hf
      refine z_eq (congrArg (fun z => Value.ref (w.2.2 z)) c_28) ?_
      refine z_iload_n C 2 dX0_lay_61 rfl rfl ?_
      refine z_iload_n C 4 dX0_lay_62 rfl rfl ?_
      refine z_iastore C (ly_b4 zb100) g_23 dX0_lay_63 ?_
      refine z_iload C 0 dX0_lay_64 rfl ?_
      obtain ⟨rfl, rfl⟩ := fin_ hf
      exact z_iret C rfl dX0_lay_66
    · dsimp only [sc] at hf
      refine z_callt C (rest := []) (av := (.ref (w.2.2 0) :: [.int j_1, .int 1])) (zPay.of q354 q74) (fun H ls hH h2 => zInv_V C (As := [.int j_1, .int 1]) (rest := []) (ci := 0) (T := TX0) (N := 8) rfl (zSee.fix ly_x0) hH q351 q353 qs1 (Or.inl rfl) q354 mh_X0 np_X0_need dX0_lay_44) (tX0_need l w e_3) (Nat.le_of_ble_eq_true rfl) (Nat.le_of_ble_eq_true rfl) ?_
      refine z_catch C [] 0 66 67 8 [] rfl (by decide) (by decide) (by decide) (ci := 1) (Cn := RX1) (T0 := TX1) (N := 7) rfl (zSee.fix ly_x1) q118 ?_
      refine z_astore C dX0_lay_67 (by decide) rfl (lv' := [(4, .ref (w.2.2 1)), (0, .ref (w.2.2 0)), (1, .int p1), (2, .int p2), (3, .int p3)]) ?_
      refine z_aload_n C 1 dX0_lay_69 rfl rfl ?_
      refine z_aload C 0 dX0_lay_70 rfl ?_
      obtain ⟨r_29, σ_31, e_30, hf⟩ := bd_ hf
      refine z_calli C (rest := []) (av := (.ref (w.2.2 0) :: [.ref (w.2.2 1)])) (zPay.of q362 q74) (fun H ls hH h2 => zInv_V C (As := [.ref (w.2.2 1)]) (rest := []) (ci := 0) (T := TX0) (N := 8) rfl (zSee.fix ly_x0) hH q359 q361 qs2 (Or.inl rfl) q362 mh_X0 np_X0_finds dX0_lay_72) (tX0_finds l w e_30) (Nat.le_of_ble_eq_true rfl) (Nat.le_of_ble_eq_true rfl) ?_
      obtain ⟨rfl, rfl⟩ := fin_ hf
      exact z_iret C rfl dX0_lay_75
  replace hf := ej_1
  refine z_if_eq C 42 dX0_lay_6 (by decide) (fun c_32 => ?_) (fun c_32 => ?_)
  · replace hf := ifp_t c_32 hf
    refine z_iconst C 0 dX0_lay_42 (by decide) ?_
    subst hf
    exact hjj_1
  · replace hf := ifp_f c_32 hf
    refine z_iload_n C 2 dX0_lay_9 rfl rfl ?_
    refine z_iconst C 0 dX0_lay_10 (by decide) ?_
    refine z_iconst C 2 dX0_lay_11 (by decide) ?_
    refine z_calli C (rest := [.ref (w.2.2 0)]) (av := [.int p2, .int 0, .int 2]) (zPay.of q350 q74) (fun H ls hH h2 => zInv_S C (As := [.int p2, .int 0, .int 2]) (rest := [.ref (w.2.2 0)]) q348 q349 q74 (Or.inl rfl) q350 mh_X0 np_X0_in dX0_lay_12) (tX0_in l w zLx σ p2 0 2) (Nat.le_of_ble_eq_true rfl) (Nat.le_of_ble_eq_true rfl) ?_
    refine z_if_eq C 42 dX0_lay_15 (by decide) (fun c_33 => ?_) (fun c_33 => ?_)
    · replace hf := ifp_t c_33 hf
      refine z_iconst C 0 dX0_lay_42 (by decide) ?_
      subst hf
      exact hjj_1
    · replace hf := ifp_f c_33 hf
      refine z_iload_n C 3 dX0_lay_18 rfl rfl ?_
      refine z_iconst C 0 dX0_lay_19 (by decide) ?_
      refine z_iload_n C 2 dX0_lay_20 rfl rfl ?_
      obtain ⟨j_34, ej_34, hf⟩ := nmp_ hf
      have hjj_34 : Z p l e (zRm 2 28 σ) s m args below meth c (zQ below w zLx σ (.returned (some (.int r))) σ' args s) w zLx (zA w zLx σ) 5 σ 32 [(0, .ref (w.2.2 0)), (1, .int p1), (2, .int p2), (3, .int p3)] [.int j_34, .int 0, .int p3, .ref (w.2.2 0)] := by
        refine z_calli C (rest := [.ref (w.2.2 0)]) (av := [.int p3, .int 0, .int j_34]) (zPay.of q350 q74) (fun H ls hH h2 => zInv_S C (As := [.int p3, .int 0, .int j_34]) (rest := [.ref (w.2.2 0)]) q348 q349 q74 (Or.inl rfl) q350 mh_X0 np_X0_in dX0_lay_32) (tX0_in l w zLx σ p3 0 j_34) (Nat.le_of_ble_eq_true rfl) (Nat.le_of_ble_eq_true rfl) ?_
        refine z_if_eq C 42 dX0_lay_35 (by decide) (fun c_35 => ?_) (fun c_35 => ?_)
        · replace hf := ifp_t c_35 hf
          refine z_iconst C 0 dX0_lay_42 (by decide) ?_
          subst hf
          exact hjj_1
        · replace hf := ifp_f c_35 hf
          refine z_iconst C 1 dX0_lay_38 (by decide) ?_
          refine z_goto C 43 dX0_lay_39 (by decide) ?_
          subst hf
          exact hjj_1
      replace hf := ej_34
      refine z_if_ne C 29 dX0_lay_21 (by decide) (fun c_36 => ?_) (fun c_36 => ?_)
      · replace hf := ifp_f c_36 hf
        refine z_sipush C 999 dX0_lay_29 (by decide) ?_
        subst hf
        exact hjj_34
      · replace hf := ifp_t c_36 hf
        refine z_bipush C 9 dX0_lay_24 (by decide) ?_
        refine z_goto C 32 dX0_lay_26 (by decide) ?_
        subst hf
        exact hjj_34
def fX0_isOfBay (σ : ZS) (p1 : Int32) (p2 : Int32) : Option Int32 := nm (if p1 = 2 then (fX0_areCells σ p2) else (nm (if p1 = 0 then 999 else 99) (fun (j_4 : Int32) => fX0_in p2 0 j_4))) (fun (j_1 : Int32) => gd (j_1 = 0 ∨ j_1 = 1) (some j_1))
set_option maxHeartbeats 4000000 in
set_option maxRecDepth 100000 in
theorem tX0_isOfBay (l : Launch) (w : ZW) {σ : ZS} {p1 : Int32} {p2 : Int32} {r : Int32} (hf : fX0_isOfBay σ p1 p2 = some r) : zC l w zLx yX0_isOfBay (ws_ yX0_isOfBay cX0_isOfBay 3 (some .boolean)) 2 27 [.ref (w.2.2 0), .int p1, .int p2] σ (.returned (some (.int r))) σ := by
  refine zC.of (plainFor_of_name (by decide)) (Nat.le_of_ble_eq_true rfl) ?_
  intro p e s m args below meth c C hnm
  show Z p l e _ s m args below meth c _ w _ _ 3 σ 0 [(0, .ref (w.2.2 0)), (1, .int p1), (2, .int p2)] []
  unfold fX0_isOfBay at hf
  refine z_iload_n C 1 dX0_isOfBay_0 rfl rfl ?_
  refine z_iconst C 2 dX0_isOfBay_1 (by decide) ?_
  obtain ⟨j_1, ej_1, hf⟩ := nmo_ hf
  have hjj_1 : Z p l e (zRm 2 27 σ) s m args below meth c (zQ below w zLx σ (.returned (some (.int r))) σ args s) w zLx (zA w zLx σ) 3 σ 30 [(0, .ref (w.2.2 0)), (1, .int p1), (2, .int p2)] [.int j_1] := by
    obtain ⟨g_2, hf⟩ := gd_ hf
    obtain rfl := fino_ hf
    exact z_iret C (b01 g_2) dX0_isOfBay_30
  replace hf := ej_1
  refine z_icmp_ne C 13 dX0_isOfBay_2 (by decide) (fun c_3 => ?_) (fun c_3 => ?_)
  · replace hf := ifp_f c_3 hf
    refine z_iload_n C 2 dX0_isOfBay_13 rfl rfl ?_
    refine z_iconst C 0 dX0_isOfBay_14 (by decide) ?_
    refine z_iload_n C 1 dX0_isOfBay_15 rfl rfl ?_
    obtain ⟨j_4, ej_4, hf⟩ := nmp_ hf
    have hjj_4 : Z p l e (zRm 2 27 σ) s m args below meth c (zQ below w zLx σ (.returned (some (.int r))) σ args s) w zLx (zA w zLx σ) 3 σ 27 [(0, .ref (w.2.2 0)), (1, .int p1), (2, .int p2)] [.int j_4, .int 0, .int p2] := by
      refine z_calli C (rest := []) (av := [.int p2, .int 0, .int j_4]) (zPay.of q350 q74) (fun H ls hH h2 => zInv_S C (As := [.int p2, .int 0, .int j_4]) (rest := []) q348 q349 q74 (Or.inl rfl) q350 mh_X0 np_X0_in dX0_isOfBay_27) (tX0_in l w zLx σ p2 0 j_4) (Nat.le_of_ble_eq_true rfl) (Nat.le_of_ble_eq_true rfl) ?_
      subst hf
      exact hjj_1
    replace hf := ej_4
    refine z_if_ne C 25 dX0_isOfBay_16 (by decide) (fun c_5 => ?_) (fun c_5 => ?_)
    · replace hf := ifp_f c_5 hf
      refine z_bipush C 99 dX0_isOfBay_25 (by decide) ?_
      subst hf
      exact hjj_4
    · replace hf := ifp_t c_5 hf
      refine z_sipush C 999 dX0_isOfBay_19 (by decide) ?_
      refine z_goto C 27 dX0_isOfBay_22 (by decide) ?_
      subst hf
      exact hjj_4
  · replace hf := ifp_t c_3 hf
    refine z_aload_n C 0 dX0_isOfBay_5 rfl rfl ?_
    refine z_iload_n C 2 dX0_isOfBay_6 rfl rfl ?_
    refine z_calli C (rest := []) (av := (.ref (w.2.2 0) :: [.int p2])) (zPay.of q448 q74) (fun H ls hH h2 => zInv_V C (As := [.int p2]) (rest := []) (ci := 0) (T := TX0) (N := 8) rfl (zSee.fix ly_x0) hH q445 q447 qs6 (Or.inl rfl) q448 mh_X0 np_X0_areCells dX0_isOfBay_7) (tX0_areCells l w σ p2) (Nat.le_of_ble_eq_true rfl) (Nat.le_of_ble_eq_true rfl) ?_
    refine z_goto C 30 dX0_isOfBay_10 (by decide) ?_
    subst hf
    exact hjj_1
def fX0_shipAt (σ : ZS) (p1 : Int32) (p2 : Int32) : Option ((Nat ⊕ Unit) × ZS) := nm (if (fX0_isShip σ p1) = 0 then 0 else (if p2 = 0 then 0 else 1)) (fun (j_1 : Int32) => bd (fX0_need σ j_1 1) (fun r_2 σ_4 => sc r_2 (fun _ => gd (¬ (p1 < 0 ∨ 7 ≤ p1.toNatClampNeg)) (bo (σ_4.2.1 (100 + 10) (p1.toNatClampNeg)) (fun (a_8 : Nat) => some (.inl a_8, σ_4)))) (fun _ => some (.inr (), σ_4))))
set_option maxHeartbeats 4000000 in
set_option maxRecDepth 100000 in
theorem tX0_shipAt (l : Launch) (w : ZW) {σ σ' : ZS} {p1 : Int32} {p2 : Int32} {r : Nat ⊕ Unit} (hf : fX0_shipAt σ p1 p2 = some (r, σ')) : zC l w zLx yX0_shipAt (ws_ yX0_shipAt cX0_shipAt 3 (some (.object "OldLight$Ship"))) 2 28 [.ref (w.2.2 0), .int p1, .int p2] σ (ocA w r) σ' := by
  refine zC.of (plainFor_of_name (by decide)) (Nat.le_of_ble_eq_true rfl) ?_
  intro p e s m args below meth c C hnm
  show Z p l e _ s m args below meth c _ w _ _ 3 σ 0 [(0, .ref (w.2.2 0)), (1, .int p1), (2, .int p2)] []
  unfold fX0_shipAt at hf
  refine z_aload_n C 0 dX0_shipAt_0 rfl rfl ?_
  refine z_aload_n C 0 dX0_shipAt_1 rfl rfl ?_
  refine z_iload_n C 1 dX0_shipAt_2 rfl rfl ?_
  refine z_calli C (rest := [.ref (w.2.2 0)]) (av := (.ref (w.2.2 0) :: [.int p1])) (zPay.of q561 q74) (fun H ls hH h2 => zInv_V C (As := [.int p1]) (rest := [.ref (w.2.2 0)]) (ci := 0) (T := TX0) (N := 8) rfl (zSee.fix ly_x0) hH q558 q560 qs8 (Or.inl rfl) q561 mh_X0 np_X0_isShip dX0_shipAt_3) (tX0_isShip l w σ p1) (Nat.le_of_ble_eq_true rfl) (Nat.le_of_ble_eq_true rfl) ?_
  obtain ⟨j_1, ej_1, hf⟩ := nmo_ hf
  have hj_1 : j_1 = 0 ∨ j_1 = 1 := by rw [ej_1]; (try dsimp only [nm]); (repeat' split) <;> first | exact Or.inl rfl | exact Or.inr rfl
  have hjj_1 : Z p l e (zRm 2 28 σ) s m args below meth c (zQ below w zLx σ (ocA w r) σ' args s) w zLx (zA w zLx σ) 3 σ 18 [(0, .ref (w.2.2 0)), (1, .int p1), (2, .int p2)] [.int j_1, .ref (w.2.2 0)] := by
    refine z_iconst C 1 dX0_shipAt_18 (by decide) ?_
    obtain ⟨r_2, σ_4, e_3, hf⟩ := bd_ hf
    rcases r_2 with ⟨⟩ | ⟨⟩
    · dsimp only [sc] at hf
      refine z_callv C (rest := []) (av := (.ref (w.2.2 0) :: [.int j_1, .int 1])) (zPay.of q354 q74) (fun H ls hH h2 => zInv_V C (As := [.int j_1, .int 1]) (rest := []) (ci := 0) (T := TX0) (N := 8) rfl (zSee.fix ly_x0) hH q351 q353 qs1 (Or.inl rfl) q354 mh_X0 np_X0_need dX0_shipAt_19) (tX0_need l w e_3) (Nat.le_of_ble_eq_true rfl) (Nat.le_of_ble_eq_true rfl) ?_
      refine z_aload_n C 0 dX0_shipAt_22 rfl rfl ?_
      refine z_getR C ly_x0 (Cn := RX0) (T := TX0) (N := 8) rfl in_X0 1 (by decide) q320 (Or.inl rfl) rfl dX0_shipAt_23 ?_
      refine z_getRN C (ly_b0 zb100) (Cn := RX2) (T := TX2) (N := 20) rfl in_X2 9 (by decide) q232 (Or.inl rfl) rfl dX0_shipAt_26 ?_
      refine z_iload_n C 1 dX0_shipAt_29 rfl rfl ?_
      obtain ⟨g_7, hf⟩ := gd_ hf
      refine z_aaloadF C (ly_b10 zb100) rfl g_7 dX0_shipAt_30 ?_
      obtain ⟨a_8, e_9, hf⟩ := bo_ hf
      refine z_eq (rf_s e_9) ?_
      obtain ⟨rfl, rfl⟩ := fin_ hf
      exact z_aret C (Or.inl ⟨_, rfl⟩) (Or.inr ⟨_, rfl⟩) dX0_shipAt_31
    · dsimp only [sc] at hf
      refine z_callt C (rest := []) (av := (.ref (w.2.2 0) :: [.int j_1, .int 1])) (zPay.of q354 q74) (fun H ls hH h2 => zInv_V C (As := [.int j_1, .int 1]) (rest := []) (ci := 0) (T := TX0) (N := 8) rfl (zSee.fix ly_x0) hH q351 q353 qs1 (Or.inl rfl) q354 mh_X0 np_X0_need dX0_shipAt_19) (tX0_need l w e_3) (Nat.le_of_ble_eq_true rfl) (Nat.le_of_ble_eq_true rfl) ?_
      obtain ⟨rfl, rfl⟩ := fin_ hf
      exact z_tout C (by decide)
  replace hf := ej_1
  refine z_if_eq C 17 dX0_shipAt_6 (by decide) (fun c_10 => ?_) (fun c_10 => ?_)
  · replace hf := ifp_t c_10 hf
    refine z_iconst C 0 dX0_shipAt_17 (by decide) ?_
    subst hf
    exact hjj_1
  · replace hf := ifp_f c_10 hf
    refine z_iload_n C 2 dX0_shipAt_9 rfl rfl ?_
    refine z_if_eq C 17 dX0_shipAt_10 (by decide) (fun c_11 => ?_) (fun c_11 => ?_)
    · replace hf := ifp_t c_11 hf
      refine z_iconst C 0 dX0_shipAt_17 (by decide) ?_
      subst hf
      exact hjj_1
    · replace hf := ifp_f c_11 hf
      refine z_iconst C 1 dX0_shipAt_13 (by decide) ?_
      refine z_goto C 18 dX0_shipAt_14 (by decide) ?_
      subst hf
      exact hjj_1
def fX0_change (σ : ZS) (p1 : Int32) (p2 : Int32) (p3 : Int32) : Option (Int32 × ZS) := bo (if (fX0_isShip σ p1) = 0 then (some 0) else (if (fX0_in p2 0 2) = 0 then (some 0) else (bo (fX0_isOfShip σ p2 p3) (fun r_22 => if r_22 = 0 then (some 0) else (some 1))))) (fun (j_1 : Int32) => bd (fX0_need σ j_1 1) (fun r_4 σ_6 => sc r_4 (fun _ => if p2 = 0 then (gd (¬ (p1 < 0 ∨ 7 ≤ p1.toNatClampNeg)) (nm (σ_6.1 (100 + 11) p1.toNatClampNeg) (fun (x5_16 : Int32) => some (x5_16, sI σ_6 (100 + 11) (p1.toNatClampNeg) p3)))) else (if p2 = 1 then (gd (¬ (p1 < 0 ∨ 7 ≤ p1.toNatClampNeg)) (nm (σ_6.1 (100 + 12) p1.toNatClampNeg) (fun (x5_14 : Int32) => some (x5_14, sI σ_6 (100 + 12) (p1.toNatClampNeg) p3)))) else (gd (¬ (p1 < 0 ∨ 7 ≤ p1.toNatClampNeg)) (nm (σ_6.1 (100 + 13) p1.toNatClampNeg) (fun (x5_12 : Int32) => some (x5_12, sI σ_6 (100 + 13) (p1.toNatClampNeg) p3)))))) (fun _ => bd (fX0_finds σ_6) (fun r_17 σ_19 => some (r_17, σ_19)))))
set_option maxHeartbeats 4000000 in
set_option maxRecDepth 100000 in
theorem tX0_change (l : Launch) (w : ZW) {σ σ' : ZS} {p1 : Int32} {p2 : Int32} {p3 : Int32} {r : Int32} (hf : fX0_change σ p1 p2 p3 = some (r, σ')) : zC l w zLx yX0_change (wsW_ yX0_change cX0_change 6 (some .int) [(0, 87, 88, 8)]) 3 42 [.ref (w.2.2 0), .int p1, .int p2, .int p3] σ (.returned (some (.int r))) σ' := by
  refine zC.ofW (plainFor_of_name (by decide)) (Nat.le_of_ble_eq_true rfl) ?_
  intro p e s m args below meth c C hnm
  show Z p l e _ s m args below meth c _ w _ _ 6 σ 0 [(0, .ref (w.2.2 0)), (1, .int p1), (2, .int p2), (3, .int p3)] []
  unfold fX0_change at hf
  refine z_aload_n C 0 dX0_change_0 rfl rfl ?_
  refine z_aload_n C 0 dX0_change_1 rfl rfl ?_
  refine z_iload_n C 1 dX0_change_2 rfl rfl ?_
  refine z_calli C (rest := [.ref (w.2.2 0)]) (av := (.ref (w.2.2 0) :: [.int p1])) (zPay.of q561 q74) (fun H ls hH h2 => zInv_V C (As := [.int p1]) (rest := [.ref (w.2.2 0)]) (ci := 0) (T := TX0) (N := 8) rfl (zSee.fix ly_x0) hH q558 q560 qs8 (Or.inl rfl) q561 mh_X0 np_X0_isShip dX0_change_3) (tX0_isShip l w σ p1) (Nat.le_of_ble_eq_true rfl) (Nat.le_of_ble_eq_true rfl) ?_
  obtain ⟨j_1, e_3, hf⟩ := bo_ hf
  have hje_3 : Z p l e (zRm 3 42 σ) s m args below meth c (zQ below w zLx σ (.returned (some (.int r))) σ' args s) w zLx (zA w zLx σ) 6 σ 32 [(0, .ref (w.2.2 0)), (1, .int p1), (2, .int p2), (3, .int p3)] [.int j_1, .ref (w.2.2 0)] := by
    refine z_iconst C 1 dX0_change_32 (by decide) ?_
    obtain ⟨r_4, σ_6, e_5, hf⟩ := bd_ hf
    rcases r_4 with ⟨⟩ | ⟨⟩
    · dsimp only [sc] at hf
      refine z_callv C (rest := []) (av := (.ref (w.2.2 0) :: [.int j_1, .int 1])) (zPay.of q354 q74) (fun H ls hH h2 => zInv_V C (As := [.int j_1, .int 1]) (rest := []) (ci := 0) (T := TX0) (N := 8) rfl (zSee.fix ly_x0) hH q351 q353 qs1 (Or.inl rfl) q354 mh_X0 np_X0_need dX0_change_33) (tX0_need l w e_5) (Nat.le_of_ble_eq_true rfl) (Nat.le_of_ble_eq_true rfl) ?_
      refine z_iload_n C 2 dX0_change_36 rfl rfl ?_
      refine z_if_ne C 50 dX0_change_37 (by decide) (fun c_9 => ?_) (fun c_9 => ?_)
      · replace hf := if_f c_9 hf
        refine z_iload_n C 2 dX0_change_50 rfl rfl ?_
        refine z_iconst C 1 dX0_change_51 (by decide) ?_
        refine z_icmp_ne C 65 dX0_change_52 (by decide) (fun c_10 => ?_) (fun c_10 => ?_)
        · replace hf := if_f c_10 hf
          refine z_aload_n C 0 dX0_change_65 rfl rfl ?_
          refine z_getR C ly_x0 (Cn := RX0) (T := TX0) (N := 8) rfl in_X0 1 (by decide) q320 (Or.inl rfl) rfl dX0_change_66 ?_
          refine z_getRN C (ly_b0 zb100) (Cn := RX2) (T := TX2) (N := 20) rfl in_X2 12 (by decide) q238 (Or.inl rfl) rfl dX0_change_69 ?_
          refine z_astore C dX0_change_72 (by decide) rfl (lv' := [(4, .ref (w.2.2 (100 + 13))), (0, .ref (w.2.2 0)), (1, .int p1), (2, .int p2), (3, .int p3)]) ?_
          refine z_aload C 0 dX0_change_74 rfl ?_
          refine z_iload_n C 2 dX0_change_76 rfl rfl ?_
          obtain ⟨g_11, hf⟩ := gd_ hf
          refine z_ialoadF C (ly_b13 zb100) g_11 dX0_change_77 ?_
          obtain ⟨x5_12, ex5_12, hf⟩ := nmo_ hf
          refine z_top ex5_12 ?_
          refine z_istore C dX0_change_78 (by decide) rfl (lv' := [(5, .int x5_12), (4, .ref (w.2.2 (100 + 13))), (0, .ref (w.2.2 0)), (1, .int p1), (2, .int p2), (3, .int p3)]) ?_
          refine z_aload C 1 dX0_change_80 rfl ?_
          refine z_iload_n C 3 dX0_change_82 rfl rfl ?_
          refine z_iload_n C 5 dX0_change_83 rfl rfl ?_
          refine z_iastore C (ly_b13 zb100) g_11 dX0_change_84 ?_
          refine z_iload C 0 dX0_change_85 rfl ?_
          obtain ⟨rfl, rfl⟩ := fin_ hf
          exact z_iret C rfl dX0_change_87
        · replace hf := if_t c_10 hf
          refine z_aload_n C 0 dX0_change_55 rfl rfl ?_
          refine z_getR C ly_x0 (Cn := RX0) (T := TX0) (N := 8) rfl in_X0 1 (by decide) q320 (Or.inl rfl) rfl dX0_change_56 ?_
          refine z_getRN C (ly_b0 zb100) (Cn := RX2) (T := TX2) (N := 20) rfl in_X2 11 (by decide) q236 (Or.inl rfl) rfl dX0_change_59 ?_
          refine z_goto C 72 dX0_change_62 (by decide) ?_
          refine z_astore C dX0_change_72 (by decide) rfl (lv' := [(4, .ref (w.2.2 (100 + 12))), (0, .ref (w.2.2 0)), (1, .int p1), (2, .int p2), (3, .int p3)]) ?_
          refine z_aload C 0 dX0_change_74 rfl ?_
          refine z_iload_n C 2 dX0_change_76 rfl rfl ?_
          obtain ⟨g_13, hf⟩ := gd_ hf
          refine z_ialoadF C (ly_b12 zb100) g_13 dX0_change_77 ?_
          obtain ⟨x5_14, ex5_14, hf⟩ := nmo_ hf
          refine z_top ex5_14 ?_
          refine z_istore C dX0_change_78 (by decide) rfl (lv' := [(5, .int x5_14), (4, .ref (w.2.2 (100 + 12))), (0, .ref (w.2.2 0)), (1, .int p1), (2, .int p2), (3, .int p3)]) ?_
          refine z_aload C 1 dX0_change_80 rfl ?_
          refine z_iload_n C 3 dX0_change_82 rfl rfl ?_
          refine z_iload_n C 5 dX0_change_83 rfl rfl ?_
          refine z_iastore C (ly_b12 zb100) g_13 dX0_change_84 ?_
          refine z_iload C 0 dX0_change_85 rfl ?_
          obtain ⟨rfl, rfl⟩ := fin_ hf
          exact z_iret C rfl dX0_change_87
      · replace hf := if_t c_9 hf
        refine z_aload_n C 0 dX0_change_40 rfl rfl ?_
        refine z_getR C ly_x0 (Cn := RX0) (T := TX0) (N := 8) rfl in_X0 1 (by decide) q320 (Or.inl rfl) rfl dX0_change_41 ?_
        refine z_getRN C (ly_b0 zb100) (Cn := RX2) (T := TX2) (N := 20) rfl in_X2 10 (by decide) q234 (Or.inl rfl) rfl dX0_change_44 ?_
        refine z_goto C 72 dX0_change_47 (by decide) ?_
        refine z_astore C dX0_change_72 (by decide) rfl (lv' := [(4, .ref (w.2.2 (100 + 11))), (0, .ref (w.2.2 0)), (1, .int p1), (2, .int p2), (3, .int p3)]) ?_
        refine z_aload C 0 dX0_change_74 rfl ?_
        refine z_iload_n C 2 dX0_change_76 rfl rfl ?_
        obtain ⟨g_15, hf⟩ := gd_ hf
        refine z_ialoadF C (ly_b11 zb100) g_15 dX0_change_77 ?_
        obtain ⟨x5_16, ex5_16, hf⟩ := nmo_ hf
        refine z_top ex5_16 ?_
        refine z_istore C dX0_change_78 (by decide) rfl (lv' := [(5, .int x5_16), (4, .ref (w.2.2 (100 + 11))), (0, .ref (w.2.2 0)), (1, .int p1), (2, .int p2), (3, .int p3)]) ?_
        refine z_aload C 1 dX0_change_80 rfl ?_
        refine z_iload_n C 3 dX0_change_82 rfl rfl ?_
        refine z_iload_n C 5 dX0_change_83 rfl rfl ?_
        refine z_iastore C (ly_b11 zb100) g_15 dX0_change_84 ?_
        refine z_iload C 0 dX0_change_85 rfl ?_
        obtain ⟨rfl, rfl⟩ := fin_ hf
        exact z_iret C rfl dX0_change_87
    · dsimp only [sc] at hf
      refine z_callt C (rest := []) (av := (.ref (w.2.2 0) :: [.int j_1, .int 1])) (zPay.of q354 q74) (fun H ls hH h2 => zInv_V C (As := [.int j_1, .int 1]) (rest := []) (ci := 0) (T := TX0) (N := 8) rfl (zSee.fix ly_x0) hH q351 q353 qs1 (Or.inl rfl) q354 mh_X0 np_X0_need dX0_change_33) (tX0_need l w e_5) (Nat.le_of_ble_eq_true rfl) (Nat.le_of_ble_eq_true rfl) ?_
      refine z_catch C [] 0 87 88 8 [] rfl (by decide) (by decide) (by decide) (ci := 1) (Cn := RX1) (T0 := TX1) (N := 7) rfl (zSee.fix ly_x1) q118 ?_
      refine z_astore C dX0_change_88 (by decide) rfl (lv' := [(4, .ref (w.2.2 1)), (0, .ref (w.2.2 0)), (1, .int p1), (2, .int p2), (3, .int p3)]) ?_
      refine z_aload_n C 1 dX0_change_90 rfl rfl ?_
      refine z_aload C 0 dX0_change_91 rfl ?_
      obtain ⟨r_17, σ_19, e_18, hf⟩ := bd_ hf
      refine z_calli C (rest := []) (av := (.ref (w.2.2 0) :: [.ref (w.2.2 1)])) (zPay.of q362 q74) (fun H ls hH h2 => zInv_V C (As := [.ref (w.2.2 1)]) (rest := []) (ci := 0) (T := TX0) (N := 8) rfl (zSee.fix ly_x0) hH q359 q361 qs2 (Or.inl rfl) q362 mh_X0 np_X0_finds dX0_change_93) (tX0_finds l w e_18) (Nat.le_of_ble_eq_true rfl) (Nat.le_of_ble_eq_true rfl) ?_
      obtain ⟨rfl, rfl⟩ := fin_ hf
      exact z_iret C rfl dX0_change_96
  replace hf := e_3
  refine z_if_eq C 31 dX0_change_6 (by decide) (fun c_20 => ?_) (fun c_20 => ?_)
  · replace hf := if_t c_20 hf
    refine z_iconst C 0 dX0_change_31 (by decide) ?_
    obtain rfl := fino_ hf
    exact hje_3
  · replace hf := if_f c_20 hf
    refine z_iload_n C 2 dX0_change_9 rfl rfl ?_
    refine z_iconst C 0 dX0_change_10 (by decide) ?_
    refine z_iconst C 2 dX0_change_11 (by decide) ?_
    refine z_calli C (rest := [.ref (w.2.2 0)]) (av := [.int p2, .int 0, .int 2]) (zPay.of q350 q74) (fun H ls hH h2 => zInv_S C (As := [.int p2, .int 0, .int 2]) (rest := [.ref (w.2.2 0)]) q348 q349 q74 (Or.inl rfl) q350 mh_X0 np_X0_in dX0_change_12) (tX0_in l w zLx σ p2 0 2) (Nat.le_of_ble_eq_true rfl) (Nat.le_of_ble_eq_true rfl) ?_
    refine z_if_eq C 31 dX0_change_15 (by decide) (fun c_21 => ?_) (fun c_21 => ?_)
    · replace hf := if_t c_21 hf
      refine z_iconst C 0 dX0_change_31 (by decide) ?_
      obtain rfl := fino_ hf
      exact hje_3
    · replace hf := if_f c_21 hf
      refine z_aload_n C 0 dX0_change_18 rfl rfl ?_
      refine z_iload_n C 2 dX0_change_19 rfl rfl ?_
      refine z_iload_n C 3 dX0_change_20 rfl rfl ?_
      obtain ⟨r_22, e_23, hf⟩ := bo_ hf
      refine z_calli C (rest := [.ref (w.2.2 0)]) (av := (.ref (w.2.2 0) :: [.int p2, .int p3])) (zPay.of q632 q74) (fun H ls hH h2 => zInv_V C (As := [.int p2, .int p3]) (rest := [.ref (w.2.2 0)]) (ci := 0) (T := TX0) (N := 8) rfl (zSee.fix ly_x0) hH q629 q631 qs10 (Or.inl rfl) q632 mh_X0 np_X0_isOfShip dX0_change_21) (tX0_isOfShip l w e_23) (Nat.le_of_ble_eq_true rfl) (Nat.le_of_ble_eq_true rfl) ?_
      refine z_if_eq C 31 dX0_change_24 (by decide) (fun c_24 => ?_) (fun c_24 => ?_)
      · replace hf := if_t c_24 hf
        refine z_iconst C 0 dX0_change_31 (by decide) ?_
        obtain rfl := fino_ hf
        exact hje_3
      · replace hf := if_f c_24 hf
        refine z_iconst C 1 dX0_change_27 (by decide) ?_
        refine z_goto C 32 dX0_change_28 (by decide) ?_
        obtain rfl := fino_ hf
        exact hje_3
def fX0_feed_L39 (y1 : Int64) (y3 : Int32) : Nat → Int32 → ZS → Option ((Int32) × ZS)
  | 0, _, _ => none
  | n + 1, y4, σ => if y3 ≤ y4 then (some (y4, σ)) else (nm (((y1 >>> ((8 * y4).toInt64 &&& 63)).toInt32).toInt8.toInt32) (fun (v_13 : Int32) => gd (¬ ((σ.1 100 16) < 0 ∨ 50 ≤ (σ.1 100 16).toNatClampNeg)) (nm (((sI σ (100 + 16) ((σ.1 100 16).toNatClampNeg) (vp_nar .byte v_13)).1 100 16) + 1) (fun (f_15 : Int32) => nm (y4 + 1) (fun (x4_16 : Int32) => fX0_feed_L39 y1 y3 n x4_16 (sI (sI σ (100 + 16) ((σ.1 100 16).toNatClampNeg) (vp_nar .byte v_13)) 100 16 f_15))))))
def fX0_feed (σ : ZS) (p1 : Int64) (p2 : Int32) : Option (Int32 × ZS) := bd (fX0_need σ (fX0_in p2 1 8) 1) (fun r_1 σ_3 => sc r_1 (fun _ => nm (if 50 < ((σ_3.1 100 16) + p2) then 0 else 1) (fun (j_6 : Int32) => bd (fX0_need σ_3 j_6 4) (fun r_7 σ_9 => sc r_7 (fun _ => bd (fX0_feed_L39 p1 p2 10000 0 σ_9) (fun x4_17 σ_18 => some (σ_18.1 100 16, σ_18))) (fun _ => bd (fX0_finds σ_9) (fun r_20 σ_22 => some (r_20, σ_22)))))) (fun _ => bd (fX0_finds σ_3) (fun r_24 σ_26 => some (r_24, σ_26))))
set_option maxHeartbeats 4000000 in
set_option maxRecDepth 100000 in
theorem lfX0_feed_L39 {p : Program} {l : Launch} {e : Env} {R : Room} {s : State} {m : MethodId} {args : Array Value} {below : List Frame} {meth : Method} {c : Code} {Q : State → Prop} {w : ZW} {A : Nat → Prop} {ret : Option FieldType} {hh : List (Nat × Nat × Nat × Nat)} (C : zCx p s m args meth c w zLx A 5 cX0_feed RX0 ret hh) (hfr : 0 ≤ R.frames) (hlo : 0 ≤ R.locals) (y1 : Int64) (y3 : Int32) {z4 : Int32} {σ' : ZS} (hk : Z p l e R s m args below meth c Q w zLx A 5 σ' 88 [(0, .ref (w.2.2 0)), (1, .long y1), (3, .int y3), (4, .int z4)] []) : ∀ (n : Nat) (y4 : Int32) (σ : ZS), fX0_feed_L39 y1 y3 n y4 σ = some (z4, σ') → Z p l e R s m args below meth c Q w zLx A 5 σ 39 [(0, .ref (w.2.2 0)), (1, .long y1), (3, .int y3), (4, .int y4)] [] := by
  intro n
  induction n with
  | zero => intro y4 σ hf; exact none_ hf
  | succ n ih =>
    intro y4 σ hf
    rw [fX0_feed_L39] at hf
    refine z_iload C 3 dX0_feed_39 rfl ?_
    refine z_iload_n C 2 dX0_feed_41 rfl rfl ?_
    refine z_icmp_ge C 88 dX0_feed_42 (by decide) (fun c_12 => ?_) (fun c_12 => ?_)
    · replace hf := if_t c_12 hf
      obtain ⟨rfl, rfl⟩ := fin_ hf
      exact hk
    · replace hf := if_f c_12 hf
      refine z_aload_n C 0 dX0_feed_45 rfl rfl ?_
      refine z_getR C ly_x0 (Cn := RX0) (T := TX0) (N := 8) rfl in_X0 1 (by decide) q320 (Or.inl rfl) rfl dX0_feed_46 ?_
      refine z_getRN C (ly_b0 zb100) (Cn := RX2) (T := TX2) (N := 20) rfl in_X2 15 (by decide) q244 (Or.inl rfl) rfl dX0_feed_49 ?_
      refine z_aload_n C 0 dX0_feed_52 rfl rfl ?_
      refine z_getR C ly_x0 (Cn := RX0) (T := TX0) (N := 8) rfl in_X0 1 (by decide) q320 (Or.inl rfl) rfl dX0_feed_53 ?_
      refine z_getIN C (ly_b0 zb100) (Cn := RX2) (T := TX2) (N := 20) rfl in_X2 16 (by decide) q246 (Or.inl rfl) rfl dX0_feed_56 ?_
      refine z_lload_n C 1 dX0_feed_59 rfl rfl ?_
      refine z_bipush C 8 dX0_feed_60 (by decide) ?_
      refine z_iload C 3 dX0_feed_62 rfl ?_
      refine z_imul C dX0_feed_64 ?_
      refine z_lshr C dX0_feed_65 ?_
      refine z_l2i C dX0_feed_66 ?_
      refine z_i2b C dX0_feed_67 ?_
      obtain ⟨v_13, ev_13, hf⟩ := nmo_ hf
      refine z_top ev_13 ?_
      obtain ⟨g_14, hf⟩ := gd_ hf
      refine z_bastore C (ly_b16 zb100) g_14 dX0_feed_68 ?_
      refine z_aload_n C 0 dX0_feed_69 rfl rfl ?_
      refine z_getR C ly_x0 (Cn := RX0) (T := TX0) (N := 8) rfl in_X0 1 (by decide) q320 (Or.inl rfl) rfl dX0_feed_70 ?_
      refine z_dup C dX0_feed_73 rfl ?_
      refine z_getIN C (ly_b0 zb100) (Cn := RX2) (T := TX2) (N := 20) rfl in_X2 16 (by decide) q246 (Or.inl rfl) rfl dX0_feed_74 ?_
      refine z_iconst C 1 dX0_feed_77 (by decide) ?_
      refine z_iadd C dX0_feed_78 ?_
      obtain ⟨f_15, ef_15, hf⟩ := nmo_ hf
      refine z_top ef_15 ?_
      refine z_putI C (ly_b0 zb100) (k := 16) rfl (zPutN C (Cn := RX2) (T := TX2) (N := 20) rfl in_X2 tyX2 tyX2_ok nmX2 16 (by decide) q246 (Or.inl rfl) rfl rfl rfl (zFs_lt (Nat.le_of_ble_eq_true rfl)) dX0_feed_79) ?_
      obtain ⟨x4_16, ex4_16, hf⟩ := nmo_ hf
      refine z_iinc C x4_16 3 dX0_feed_82 rfl (by rw [ex4_16]; rfl) (by decide) rfl (lv' := [(4, .int x4_16), (0, .ref (w.2.2 0)), (1, .long y1), (3, .int y3)]) ?_
      refine z_goto C 39 dX0_feed_85 (by decide) ?_
      exact z_lv [1, 2, 3, 0] rfl (ih _ _ hf)
set_option maxHeartbeats 4000000 in
set_option maxRecDepth 100000 in
theorem tX0_feed (l : Launch) (w : ZW) {σ σ' : ZS} {p1 : Int64} {p2 : Int32} {r : Int32} (hf : fX0_feed σ p1 p2 = some (r, σ')) : zC l w zLx yX0_feed (wsW_ yX0_feed cX0_feed 5 (some .int) [(0, 95, 96, 8)]) 2 27 [.ref (w.2.2 0), .long p1, .int p2] σ (.returned (some (.int r))) σ' := by
  refine zC.ofW (plainFor_of_name (by decide)) (Nat.le_of_ble_eq_true rfl) ?_
  intro p e s m args below meth c C hnm
  show Z p l e _ s m args below meth c _ w _ _ 5 σ 0 [(0, .ref (w.2.2 0)), (1, .long p1), (3, .int p2)] []
  unfold fX0_feed at hf
  refine z_aload_n C 0 dX0_feed_0 rfl rfl ?_
  refine z_iload_n C 2 dX0_feed_1 rfl rfl ?_
  refine z_iconst C 1 dX0_feed_2 (by decide) ?_
  refine z_bipush C 8 dX0_feed_3 (by decide) ?_
  refine z_calli C (rest := [.ref (w.2.2 0)]) (av := [.int p2, .int 1, .int 8]) (zPay.of q350 q74) (fun H ls hH h2 => zInv_S C (As := [.int p2, .int 1, .int 8]) (rest := [.ref (w.2.2 0)]) q348 q349 q74 (Or.inl rfl) q350 mh_X0 np_X0_in dX0_feed_5) (tX0_in l w zLx σ p2 1 8) (Nat.le_of_ble_eq_true rfl) (Nat.le_of_ble_eq_true rfl) ?_
  refine z_iconst C 1 dX0_feed_8 (by decide) ?_
  obtain ⟨r_1, σ_3, e_2, hf⟩ := bd_ hf
  rcases r_1 with ⟨⟩ | ⟨⟩
  · dsimp only [sc] at hf
    refine z_callv C (rest := []) (av := (.ref (w.2.2 0) :: [.int (fX0_in p2 1 8), .int 1])) (zPay.of q354 q74) (fun H ls hH h2 => zInv_V C (As := [.int (fX0_in p2 1 8), .int 1]) (rest := []) (ci := 0) (T := TX0) (N := 8) rfl (zSee.fix ly_x0) hH q351 q353 qs1 (Or.inl rfl) q354 mh_X0 np_X0_need dX0_feed_9) (tX0_need l w e_2) (Nat.le_of_ble_eq_true rfl) (Nat.le_of_ble_eq_true rfl) ?_
    refine z_aload_n C 0 dX0_feed_12 rfl rfl ?_
    refine z_aload_n C 0 dX0_feed_13 rfl rfl ?_
    refine z_getR C ly_x0 (Cn := RX0) (T := TX0) (N := 8) rfl in_X0 1 (by decide) q320 (Or.inl rfl) rfl dX0_feed_14 ?_
    refine z_getIN C (ly_b0 zb100) (Cn := RX2) (T := TX2) (N := 20) rfl in_X2 16 (by decide) q246 (Or.inl rfl) rfl dX0_feed_17 ?_
    refine z_iload_n C 2 dX0_feed_20 rfl rfl ?_
    refine z_iadd C dX0_feed_21 ?_
    refine z_bipush C 50 dX0_feed_22 (by decide) ?_
    obtain ⟨j_6, ej_6, hf⟩ := nmo_ hf
    have hj_6 : j_6 = 0 ∨ j_6 = 1 := by rw [ej_6]; (try dsimp only [nm]); (repeat' split) <;> first | exact Or.inl rfl | exact Or.inr rfl
    have hjj_6 : Z p l e (zRm 2 27 σ) s m args below meth c (zQ below w zLx σ (.returned (some (.int r))) σ' args s) w zLx (zA w zLx σ) 5 σ_3 32 [(0, .ref (w.2.2 0)), (1, .long p1), (3, .int p2)] [.int j_6, .ref (w.2.2 0)] := by
      refine z_iconst C 4 dX0_feed_32 (by decide) ?_
      obtain ⟨r_7, σ_9, e_8, hf⟩ := bd_ hf
      rcases r_7 with ⟨⟩ | ⟨⟩
      · dsimp only [sc] at hf
        refine z_callv C (rest := []) (av := (.ref (w.2.2 0) :: [.int j_6, .int 4])) (zPay.of q354 q74) (fun H ls hH h2 => zInv_V C (As := [.int j_6, .int 4]) (rest := []) (ci := 0) (T := TX0) (N := 8) rfl (zSee.fix ly_x0) hH q351 q353 qs1 (Or.inl rfl) q354 mh_X0 np_X0_need dX0_feed_33) (tX0_need l w e_8) (Nat.le_of_ble_eq_true rfl) (Nat.le_of_ble_eq_true rfl) ?_
        refine z_iconst C 0 dX0_feed_36 (by decide) ?_
        refine z_istore C dX0_feed_37 (by decide) rfl (lv' := [(4, .int 0), (0, .ref (w.2.2 0)), (1, .long p1), (3, .int p2)]) ?_
        obtain ⟨x4_17, σ_18, e_19, hf⟩ := bd_ hf
        refine z_lv (lv' := [(0, .ref (w.2.2 0)), (1, .long p1), (3, .int p2), (4, .int 0)]) [1, 2, 3, 0] rfl ?_
        refine lfX0_feed_L39 C (Nat.le_of_ble_eq_true rfl) (Nat.le_of_ble_eq_true rfl) p1 p2 ?_ _ _ _ e_19
        refine z_aload_n C 0 dX0_feed_88 rfl rfl ?_
        refine z_getR C ly_x0 (Cn := RX0) (T := TX0) (N := 8) rfl in_X0 1 (by decide) q320 (Or.inl rfl) rfl dX0_feed_89 ?_
        refine z_getIN C (ly_b0 zb100) (Cn := RX2) (T := TX2) (N := 20) rfl in_X2 16 (by decide) q246 (Or.inl rfl) rfl dX0_feed_92 ?_
        obtain ⟨rfl, rfl⟩ := fin_ hf
        exact z_iret C rfl dX0_feed_95
      · dsimp only [sc] at hf
        refine z_callt C (rest := []) (av := (.ref (w.2.2 0) :: [.int j_6, .int 4])) (zPay.of q354 q74) (fun H ls hH h2 => zInv_V C (As := [.int j_6, .int 4]) (rest := []) (ci := 0) (T := TX0) (N := 8) rfl (zSee.fix ly_x0) hH q351 q353 qs1 (Or.inl rfl) q354 mh_X0 np_X0_need dX0_feed_33) (tX0_need l w e_8) (Nat.le_of_ble_eq_true rfl) (Nat.le_of_ble_eq_true rfl) ?_
        refine z_catch C [] 0 95 96 8 [] rfl (by decide) (by decide) (by decide) (ci := 1) (Cn := RX1) (T0 := TX1) (N := 7) rfl (zSee.fix ly_x1) q118 ?_
        refine z_astore C dX0_feed_96 (by decide) rfl (lv' := [(4, .ref (w.2.2 1)), (0, .ref (w.2.2 0)), (1, .long p1), (3, .int p2)]) ?_
        refine z_aload_n C 1 dX0_feed_98 rfl rfl ?_
        refine z_aload C 0 dX0_feed_99 rfl ?_
        obtain ⟨r_20, σ_22, e_21, hf⟩ := bd_ hf
        refine z_calli C (rest := []) (av := (.ref (w.2.2 0) :: [.ref (w.2.2 1)])) (zPay.of q362 q74) (fun H ls hH h2 => zInv_V C (As := [.ref (w.2.2 1)]) (rest := []) (ci := 0) (T := TX0) (N := 8) rfl (zSee.fix ly_x0) hH q359 q361 qs2 (Or.inl rfl) q362 mh_X0 np_X0_finds dX0_feed_101) (tX0_finds l w e_21) (Nat.le_of_ble_eq_true rfl) (Nat.le_of_ble_eq_true rfl) ?_
        obtain ⟨rfl, rfl⟩ := fin_ hf
        exact z_iret C rfl dX0_feed_104
    replace hf := ej_6
    refine z_icmp_gt C 31 dX0_feed_24 (by decide) (fun c_23 => ?_) (fun c_23 => ?_)
    · replace hf := ifp_t c_23 hf
      refine z_iconst C 0 dX0_feed_31 (by decide) ?_
      subst hf
      exact hjj_6
    · replace hf := ifp_f c_23 hf
      refine z_iconst C 1 dX0_feed_27 (by decide) ?_
      refine z_goto C 32 dX0_feed_28 (by decide) ?_
      subst hf
      exact hjj_6
  · dsimp only [sc] at hf
    refine z_callt C (rest := []) (av := (.ref (w.2.2 0) :: [.int (fX0_in p2 1 8), .int 1])) (zPay.of q354 q74) (fun H ls hH h2 => zInv_V C (As := [.int (fX0_in p2 1 8), .int 1]) (rest := []) (ci := 0) (T := TX0) (N := 8) rfl (zSee.fix ly_x0) hH q351 q353 qs1 (Or.inl rfl) q354 mh_X0 np_X0_need dX0_feed_9) (tX0_need l w e_2) (Nat.le_of_ble_eq_true rfl) (Nat.le_of_ble_eq_true rfl) ?_
    refine z_catch C [] 0 95 96 8 [] rfl (by decide) (by decide) (by decide) (ci := 1) (Cn := RX1) (T0 := TX1) (N := 7) rfl (zSee.fix ly_x1) q118 ?_
    refine z_astore C dX0_feed_96 (by decide) rfl (lv' := [(4, .ref (w.2.2 1)), (0, .ref (w.2.2 0)), (1, .long p1), (3, .int p2)]) ?_
    refine z_aload_n C 1 dX0_feed_98 rfl rfl ?_
    refine z_aload C 0 dX0_feed_99 rfl ?_
    obtain ⟨r_24, σ_26, e_25, hf⟩ := bd_ hf
    refine z_calli C (rest := []) (av := (.ref (w.2.2 0) :: [.ref (w.2.2 1)])) (zPay.of q362 q74) (fun H ls hH h2 => zInv_V C (As := [.ref (w.2.2 1)]) (rest := []) (ci := 0) (T := TX0) (N := 8) rfl (zSee.fix ly_x0) hH q359 q361 qs2 (Or.inl rfl) q362 mh_X0 np_X0_finds dX0_feed_101) (tX0_finds l w e_25) (Nat.le_of_ble_eq_true rfl) (Nat.le_of_ble_eq_true rfl) ?_
    obtain ⟨rfl, rfl⟩ := fin_ hf
    exact z_iret C rfl dX0_feed_104
def fX0_mustGo (σ : ZS) (p1 : Int32) (p2 : Int32) : Option ((Unit ⊕ Unit) × ZS) := bd (fX0_need σ (fX0_in p1 1 p2) 1) (fun r_1 σ_3 => sc r_1 (fun _ => nm (if 9999 < ((σ_3.1 100 7) + p1) then 0 else 1) (fun (j_6 : Int32) => bd (fX0_need σ_3 j_6 3) (fun r_7 σ_9 => sc r_7 (fun _ => some (.inl (), σ_9)) (fun _ => some (.inr (), σ_9))))) (fun _ => some (.inr (), σ_3)))
set_option maxHeartbeats 4000000 in
set_option maxRecDepth 100000 in
theorem tX0_mustGo (l : Launch) (w : ZW) {σ σ' : ZS} {p1 : Int32} {p2 : Int32} {r : Unit ⊕ Unit} (hf : fX0_mustGo σ p1 p2 = some (r, σ')) : zC l w zLx yX0_mustGo (ws_ yX0_mustGo cX0_mustGo 3 none) 2 27 [.ref (w.2.2 0), .int p1, .int p2] σ (ocV w r) σ' := by
  refine zC.of (plainFor_of_name (by decide)) (Nat.le_of_ble_eq_true rfl) ?_
  intro p e s m args below meth c C hnm
  show Z p l e _ s m args below meth c _ w _ _ 3 σ 0 [(0, .ref (w.2.2 0)), (1, .int p1), (2, .int p2)] []
  unfold fX0_mustGo at hf
  refine z_aload_n C 0 dX0_mustGo_0 rfl rfl ?_
  refine z_iload_n C 1 dX0_mustGo_1 rfl rfl ?_
  refine z_iconst C 1 dX0_mustGo_2 (by decide) ?_
  refine z_iload_n C 2 dX0_mustGo_3 rfl rfl ?_
  refine z_calli C (rest := [.ref (w.2.2 0)]) (av := [.int p1, .int 1, .int p2]) (zPay.of q350 q74) (fun H ls hH h2 => zInv_S C (As := [.int p1, .int 1, .int p2]) (rest := [.ref (w.2.2 0)]) q348 q349 q74 (Or.inl rfl) q350 mh_X0 np_X0_in dX0_mustGo_4) (tX0_in l w zLx σ p1 1 p2) (Nat.le_of_ble_eq_true rfl) (Nat.le_of_ble_eq_true rfl) ?_
  refine z_iconst C 1 dX0_mustGo_7 (by decide) ?_
  obtain ⟨r_1, σ_3, e_2, hf⟩ := bd_ hf
  rcases r_1 with ⟨⟩ | ⟨⟩
  · dsimp only [sc] at hf
    refine z_callv C (rest := []) (av := (.ref (w.2.2 0) :: [.int (fX0_in p1 1 p2), .int 1])) (zPay.of q354 q74) (fun H ls hH h2 => zInv_V C (As := [.int (fX0_in p1 1 p2), .int 1]) (rest := []) (ci := 0) (T := TX0) (N := 8) rfl (zSee.fix ly_x0) hH q351 q353 qs1 (Or.inl rfl) q354 mh_X0 np_X0_need dX0_mustGo_8) (tX0_need l w e_2) (Nat.le_of_ble_eq_true rfl) (Nat.le_of_ble_eq_true rfl) ?_
    refine z_aload_n C 0 dX0_mustGo_11 rfl rfl ?_
    refine z_aload_n C 0 dX0_mustGo_12 rfl rfl ?_
    refine z_getR C ly_x0 (Cn := RX0) (T := TX0) (N := 8) rfl in_X0 1 (by decide) q320 (Or.inl rfl) rfl dX0_mustGo_13 ?_
    refine z_getIN C (ly_b0 zb100) (Cn := RX2) (T := TX2) (N := 20) rfl in_X2 7 (by decide) q228 (Or.inl rfl) rfl dX0_mustGo_16 ?_
    refine z_iload_n C 1 dX0_mustGo_19 rfl rfl ?_
    refine z_iadd C dX0_mustGo_20 ?_
    refine z_sipush C 9999 dX0_mustGo_21 (by decide) ?_
    obtain ⟨j_6, ej_6, hf⟩ := nmo_ hf
    have hj_6 : j_6 = 0 ∨ j_6 = 1 := by rw [ej_6]; (try dsimp only [nm]); (repeat' split) <;> first | exact Or.inl rfl | exact Or.inr rfl
    have hjj_6 : Z p l e (zRm 2 27 σ) s m args below meth c (zQ below w zLx σ (ocV w r) σ' args s) w zLx (zA w zLx σ) 3 σ_3 32 [(0, .ref (w.2.2 0)), (1, .int p1), (2, .int p2)] [.int j_6, .ref (w.2.2 0)] := by
      refine z_iconst C 3 dX0_mustGo_32 (by decide) ?_
      obtain ⟨r_7, σ_9, e_8, hf⟩ := bd_ hf
      rcases r_7 with ⟨⟩ | ⟨⟩
      · dsimp only [sc] at hf
        refine z_callv C (rest := []) (av := (.ref (w.2.2 0) :: [.int j_6, .int 3])) (zPay.of q354 q74) (fun H ls hH h2 => zInv_V C (As := [.int j_6, .int 3]) (rest := []) (ci := 0) (T := TX0) (N := 8) rfl (zSee.fix ly_x0) hH q351 q353 qs1 (Or.inl rfl) q354 mh_X0 np_X0_need dX0_mustGo_33) (tX0_need l w e_8) (Nat.le_of_ble_eq_true rfl) (Nat.le_of_ble_eq_true rfl) ?_
        obtain ⟨rfl, rfl⟩ := fin_ hf
        exact z_vret C dX0_mustGo_36
      · dsimp only [sc] at hf
        refine z_callt C (rest := []) (av := (.ref (w.2.2 0) :: [.int j_6, .int 3])) (zPay.of q354 q74) (fun H ls hH h2 => zInv_V C (As := [.int j_6, .int 3]) (rest := []) (ci := 0) (T := TX0) (N := 8) rfl (zSee.fix ly_x0) hH q351 q353 qs1 (Or.inl rfl) q354 mh_X0 np_X0_need dX0_mustGo_33) (tX0_need l w e_8) (Nat.le_of_ble_eq_true rfl) (Nat.le_of_ble_eq_true rfl) ?_
        obtain ⟨rfl, rfl⟩ := fin_ hf
        exact z_tout C (by decide)
    replace hf := ej_6
    refine z_icmp_gt C 31 dX0_mustGo_24 (by decide) (fun c_12 => ?_) (fun c_12 => ?_)
    · replace hf := ifp_t c_12 hf
      refine z_iconst C 0 dX0_mustGo_31 (by decide) ?_
      subst hf
      exact hjj_6
    · replace hf := ifp_f c_12 hf
      refine z_iconst C 1 dX0_mustGo_27 (by decide) ?_
      refine z_goto C 32 dX0_mustGo_28 (by decide) ?_
      subst hf
      exact hjj_6
  · dsimp only [sc] at hf
    refine z_callt C (rest := []) (av := (.ref (w.2.2 0) :: [.int (fX0_in p1 1 p2), .int 1])) (zPay.of q354 q74) (fun H ls hH h2 => zInv_V C (As := [.int (fX0_in p1 1 p2), .int 1]) (rest := []) (ci := 0) (T := TX0) (N := 8) rfl (zSee.fix ly_x0) hH q351 q353 qs1 (Or.inl rfl) q354 mh_X0 np_X0_need dX0_mustGo_8) (tX0_need l w e_2) (Nat.le_of_ble_eq_true rfl) (Nat.le_of_ble_eq_true rfl) ?_
    obtain ⟨rfl, rfl⟩ := fin_ hf
    exact z_tout C (by decide)
