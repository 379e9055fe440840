/-! the class, walked (written by gen/main_x.py) -/
def fX0_depth (σ : ZS) (p1 : Int32) (p2 : Int32) : Option (Int32 × ZS) := nm (if (fX0_isCell σ p1) = 0 then 0 else (if (fX0_in p2 (-99) 999) = 0 then 0 else 1)) (fun (j_1 : Int32) => bd (fX0_need σ j_1 1) (fun r_2 σ_4 => sc r_2 (fun _ => bd (fX2_depthIn σ_4 100 p1 p2) (fun r_7 σ_9 => some (r_7, σ_9))) (fun _ => bd (fX0_finds σ_4) (fun r_10 σ_12 => some (r_10, σ_12)))))
set_option maxHeartbeats 4000000 in
set_option maxRecDepth 100000 in
theorem tX0_depth (l : Launch) (w : ZW) {σ σ' : ZS} {p1 : Int32} {p2 : Int32} {r : Int32} (hf : fX0_depth σ p1 p2 = some (r, σ')) : zC l w zLx yX0_depth (wsW_ yX0_depth cX0_depth 4 (some .int) [(0, 39, 40, 8)]) 723 6046 [.ref (w.2.2 0), .int p1, .int p2] σ (.returned (some (.int r))) σ' := by
  refine zC.ofW (plainFor_of_name (by decide)) (Nat.le_of_ble_eq_true rfl) ?_
  intro p e s m args below meth c C hnm
  show Z p l e _ s m args below meth c _ w _ _ 4 σ 0 [(0, .ref (w.2.2 0)), (1, .int p1), (2, .int p2)] []
  unfold fX0_depth at hf
  refine z_aload_n C 0 dX0_depth_0 rfl rfl ?_
  refine z_aload_n C 0 dX0_depth_1 rfl rfl ?_
  refine z_iload_n C 1 dX0_depth_2 rfl rfl ?_
  refine z_calli C (rest := [.ref (w.2.2 0)]) (av := (.ref (w.2.2 0) :: [.int p1])) (zPay.of q371 q74) (fun H ls hH h2 => zInv_V C (As := [.int p1]) (rest := [.ref (w.2.2 0)]) (ci := 0) (T := TX0) (N := 8) rfl (zSee.fix ly_x0) hH q368 q370 qs3 (Or.inl rfl) q371 mh_X0 np_X0_isCell dX0_depth_3) (tX0_isCell l w σ p1) (Nat.le_of_ble_eq_true rfl) (Nat.le_of_ble_eq_true rfl) ?_
  obtain ⟨j_1, ej_1, hf⟩ := nmo_ hf
  have hj_1 : j_1 = 0 ∨ j_1 = 1 := by rw [ej_1]; (try dsimp only [nm]); (repeat' split) <;> first | exact Or.inl rfl | exact Or.inr rfl
  have hjj_1 : Z p l e (zRm 723 6046 σ) s m args below meth c (zQ below w zLx σ (.returned (some (.int r))) σ' args s) w zLx (zA w zLx σ) 4 σ 26 [(0, .ref (w.2.2 0)), (1, .int p1), (2, .int p2)] [.int j_1, .ref (w.2.2 0)] := by
    refine z_iconst C 1 dX0_depth_26 (by decide) ?_
    obtain ⟨r_2, σ_4, e_3, hf⟩ := bd_ hf
    rcases r_2 with ⟨⟩ | ⟨⟩
    · dsimp only [sc] at hf
      refine z_callv C (rest := []) (av := (.ref (w.2.2 0) :: [.int j_1, .int 1])) (zPay.of q354 q74) (fun H ls hH h2 => zInv_V C (As := [.int j_1, .int 1]) (rest := []) (ci := 0) (T := TX0) (N := 8) rfl (zSee.fix ly_x0) hH q351 q353 qs1 (Or.inl rfl) q354 mh_X0 np_X0_need dX0_depth_27) (tX0_need l w e_3) (Nat.le_of_ble_eq_true rfl) (Nat.le_of_ble_eq_true rfl) ?_
      refine z_aload_n C 0 dX0_depth_30 rfl rfl ?_
      refine z_getR C ly_x0 (Cn := RX0) (T := TX0) (N := 8) rfl in_X0 1 (by decide) q320 (Or.inl rfl) rfl dX0_depth_31 ?_
      refine z_iload_n C 1 dX0_depth_34 rfl rfl ?_
      refine z_iload_n C 2 dX0_depth_35 rfl rfl ?_
      obtain ⟨r_7, σ_9, e_8, hf⟩ := bd_ hf
      refine z_calli C (rest := []) (av := (.ref (w.2.2 100) :: [.int p1, .int p2])) (zPay.of q387 q79) (fun H ls hH h2 => zInv_V C (As := [.int p1, .int p2]) (rest := []) (ci := 2) (T := TX2) (N := 20) rfl (zSee.fix (ly_b0 zb100)) hH q961 q385 q386 (Or.inl rfl) q387 mh_X2 np_X2_depthIn dX0_depth_36) (tX2_depthIn l w zb100 e_8) (Nat.le_of_ble_eq_true rfl) (Nat.le_of_ble_eq_true rfl) ?_
      obtain ⟨rfl, rfl⟩ := fin_ hf
      exact z_iret C rfl dX0_depth_39
    · dsimp only [sc] at hf
      refine z_callt C (rest := []) (av := (.ref (w.2.2 0) :: [.int j_1, .int 1])) (zPay.of q354 q74) (fun H ls hH h2 => zInv_V C (As := [.int j_1, .int 1]) (rest := []) (ci := 0) (T := TX0) (N := 8) rfl (zSee.fix ly_x0) hH q351 q353 qs1 (Or.inl rfl) q354 mh_X0 np_X0_need dX0_depth_27) (tX0_need l w e_3) (Nat.le_of_ble_eq_true rfl) (Nat.le_of_ble_eq_true rfl) ?_
      refine z_catch C [] 0 39 40 8 [] rfl (by decide) (by decide) (by decide) (ci := 1) (Cn := RX1) (T0 := TX1) (N := 7) rfl (zSee.fix ly_x1) q118 ?_
      refine z_astore_n C dX0_depth_40 rfl (by decide) rfl (lv' := [(3, .ref (w.2.2 1)), (0, .ref (w.2.2 0)), (1, .int p1), (2, .int p2)]) ?_
      refine z_aload_n C 1 dX0_depth_41 rfl rfl ?_
      refine z_aload_n C 0 dX0_depth_42 rfl rfl ?_
      obtain ⟨r_10, σ_12, e_11, hf⟩ := bd_ hf
      refine z_calli C (rest := []) (av := (.ref (w.2.2 0) :: [.ref (w.2.2 1)])) (zPay.of q362 q74) (fun H ls hH h2 => zInv_V C (As := [.ref (w.2.2 1)]) (rest := []) (ci := 0) (T := TX0) (N := 8) rfl (zSee.fix ly_x0) hH q359 q361 qs2 (Or.inl rfl) q362 mh_X0 np_X0_finds dX0_depth_43) (tX0_finds l w e_11) (Nat.le_of_ble_eq_true rfl) (Nat.le_of_ble_eq_true rfl) ?_
      obtain ⟨rfl, rfl⟩ := fin_ hf
      exact z_iret C rfl dX0_depth_46
  replace hf := ej_1
  refine z_if_eq C 25 dX0_depth_6 (by decide) (fun c_13 => ?_) (fun c_13 => ?_)
  · replace hf := ifp_t c_13 hf
    refine z_iconst C 0 dX0_depth_25 (by decide) ?_
    subst hf
    exact hjj_1
  · replace hf := ifp_f c_13 hf
    refine z_iload_n C 2 dX0_depth_9 rfl rfl ?_
    refine z_bipush C (-99) dX0_depth_10 (by decide) ?_
    refine z_sipush C 999 dX0_depth_12 (by decide) ?_
    refine z_calli C (rest := [.ref (w.2.2 0)]) (av := [.int p2, .int (-99), .int 999]) (zPay.of q350 q74) (fun H ls hH h2 => zInv_S C (As := [.int p2, .int (-99), .int 999]) (rest := [.ref (w.2.2 0)]) q348 q349 q74 (Or.inl rfl) q350 mh_X0 np_X0_in dX0_depth_15) (tX0_in l w zLx σ p2 (-99) 999) (Nat.le_of_ble_eq_true rfl) (Nat.le_of_ble_eq_true rfl) ?_
    refine z_if_eq C 25 dX0_depth_18 (by decide) (fun c_14 => ?_) (fun c_14 => ?_)
    · replace hf := ifp_t c_14 hf
      refine z_iconst C 0 dX0_depth_25 (by decide) ?_
      subst hf
      exact hjj_1
    · replace hf := ifp_f c_14 hf
      refine z_iconst C 1 dX0_depth_21 (by decide) ?_
      refine z_goto C 26 dX0_depth_22 (by decide) ?_
      subst hf
      exact hjj_1
def fX0_deep_L30 (y1 : Int32) (y2 : Int32) : Nat → Int32 → ZS → Option ((Int32) × ZS)
  | 0, _, _ => none
  | n + 1, y3, σ => if 99 < y3 then (some (y3, σ)) else (bd (fX2_depthIn σ 100 y1 ((σ.1 100 4) - y3)) (fun r_8 σ_10 => if y2 ≤ r_8 then (some (y3, σ_10)) else (nm (y3 + 1) (fun (x3_12 : Int32) => fX0_deep_L30 y1 y2 n x3_12 σ_10))))
def fX0_deep (σ : ZS) (p1 : Int32) (p2 : Int32) : Option (Int32 × ZS) := nm (if (fX0_isCell σ p1) = 0 then 0 else (if (fX0_in p2 0 19) = 0 then 0 else 1)) (fun (j_1 : Int32) => bd (fX0_need σ j_1 1) (fun r_2 σ_4 => sc r_2 (fun _ => bd (fX0_deep_L30 p1 p2 10000 0 σ_4) (fun x3_13 σ_14 => nm (if 99 < x3_13 then 0 else 1) (fun (j_16 : Int32) => bd (fX0_need σ_14 j_16 2) (fun r_17 σ_19 => sc r_17 (fun _ => some (x3_13, σ_19)) (fun _ => bd (fX0_finds σ_19) (fun r_22 σ_24 => some (r_22, σ_24))))))) (fun _ => bd (fX0_finds σ_4) (fun r_26 σ_28 => some (r_26, σ_28)))))
set_option maxHeartbeats 4000000 in
set_option maxRecDepth 100000 in
theorem lfX0_deep_L30 {p : Program} {l : Launch} {e : Env} {R : Room} {s : State} {m : MethodId} {args : Array Value} {below : List Frame} {meth : Method} {c : Code} {Q : State → Prop} {w : ZW} {A : Nat → Prop} {ret : Option FieldType} {hh : List (Nat × Nat × Nat × Nat)} (C : zCx p s m args meth c w zLx A 4 cX0_deep RX0 ret hh) (hfr : 723 ≤ R.frames) (hlo : 6046 ≤ R.locals) (y1 : Int32) (y2 : Int32) {z3 : Int32} {σ' : ZS} (hk : Z p l e R s m args below meth c Q w zLx A 4 σ' 63 [(0, .ref (w.2.2 0)), (1, .int y1), (2, .int y2), (3, .int z3)] []) : ∀ (n : Nat) (y3 : Int32) (σ : ZS), fX0_deep_L30 y1 y2 n y3 σ = some (z3, σ') → Z p l e R s m args below meth c Q w zLx A 4 σ 30 [(0, .ref (w.2.2 0)), (1, .int y1), (2, .int y2), (3, .int y3)] [] := by
  intro n
  induction n with
  | zero => intro y3 σ hf; exact none_ hf
  | succ n ih =>
    intro y3 σ hf
    rw [fX0_deep_L30] at hf
    refine z_iload_n C 3 dX0_deep_30 rfl rfl ?_
    refine z_bipush C 99 dX0_deep_31 (by decide) ?_
    refine z_icmp_gt C 63 dX0_deep_33 (by decide) (fun c_7 => ?_) (fun c_7 => ?_)
    · replace hf := if_t c_7 hf
      obtain ⟨rfl, rfl⟩ := fin_ hf
      exact hk
    · replace hf := if_f c_7 hf
      refine z_aload_n C 0 dX0_deep_36 rfl rfl ?_
      refine z_getR C ly_x0 (Cn := RX0) (T := TX0) (N := 8) rfl in_X0 1 (by decide) q320 (Or.inl rfl) rfl dX0_deep_37 ?_
      refine z_iload_n C 1 dX0_deep_40 rfl rfl ?_
      refine z_aload_n C 0 dX0_deep_41 rfl rfl ?_
      refine z_getR C ly_x0 (Cn := RX0) (T := TX0) (N := 8) rfl in_X0 1 (by decide) q320 (Or.inl rfl) rfl dX0_deep_42 ?_
      refine z_getIN C (ly_b0 zb100) (Cn := RX2) (T := TX2) (N := 20) rfl in_X2 4 (by decide) q219 (Or.inl rfl) rfl dX0_deep_45 ?_
      refine z_iload_n C 3 dX0_deep_48 rfl rfl ?_
      refine z_isub C dX0_deep_49 ?_
      obtain ⟨r_8, σ_10, e_9, hf⟩ := bd_ hf
      refine z_calli C (rest := []) (av := (.ref (w.2.2 100) :: [.int y1, .int ((σ.1 100 4) - y3)])) (zPay.of q387 q79) (fun H ls hH h2 => zInv_V C (As := [.int y1, .int ((σ.1 100 4) - y3)]) (rest := []) (ci := 2) (T := TX2) (N := 20) rfl (zSee.fix (ly_b0 zb100)) hH q961 q385 q386 (Or.inl rfl) q387 mh_X2 np_X2_depthIn dX0_deep_50) (tX2_depthIn l w zb100 e_9) (Nat.le_trans (Nat.le_of_ble_eq_true rfl) hfr) (Nat.le_trans (Nat.le_of_ble_eq_true rfl) hlo) ?_
      refine z_iload_n C 2 dX0_deep_53 rfl rfl ?_
      refine z_icmp_ge C 63 dX0_deep_54 (by decide) (fun c_11 => ?_) (fun c_11 => ?_)
      · replace hf := if_t c_11 hf
        obtain ⟨rfl, rfl⟩ := fin_ hf
        exact hk
      · replace hf := if_f c_11 hf
        obtain ⟨x3_12, ex3_12, hf⟩ := nmo_ hf
        refine z_iinc C x3_12 3 dX0_deep_57 rfl (by rw [ex3_12]; rfl) (by decide) rfl (lv' := [(3, .int x3_12), (0, .ref (w.2.2 0)), (1, .int y1), (2, .int y2)]) ?_
        refine z_goto C 30 dX0_deep_60 (by decide) ?_
        exact z_lv [1, 2, 3, 0] rfl (ih _ _ hf)
set_option maxHeartbeats 4000000 in
set_option maxRecDepth 100000 in
theorem tX0_deep (l : Launch) (w : ZW) {σ σ' : ZS} {p1 : Int32} {p2 : Int32} {r : Int32} (hf : fX0_deep σ p1 p2 = some (r, σ')) : zC l w zLx yX0_deep (wsW_ yX0_deep cX0_deep 4 (some .int) [(0, 80, 81, 8)]) 723 6046 [.ref (w.2.2 0), .int p1, .int p2] σ (.returned (some (.int r))) σ' := by
  refine zC.ofW (plainFor_of_name (by decide)) (Nat.le_of_ble_eq_true rfl) ?_
  intro p e s m args below meth c C hnm
  show Z p l e _ s m args below meth c _ w _ _ 4 σ 0 [(0, .ref (w.2.2 0)), (1, .int p1), (2, .int p2)] []
  unfold fX0_deep at hf
  refine z_aload_n C 0 dX0_deep_0 rfl rfl ?_
  refine z_aload_n C 0 dX0_deep_1 rfl rfl ?_
  refine z_iload_n C 1 dX0_deep_2 rfl rfl ?_
  refine z_calli C (rest := [.ref (w.2.2 0)]) (av := (.ref (w.2.2 0) :: [.int p1])) (zPay.of q371 q74) (fun H ls hH h2 => zInv_V C (As := [.int p1]) (rest := [.ref (w.2.2 0)]) (ci := 0) (T := TX0) (N := 8) rfl (zSee.fix ly_x0) hH q368 q370 qs3 (Or.inl rfl) q371 mh_X0 np_X0_isCell dX0_deep_3) (tX0_isCell l w σ p1) (Nat.le_of_ble_eq_true rfl) (Nat.le_of_ble_eq_true rfl) ?_
  obtain ⟨j_1, ej_1, hf⟩ := nmo_ hf
  have hj_1 : j_1 = 0 ∨ j_1 = 1 := by rw [ej_1]; (try dsimp only [nm]); (repeat' split) <;> first | exact Or.inl rfl | exact Or.inr rfl
  have hjj_1 : Z p l e (zRm 723 6046 σ) s m args below meth c (zQ below w zLx σ (.returned (some (.int r))) σ' args s) w zLx (zA w zLx σ) 4 σ 24 [(0, .ref (w.2.2 0)), (1, .int p1), (2, .int p2)] [.int j_1, .ref (w.2.2 0)] := by
    refine z_iconst C 1 dX0_deep_24 (by decide) ?_
    obtain ⟨r_2, σ_4, e_3, hf⟩ := bd_ hf
    rcases r_2 with ⟨⟩ | ⟨⟩
    · dsimp only [sc] at hf
      refine z_callv C (rest := []) (av := (.ref (w.2.2 0) :: [.int j_1, .int 1])) (zPay.of q354 q74) (fun H ls hH h2 => zInv_V C (As := [.int j_1, .int 1]) (rest := []) (ci := 0) (T := TX0) (N := 8) rfl (zSee.fix ly_x0) hH q351 q353 qs1 (Or.inl rfl) q354 mh_X0 np_X0_need dX0_deep_25) (tX0_need l w e_3) (Nat.le_of_ble_eq_true rfl) (Nat.le_of_ble_eq_true rfl) ?_
      refine z_iconst C 0 dX0_deep_28 (by decide) ?_
      refine z_istore_n C dX0_deep_29 rfl (by decide) rfl (lv' := [(3, .int 0), (0, .ref (w.2.2 0)), (1, .int p1), (2, .int p2)]) ?_
      obtain ⟨x3_13, σ_14, e_15, hf⟩ := bd_ hf
      refine z_lv (lv' := [(0, .ref (w.2.2 0)), (1, .int p1), (2, .int p2), (3, .int 0)]) [1, 2, 3, 0] rfl ?_
      refine lfX0_deep_L30 C (Nat.le_of_ble_eq_true rfl) (Nat.le_of_ble_eq_true rfl) p1 p2 ?_ _ _ _ e_15
      refine z_aload_n C 0 dX0_deep_63 rfl rfl ?_
      refine z_iload_n C 3 dX0_deep_64 rfl rfl ?_
      refine z_bipush C 99 dX0_deep_65 (by decide) ?_
      obtain ⟨j_16, ej_16, hf⟩ := nmo_ hf
      have hj_16 : j_16 = 0 ∨ j_16 = 1 := by rw [ej_16]; (try dsimp only [nm]); (repeat' split) <;> first | exact Or.inl rfl | exact Or.inr rfl
      have hjj_16 : Z p l e (zRm 723 6046 σ) s m args below meth c (zQ below w zLx σ (.returned (some (.int r))) σ' args s) w zLx (zA w zLx σ) 4 σ_14 75 [(0, .ref (w.2.2 0)), (1, .int p1), (2, .int p2), (3, .int x3_13)] [.int j_16, .ref (w.2.2 0)] := by
        refine z_iconst C 2 dX0_deep_75 (by decide) ?_
        obtain ⟨r_17, σ_19, e_18, hf⟩ := bd_ hf
        rcases r_17 with ⟨⟩ | ⟨⟩
        · dsimp only [sc] at hf
          refine z_callv C (rest := []) (av := (.ref (w.2.2 0) :: [.int j_16, .int 2])) (zPay.of q354 q74) (fun H ls hH h2 => zInv_V C (As := [.int j_16, .int 2]) (rest := []) (ci := 0) (T := TX0) (N := 8) rfl (zSee.fix ly_x0) hH q351 q353 qs1 (Or.inl rfl) q354 mh_X0 np_X0_need dX0_deep_76) (tX0_need l w e_18) (Nat.le_of_ble_eq_true rfl) (Nat.le_of_ble_eq_true rfl) ?_
          refine z_iload_n C 3 dX0_deep_79 rfl rfl ?_
          obtain ⟨rfl, rfl⟩ := fin_ hf
          exact z_iret C rfl dX0_deep_80
        · dsimp only [sc] at hf
          refine z_callt C (rest := []) (av := (.ref (w.2.2 0) :: [.int j_16, .int 2])) (zPay.of q354 q74) (fun H ls hH h2 => zInv_V C (As := [.int j_16, .int 2]) (rest := []) (ci := 0) (T := TX0) (N := 8) rfl (zSee.fix ly_x0) hH q351 q353 qs1 (Or.inl rfl) q354 mh_X0 np_X0_need dX0_deep_76) (tX0_need l w e_18) (Nat.le_of_ble_eq_true rfl) (Nat.le_of_ble_eq_true rfl) ?_
          refine z_catch C [] 0 80 81 8 [] rfl (by decide) (by decide) (by decide) (ci := 1) (Cn := RX1) (T0 := TX1) (N := 7) rfl (zSee.fix ly_x1) q118 ?_
          refine z_astore_n C dX0_deep_81 rfl (by decide) rfl (lv' := [(3, .ref (w.2.2 1)), (0, .ref (w.2.2 0)), (1, .int p1), (2, .int p2)]) ?_
          refine z_aload_n C 1 dX0_deep_82 rfl rfl ?_
          refine z_aload_n C 0 dX0_deep_83 rfl rfl ?_
          obtain ⟨r_22, σ_24, e_23, hf⟩ := bd_ hf
          refine z_calli C (rest := []) (av := (.ref (w.2.2 0) :: [.ref (w.2.2 1)])) (zPay.of q362 q74) (fun H ls hH h2 => zInv_V C (As := [.ref (w.2.2 1)]) (rest := []) (ci := 0) (T := TX0) (N := 8) rfl (zSee.fix ly_x0) hH q359 q361 qs2 (Or.inl rfl) q362 mh_X0 np_X0_finds dX0_deep_84) (tX0_finds l w e_23) (Nat.le_of_ble_eq_true rfl) (Nat.le_of_ble_eq_true rfl) ?_
          obtain ⟨rfl, rfl⟩ := fin_ hf
          exact z_iret C rfl dX0_deep_87
      replace hf := ej_16
      refine z_icmp_gt C 74 dX0_deep_67 (by decide) (fun c_25 => ?_) (fun c_25 => ?_)
      · replace hf := ifp_t c_25 hf
        refine z_iconst C 0 dX0_deep_74 (by decide) ?_
        subst hf
        exact hjj_16
      · replace hf := ifp_f c_25 hf
        refine z_iconst C 1 dX0_deep_70 (by decide) ?_
        refine z_goto C 75 dX0_deep_71 (by decide) ?_
        subst hf
        exact hjj_16
    · dsimp only [sc] at hf
      refine z_callt C (rest := []) (av := (.ref (w.2.2 0) :: [.int j_1, .int 1])) (zPay.of q354 q74) (fun H ls hH h2 => zInv_V C (As := [.int j_1, .int 1]) (rest := []) (ci := 0) (T := TX0) (N := 8) rfl (zSee.fix ly_x0) hH q351 q353 qs1 (Or.inl rfl) q354 mh_X0 np_X0_need dX0_deep_25) (tX0_need l w e_3) (Nat.le_of_ble_eq_true rfl) (Nat.le_of_ble_eq_true rfl) ?_
      refine z_catch C [] 0 80 81 8 [] rfl (by decide) (by decide) (by decide) (ci := 1) (Cn := RX1) (T0 := TX1) (N := 7) rfl (zSee.fix ly_x1) q118 ?_
      refine z_astore_n C dX0_deep_81 rfl (by decide) rfl (lv' := [(3, .ref (w.2.2 1)), (0, .ref (w.2.2 0)), (1, .int p1), (2, .int p2)]) ?_
      refine z_aload_n C 1 dX0_deep_82 rfl rfl ?_
      refine z_aload_n C 0 dX0_deep_83 rfl rfl ?_
      obtain ⟨r_26, σ_28, e_27, hf⟩ := bd_ hf
      refine z_calli C (rest := []) (av := (.ref (w.2.2 0) :: [.ref (w.2.2 1)])) (zPay.of q362 q74) (fun H ls hH h2 => zInv_V C (As := [.ref (w.2.2 1)]) (rest := []) (ci := 0) (T := TX0) (N := 8) rfl (zSee.fix ly_x0) hH q359 q361 qs2 (Or.inl rfl) q362 mh_X0 np_X0_finds dX0_deep_84) (tX0_finds l w e_27) (Nat.le_of_ble_eq_true rfl) (Nat.le_of_ble_eq_true rfl) ?_
      obtain ⟨rfl, rfl⟩ := fin_ hf
      exact z_iret C rfl dX0_deep_87
  replace hf := ej_1
  refine z_if_eq C 23 dX0_deep_6 (by decide) (fun c_29 => ?_) (fun c_29 => ?_)
  · replace hf := ifp_t c_29 hf
    refine z_iconst C 0 dX0_deep_23 (by decide) ?_
    subst hf
    exact hjj_1
  · replace hf := ifp_f c_29 hf
    refine z_iload_n C 2 dX0_deep_9 rfl rfl ?_
    refine z_iconst C 0 dX0_deep_10 (by decide) ?_
    refine z_bipush C 19 dX0_deep_11 (by decide) ?_
    refine z_calli C (rest := [.ref (w.2.2 0)]) (av := [.int p2, .int 0, .int 19]) (zPay.of q350 q74) (fun H ls hH h2 => zInv_S C (As := [.int p2, .int 0, .int 19]) (rest := [.ref (w.2.2 0)]) q348 q349 q74 (Or.inl rfl) q350 mh_X0 np_X0_in dX0_deep_13) (tX0_in l w zLx σ p2 0 19) (Nat.le_of_ble_eq_true rfl) (Nat.le_of_ble_eq_true rfl) ?_
    refine z_if_eq C 23 dX0_deep_16 (by decide) (fun c_30 => ?_) (fun c_30 => ?_)
    · replace hf := ifp_t c_30 hf
      refine z_iconst C 0 dX0_deep_23 (by decide) ?_
      subst hf
      exact hjj_1
    · replace hf := ifp_f c_30 hf
      refine z_iconst C 1 dX0_deep_19 (by decide) ?_
      refine z_goto C 24 dX0_deep_20 (by decide) ?_
      subst hf
      exact hjj_1
def fX2_trueDepth (σ : ZS) (b : Nat) (p1 : Int32) : Option (Int32 × ZS) := bd (fX2_depthIn σ b p1 (σ.1 b 4)) (fun r_1 σ_3 => some (r_1, σ_3))
set_option maxHeartbeats 4000000 in
set_option maxRecDepth 100000 in
theorem tX2_trueDepth (l : Launch) (w : ZW) {σ σ' : ZS} {b : Nat} {p1 : Int32} (hb : zBay b) {r : Int32} (hf : fX2_trueDepth σ b p1 = some (r, σ')) : zC l w zLx yX2_trueDepth (ws_ yX2_trueDepth cX2_trueDepth 2 (some .int)) 723 6046 [.ref (w.2.2 b), .int p1] σ (.returned (some (.int r))) σ' := by
  refine zC.of (plainFor_of_name (by decide)) (Nat.le_of_ble_eq_true rfl) ?_
  intro p e s m args below meth c C hnm
  show Z p l e _ s m args below meth c _ w _ _ 2 σ 0 [(0, .ref (w.2.2 b)), (1, .int p1)] []
  unfold fX2_trueDepth at hf
  refine z_aload_n C 0 dX2_trueDepth_0 rfl rfl ?_
  refine z_iload_n C 1 dX2_trueDepth_1 rfl rfl ?_
  refine z_aload_n C 0 dX2_trueDepth_2 rfl rfl ?_
  refine z_getI C (ly_b0 hb) (Cn := RX2) (T := TX2) (N := 20) rfl in_X2 4 (by decide) q218 (Or.inl rfl) rfl dX2_trueDepth_3 ?_
  obtain ⟨r_1, σ_3, e_2, hf⟩ := bd_ hf
  refine z_calli C (rest := []) (av := (.ref (w.2.2 b) :: [.int p1, .int (σ.1 b 4)])) (zPay.of q387 q79) (fun H ls hH h2 => zInv_V C (As := [.int p1, .int (σ.1 b 4)]) (rest := []) (ci := 2) (T := TX2) (N := 20) rfl (zSee.fix (ly_b0 hb)) hH q384 q385 q386 (Or.inl rfl) q387 mh_X2 np_X2_depthIn dX2_trueDepth_6) (tX2_depthIn l w hb e_2) (Nat.le_of_ble_eq_true rfl) (Nat.le_of_ble_eq_true rfl) ?_
  obtain ⟨rfl, rfl⟩ := fin_ hf
  exact z_iret C rfl dX2_trueDepth_9
def fX2_shown (σ : ZS) (b : Nat) (p1 : Int32) (p2 : Int32) : Option (Int32 × ZS) := bd (if (fX0_hasBit (σ.1 b 6) p1) = 0 then (bd (fX2_trueDepth σ b p1) (fun r_5 σ_7 => some (r_5, σ_7))) else (bd (fX2_depthIn σ b p1 ((σ.1 b 4) - p2)) (fun r_8 σ_10 => some (r_8, σ_10)))) (fun (j_1 : Int32) σ_2 => some (j_1, σ_2))
set_option maxHeartbeats 4000000 in
set_option maxRecDepth 100000 in
theorem tX2_shown (l : Launch) (w : ZW) {σ σ' : ZS} {b : Nat} {p1 : Int32} {p2 : Int32} (hb : zBay b) {r : Int32} (hf : fX2_shown σ b p1 p2 = some (r, σ')) : zC l w zLx yX2_shown (ws_ yX2_shown cX2_shown 3 (some .int)) 724 6059 [.ref (w.2.2 b), .int p1, .int p2] σ (.returned (some (.int r))) σ' := by
  refine zC.of (plainFor_of_name (by decide)) (Nat.le_of_ble_eq_true rfl) ?_
  intro p e s m args below meth c C hnm
  show Z p l e _ s m args below meth c _ w _ _ 3 σ 0 [(0, .ref (w.2.2 b)), (1, .int p1), (2, .int p2)] []
  unfold fX2_shown at hf
  refine z_aload_n C 0 dX2_shown_0 rfl rfl ?_
  refine z_getI C (ly_b0 hb) (Cn := RX2) (T := TX2) (N := 20) rfl in_X2 6 (by decide) q225 (Or.inl rfl) rfl dX2_shown_1 ?_
  refine z_iload_n C 1 dX2_shown_4 rfl rfl ?_
  refine z_calli C (rest := []) (av := [.int (σ.1 b 6), .int p1]) (zPay.of q431 q74) (fun H ls hH h2 => zInv_SN C (As := [.int (σ.1 b 6), .int p1]) (rest := []) q429 q430 q74 (Or.inl rfl) q431 mh_X0 np_X0_hasBit dX2_shown_5) (tX0_hasBit l w zLx σ (σ.1 b 6) p1) (Nat.le_of_ble_eq_true rfl) (Nat.le_of_ble_eq_true rfl) ?_
  obtain ⟨j_1, σ_2, e_3, hf⟩ := bd_ hf
  have hje_3 : Z p l e (zRm 724 6059 σ) s m args below meth c (zQ below w zLx σ (.returned (some (.int r))) σ' args s) w zLx (zA w zLx σ) 3 σ_2 30 [(0, .ref (w.2.2 b)), (1, .int p1), (2, .int p2)] [.int j_1] := by
    obtain ⟨rfl, rfl⟩ := fin_ hf
    exact z_iret C rfl dX2_shown_30
  replace hf := e_3
  refine z_if_eq C 25 dX2_shown_8 (by decide) (fun c_4 => ?_) (fun c_4 => ?_)
  · replace hf := if_t c_4 hf
    refine z_aload_n C 0 dX2_shown_25 rfl rfl ?_
    refine z_iload_n C 1 dX2_shown_26 rfl rfl ?_
    obtain ⟨r_5, σ_7, e_6, hf⟩ := bd_ hf
    refine z_calli C (rest := []) (av := (.ref (w.2.2 b) :: [.int p1])) (zPay.of q383 q79) (fun H ls hH h2 => zInv_V C (As := [.int p1]) (rest := []) (ci := 2) (T := TX2) (N := 20) rfl (zSee.fix (ly_b0 hb)) hH q432 q381 q382 (Or.inl rfl) q383 mh_X2 np_X2_trueDepth dX2_shown_27) (tX2_trueDepth l w hb e_6) (Nat.le_of_ble_eq_true rfl) (Nat.le_of_ble_eq_true rfl) ?_
    obtain ⟨rfl, rfl⟩ := fin_ hf
    exact hje_3
  · replace hf := if_f c_4 hf
    refine z_aload_n C 0 dX2_shown_11 rfl rfl ?_
    refine z_iload_n C 1 dX2_shown_12 rfl rfl ?_
    refine z_aload_n C 0 dX2_shown_13 rfl rfl ?_
    refine z_getI C (ly_b0 hb) (Cn := RX2) (T := TX2) (N := 20) rfl in_X2 4 (by decide) q218 (Or.inl rfl) rfl dX2_shown_14 ?_
    refine z_iload_n C 2 dX2_shown_17 rfl rfl ?_
    refine z_isub C dX2_shown_18 ?_
    obtain ⟨r_8, σ_10, e_9, hf⟩ := bd_ hf
    refine z_calli C (rest := []) (av := (.ref (w.2.2 b) :: [.int p1, .int ((σ.1 b 4) - p2)])) (zPay.of q387 q79) (fun H ls hH h2 => zInv_V C (As := [.int p1, .int ((σ.1 b 4) - p2)]) (rest := []) (ci := 2) (T := TX2) (N := 20) rfl (zSee.fix (ly_b0 hb)) hH q384 q385 q386 (Or.inl rfl) q387 mh_X2 np_X2_depthIn dX2_shown_19) (tX2_depthIn l w hb e_9) (Nat.le_of_ble_eq_true rfl) (Nat.le_of_ble_eq_true rfl) ?_
    refine z_goto C 30 dX2_shown_22 (by decide) ?_
    obtain ⟨rfl, rfl⟩ := fin_ hf
    exact hje_3
def fX2_comesIn (σ : ZS) (b : Nat) (p1 : Int32) : Option (Unit × ZS) := gd (¬ (p1 < 0 ∨ 7 ≤ p1.toNatClampNeg)) (nm ((σ.1 (b + 12) p1.toNatClampNeg) - 1) (fun (v_2 : Int32) => bd (fX2_trueDepth (sI σ (b + 12) (p1.toNatClampNeg) v_2) b ((sI σ (b + 12) (p1.toNatClampNeg) v_2).1 (b + 12) p1.toNatClampNeg)) (fun r_3 σ_5 => nm (if (σ_5.1 (b + 11) p1.toNatClampNeg) ≤ r_3 then 0 else 1) (fun (j_6 : Int32) => some ((), sI σ_5 (b + 13) (p1.toNatClampNeg) j_6)))))
set_option maxHeartbeats 4000000 in
set_option maxRecDepth 100000 in
theorem tX2_comesIn (l : Launch) (w : ZW) {σ σ' : ZS} {b : Nat} {p1 : Int32} (hb : zBay b) (hf : fX2_comesIn σ b p1 = some ((), σ')) : zC l w zLx yX2_comesIn (ws_ yX2_comesIn cX2_comesIn 2 none) 724 6061 [.ref (w.2.2 b), .int p1] σ (.returned none) σ' := by
  refine zC.of (plainFor_of_name (by decide)) (Nat.le_of_ble_eq_true rfl) ?_
  intro p e s m args below meth c C hnm
  show Z p l e _ s m args below meth c _ w _ _ 2 σ 0 [(0, .ref (w.2.2 b)), (1, .int p1)] []
  unfold fX2_comesIn at hf
  refine z_aload_n C 0 dX2_comesIn_0 rfl rfl ?_
  refine z_getR C (ly_b0 hb) (Cn := RX2) (T := TX2) (N := 20) rfl in_X2 11 (by decide) q235 (Or.inl rfl) rfl dX2_comesIn_1 ?_
  refine z_iload_n C 1 dX2_comesIn_4 rfl rfl ?_
  refine z_dup2 C dX2_comesIn_5 rfl rfl ?_
  obtain ⟨g_1, hf⟩ := gd_ hf
  refine z_ialoadF C (ly_b12 hb) g_1 dX2_comesIn_6 ?_
  refine z_iconst C 1 dX2_comesIn_7 (by decide) ?_
  refine z_isub C dX2_comesIn_8 ?_
  obtain ⟨v_2, ev_2, hf⟩ := nmo_ hf
  refine z_top ev_2 ?_
  refine z_iastore C (ly_b12 hb) g_1 dX2_comesIn_9 ?_
  refine z_aload_n C 0 dX2_comesIn_10 rfl rfl ?_
  refine z_getR C (ly_b0 hb) (Cn := RX2) (T := TX2) (N := 20) rfl in_X2 12 (by decide) q237 (Or.inl rfl) rfl dX2_comesIn_11 ?_
  refine z_iload_n C 1 dX2_comesIn_14 rfl rfl ?_
  refine z_aload_n C 0 dX2_comesIn_15 rfl rfl ?_
  refine z_aload_n C 0 dX2_comesIn_16 rfl rfl ?_
  refine z_getR C (ly_b0 hb) (Cn := RX2) (T := TX2) (N := 20) rfl in_X2 11 (by decide) q235 (Or.inl rfl) rfl dX2_comesIn_17 ?_
  refine z_iload_n C 1 dX2_comesIn_20 rfl rfl ?_
  refine z_ialoadF C (ly_b12 hb) g_1 dX2_comesIn_21 ?_
  obtain ⟨r_3, σ_5, e_4, hf⟩ := bd_ hf
  refine z_calli C (rest := [.int p1, .ref (w.2.2 (b + 13))]) (av := (.ref (w.2.2 b) :: [.int ((sI σ (b + 12) (p1.toNatClampNeg) v_2).1 (b + 12) p1.toNatClampNeg)])) (zPay.of q383 q79) (fun H ls hH h2 => zInv_V C (As := [.int ((sI σ (b + 12) (p1.toNatClampNeg) v_2).1 (b + 12) p1.toNatClampNeg)]) (rest := [.int p1, .ref (w.2.2 (b + 13))]) (ci := 2) (T := TX2) (N := 20) rfl (zSee.fix (ly_b0 hb)) hH q432 q381 q382 (Or.inl rfl) q383 mh_X2 np_X2_trueDepth dX2_comesIn_22) (tX2_trueDepth l w hb e_4) (Nat.le_of_ble_eq_true rfl) (Nat.le_of_ble_eq_true rfl) ?_
  refine z_aload_n C 0 dX2_comesIn_25 rfl rfl ?_
  refine z_getR C (ly_b0 hb) (Cn := RX2) (T := TX2) (N := 20) rfl in_X2 10 (by decide) q233 (Or.inl rfl) rfl dX2_comesIn_26 ?_
  refine z_iload_n C 1 dX2_comesIn_29 rfl rfl ?_
  refine z_ialoadF C (ly_b11 hb) g_1 dX2_comesIn_30 ?_
  obtain ⟨j_6, ej_6, hf⟩ := nmo_ hf
  have hj_6 : j_6 = 0 ∨ j_6 = 1 := by rw [ej_6]; (try dsimp only [nm]); (repeat' split) <;> first | exact Or.inl rfl | exact Or.inr rfl
  have hjj_6 : Z p l e (zRm 724 6061 σ) s m args below meth c (zQ below w zLx σ (.returned none) σ' args s) w zLx (zA w zLx σ) 2 σ_5 39 [(0, .ref (w.2.2 b)), (1, .int p1)] [.int j_6, .int p1, .ref (w.2.2 (b + 13))] := by
    refine z_iastore C (ly_b13 hb) g_1 dX2_comesIn_39 ?_
    obtain ⟨-, rfl⟩ := fin_ hf
    exact z_vret C dX2_comesIn_40
  replace hf := ej_6
  refine z_icmp_ge C 38 dX2_comesIn_31 (by decide) (fun c_7 => ?_) (fun c_7 => ?_)
  · replace hf := ifp_t c_7 hf
    refine z_iconst C 0 dX2_comesIn_38 (by decide) ?_
    subst hf
    exact hjj_6
  · replace hf := ifp_f c_7 hf
    refine z_iconst C 1 dX2_comesIn_34 (by decide) ?_
    refine z_goto C 39 dX2_comesIn_35 (by decide) ?_
    subst hf
    exact hjj_6
def fX11_believes (σ : ZS) (a : Nat) (ci : Nat) (n : Int32) (k : Int32) (b : Nat) (p2 : Int32) : Option (Int32 × ZS) := bd (fX2_trueDepth σ b p2) (fun r_1 σ_3 => some (r_1, σ_3))
set_option maxHeartbeats 4000000 in
set_option maxRecDepth 100000 in
theorem tX11_believes (l : Launch) (w : ZW) {σ σ' : ZS} {a : Nat} {ci : Nat} {n : Int32} {k : Int32} {b : Nat} {p2 : Int32} (hci : zShipC ci) (hP : σ.2.2.1 a = some (.inr (ci, [.ref (w.2.2 4), .int n, .int k]))) (hb : zBay b) {r : Int32} (hf : fX11_believes σ a ci n k b p2 = some (r, σ')) : zC l w zLx yX11_believes (ws_ yX11_believes cX11_believes 3 (some .int)) 724 6059 [.ref a, .ref (w.2.2 b), .int p2] σ (.returned (some (.int r))) σ' := by
  refine zC.of (plainFor_of_name (by decide)) (Nat.le_of_ble_eq_true rfl) ?_
  intro p e s m args below meth c C hnm
  show Z p l e _ s m args below meth c _ w _ _ 3 σ 0 [(0, .ref a), (1, .ref (w.2.2 b)), (2, .int p2)] []
  unfold fX11_believes at hf
  refine z_aload_n C 1 dX11_believes_0 rfl rfl ?_
  refine z_iload_n C 2 dX11_believes_1 rfl rfl ?_
  obtain ⟨r_1, σ_3, e_2, hf⟩ := bd_ hf
  refine z_calli C (rest := []) (av := (.ref (w.2.2 b) :: [.int p2])) (zPay.of q383 q79) (fun H ls hH h2 => zInv_V C (As := [.int p2]) (rest := []) (ci := 2) (T := TX2) (N := 20) rfl (zSee.fix (ly_b0 hb)) hH q610 q381 q382 (Or.inl rfl) q383 mh_X2 np_X2_trueDepth dX11_believes_2) (tX2_trueDepth l w hb e_2) (Nat.le_of_ble_eq_true rfl) (Nat.le_of_ble_eq_true rfl) ?_
  obtain ⟨rfl, rfl⟩ := fin_ hf
  exact z_iret C rfl dX11_believes_5
def fX11_steers (w : ZW) (σ : ZS) (a : Nat) (ci : Nat) (n : Int32) (k : Int32) (p1 : Int32) : Option (Int32 × ZS) := bd (fX4_begins σ 30) (fun _ σ_3 => gd (oShip w (σ_3.2.2.1 a) = some (ci, n, k)) (bd (fX9_steers w σ_3 a ci n k p1) (fun r_6 σ_8 => gd (oShip w (σ_8.2.2.1 a) = some (ci, n, k)) (bd (fS_Rower_sounds w σ_8 a ci n k 1) (fun r_11 σ_13 => some (r_6 - r_11, σ_13))))))
set_option maxHeartbeats 4000000 in
set_option maxRecDepth 100000 in
theorem tX11_steers (l : Launch) (w : ZW) {σ σ' : ZS} {a : Nat} {ci : Nat} {n : Int32} {k : Int32} {p1 : Int32} (hci : zShipC ci) (hP : σ.2.2.1 a = some (.inr (ci, [.ref (w.2.2 4), .int n, .int k]))) {r : Int32} (hf : fX11_steers w σ a ci n k p1 = some (r, σ')) : zC l w zLx yX11_steers (ws_ yX11_steers cX11_steers 3 (some .int)) 4 52 [.ref a, .int p1] σ (.returned (some (.int r))) σ' := by
  refine zC.of (plainFor_of_name (by decide)) (Nat.le_of_ble_eq_true rfl) ?_
  intro p e s m args below meth c C hnm
  show Z p l e _ s m args below meth c _ w _ _ 3 σ 0 [(0, .ref a), (1, .int p1)] []
  unfold fX11_steers at hf
  refine z_aload_n C 0 dX11_steers_0 rfl rfl ?_
  refine z_getS0 C hci hP q468 (Or.inr q469) dX11_steers_1 ?_
  refine z_bipush C 30 dX11_steers_4 (by decide) ?_
  obtain ⟨⟨⟩, σ_3, e_2, hf⟩ := bd_ hf
  refine z_callv C (rest := []) (av := (.ref (w.2.2 4) :: [.int 30])) (zPay.of q1105 q81) (fun H ls hH h2 => zInv_V C (As := [.int 30]) (rest := []) (ci := 4) (T := TX4) (N := 2) rfl (zSee.fix ly_x4) hH q1152 q1103 q1104 (Or.inl rfl) q1105 mh_X4 np_X4_begins dX11_steers_6) (tX4_begins l w e_2) (Nat.le_of_ble_eq_true rfl) (Nat.le_of_ble_eq_true rfl) ?_
  refine z_aload_n C 0 dX11_steers_9 rfl rfl ?_
  refine z_iload_n C 1 dX11_steers_10 rfl rfl ?_
  obtain ⟨g_4, hf⟩ := gd_ hf
  have hP_5 := (oShip_ g_4).1
  obtain ⟨r_6, σ_8, e_7, hf⟩ := bd_ hf
  refine z_calli C (rest := []) (av := (.ref a :: [.int p1])) (zPay.of q1138 q87) (fun H ls hH h2 => zInv_SU C (As := [.int p1]) (rest := []) (zShip_cl hci).choose_spec.choose_spec (zSee.pool hP_5) hH (x := ⟨"OldLight$Ship", "steers", "(I)I"⟩) q1153 q1889 ⟨rfl, rfl⟩ q502 (zSub_self rfl) q1136 (Or.inl rfl) q1138 (by decide) np_X9_steers dX11_steers_11) (tX9_steers l w hci hP_5 e_7) (Nat.le_of_ble_eq_true rfl) (Nat.le_of_ble_eq_true rfl) ?_
  refine z_istore_n C dX11_steers_14 rfl (by decide) rfl (lv' := [(2, .int r_6), (0, .ref a), (1, .int p1)]) ?_
  refine z_iload_n C 0 dX11_steers_15 rfl rfl ?_
  refine z_aload_n C 1 dX11_steers_16 rfl rfl ?_
  refine z_iconst C 1 dX11_steers_17 (by decide) ?_
  obtain ⟨g_9, hf⟩ := gd_ hf
  have hP_10 := (oShip_ g_9).1
  obtain ⟨r_11, σ_13, e_12, hf⟩ := bd_ hf
  refine z_S_Rower_sounds C hci hP_10 q1154  e_12 dX11_steers_18 (Nat.le_of_ble_eq_true rfl) (Nat.le_of_ble_eq_true rfl) ?_
  refine z_isub C dX11_steers_21 ?_
  obtain ⟨rfl, rfl⟩ := fin_ hf
  exact z_iret C rfl dX11_steers_22
def fX14_believes (σ : ZS) (a : Nat) (ci : Nat) (n : Int32) (k : Int32) (b : Nat) (p2 : Int32) : Option (Int32 × ZS) := bd (fX11_believes σ a ci n k b p2) (fun r_1 σ_3 => bd (fX2_shown σ_3 b p2 (σ_3.1 b 5)) (fun r_4 σ_6 => some (fJ3_max r_1 r_4, σ_6)))
set_option maxHeartbeats 4000000 in
set_option maxRecDepth 100000 in
theorem tX14_believes (l : Launch) (w : ZW) {σ σ' : ZS} {a : Nat} {ci : Nat} {n : Int32} {k : Int32} {b : Nat} {p2 : Int32} (hci : zShipC ci) (hP : σ.2.2.1 a = some (.inr (ci, [.ref (w.2.2 4), .int n, .int k]))) (hb : zBay b) {r : Int32} (hf : fX14_believes σ a ci n k b p2 = some (r, σ')) : zC l w zLx yX14_believes (ws_ yX14_believes cX14_believes 3 (some .int)) 725 6074 [.ref a, .ref (w.2.2 b), .int p2] σ (.returned (some (.int r))) σ' := by
  refine zC.of (plainFor_of_name (by decide)) (Nat.le_of_ble_eq_true rfl) ?_
  intro p e s m args below meth c C hnm
  show Z p l e _ s m args below meth c _ w _ _ 3 σ 0 [(0, .ref a), (1, .ref (w.2.2 b)), (2, .int p2)] []
  unfold fX14_believes at hf
  refine z_aload_n C 0 dX14_believes_0 rfl rfl ?_
  refine z_aload_n C 1 dX14_believes_1 rfl rfl ?_
  refine z_iload_n C 2 dX14_believes_2 rfl rfl ?_
  obtain ⟨r_1, σ_3, e_2, hf⟩ := bd_ hf
  refine z_calli C (rest := []) (av := (.ref a :: [.ref (w.2.2 b), .int p2])) (zPay.of q609 q89) (fun H ls hH h2 => zInv_SU C (As := [.ref (w.2.2 b), .int p2]) (rest := []) (zShip_cl hci).choose_spec.choose_spec (zSee.pool hP) hH (x := ⟨"OldLight$Rower", "believes", "(LOldLight$Bay;I)I"⟩) q614 q1877 ⟨rfl, rfl⟩ q532 (zSub_self rfl) q608 (Or.inl rfl) q609 (by decide) np_X11_believes dX14_believes_3) (tX11_believes l w hci hP hb e_2) (Nat.le_of_ble_eq_true rfl) (Nat.le_of_ble_eq_true rfl) ?_
  refine z_aload_n C 1 dX14_believes_6 rfl rfl ?_
  refine z_iload_n C 2 dX14_believes_7 rfl rfl ?_
  refine z_aload_n C 1 dX14_believes_8 rfl rfl ?_
  refine z_getIN C (ly_b0 hb) (Cn := RX2) (T := TX2) (N := 20) rfl in_X2 5 (by decide) q223 (Or.inl rfl) rfl dX14_believes_9 ?_
  obtain ⟨r_4, σ_6, e_5, hf⟩ := bd_ hf
  refine z_calli C (rest := [.int r_1]) (av := (.ref (w.2.2 b) :: [.int p2, .int (σ_3.1 b 5)])) (zPay.of q428 q79) (fun H ls hH h2 => zInv_V C (As := [.int p2, .int (σ_3.1 b 5)]) (rest := [.int r_1]) (ci := 2) (T := TX2) (N := 20) rfl (zSee.fix (ly_b0 hb)) hH q615 q426 q427 (Or.inl rfl) q428 mh_X2 np_X2_shown dX14_believes_12) (tX2_shown l w hb e_5) (Nat.le_of_ble_eq_true rfl) (Nat.le_of_ble_eq_true rfl) ?_
  refine z_calli C (rest := []) (av := [.int r_1, .int r_4]) (zPay.of q390 q84) (fun H ls hH h2 => zInv_S C (As := [.int r_1, .int r_4]) (rest := []) q616 q389 q84 (Or.inl rfl) q390 mh_J3 np_J3_max dX14_believes_15) (tJ3_max l w zLx σ_6 r_1 r_4) (Nat.le_of_ble_eq_true rfl) (Nat.le_of_ble_eq_true rfl) ?_
  obtain ⟨rfl, rfl⟩ := fin_ hf
  exact z_iret C rfl dX14_believes_18
def fX14_steers (w : ZW) (σ : ZS) (a : Nat) (ci : Nat) (n : Int32) (k : Int32) (p1 : Int32) : Option (Int32 × ZS) := bd (fX4_begins σ 60) (fun _ σ_3 => gd (oShip w (σ_3.2.2.1 a) = some (ci, n, k)) (bd (fX11_steers w σ_3 a ci n k (p1 + 1)) (fun r_6 σ_8 => some (r_6, σ_8))))
set_option maxHeartbeats 4000000 in
set_option maxRecDepth 100000 in
theorem tX14_steers (l : Launch) (w : ZW) {σ σ' : ZS} {a : Nat} {ci : Nat} {n : Int32} {k : Int32} {p1 : Int32} (hci : zShipC ci) (hP : σ.2.2.1 a = some (.inr (ci, [.ref (w.2.2 4), .int n, .int k]))) {r : Int32} (hf : fX14_steers w σ a ci n k p1 = some (r, σ')) : zC l w zLx yX14_steers (ws_ yX14_steers cX14_steers 2 (some .int)) 5 66 [.ref a, .int p1] σ (.returned (some (.int r))) σ' := by
  refine zC.of (plainFor_of_name (by decide)) (Nat.le_of_ble_eq_true rfl) ?_
  intro p e s m args below meth c C hnm
  show Z p l e _ s m args below meth c _ w _ _ 2 σ 0 [(0, .ref a), (1, .int p1)] []
  unfold fX14_steers at hf
  refine z_aload_n C 0 dX14_steers_0 rfl rfl ?_
  refine z_getS0 C hci hP q470 (Or.inr q471) dX14_steers_1 ?_
  refine z_bipush C 60 dX14_steers_4 (by decide) ?_
  obtain ⟨⟨⟩, σ_3, e_2, hf⟩ := bd_ hf
  refine z_callv C (rest := []) (av := (.ref (w.2.2 4) :: [.int 60])) (zPay.of q1105 q81) (fun H ls hH h2 => zInv_V C (As := [.int 60]) (rest := []) (ci := 4) (T := TX4) (N := 2) rfl (zSee.fix ly_x4) hH q1170 q1103 q1104 (Or.inl rfl) q1105 mh_X4 np_X4_begins dX14_steers_6) (tX4_begins l w e_2) (Nat.le_of_ble_eq_true rfl) (Nat.le_of_ble_eq_true rfl) ?_
  refine z_aload_n C 0 dX14_steers_9 rfl rfl ?_
  refine z_iload_n C 1 dX14_steers_10 rfl rfl ?_
  refine z_iconst C 1 dX14_steers_11 (by decide) ?_
  refine z_iadd C dX14_steers_12 ?_
  obtain ⟨g_4, hf⟩ := gd_ hf
  have hP_5 := (oShip_ g_4).1
  obtain ⟨r_6, σ_8, e_7, hf⟩ := bd_ hf
  refine z_calli C (rest := []) (av := (.ref a :: [.int (p1 + 1)])) (zPay.of q1151 q89) (fun H ls hH h2 => zInv_SU C (As := [.int (p1 + 1)]) (rest := []) (zShip_cl hci).choose_spec.choose_spec (zSee.pool hP_5) hH (x := ⟨"OldLight$Rower", "steers", "(I)I"⟩) q1171 q1890 ⟨rfl, rfl⟩ q532 (zSub_self rfl) q1149 (Or.inl rfl) q1151 (by decide) np_X11_steers dX14_steers_13) (tX11_steers l w hci hP_5 e_7) (Nat.le_of_ble_eq_true rfl) (Nat.le_of_ble_eq_true rfl) ?_
  obtain ⟨rfl, rfl⟩ := fin_ hf
  exact z_iret C rfl dX14_steers_16
def fX15_believes (σ : ZS) (a : Nat) (ci : Nat) (n : Int32) (k : Int32) (b : Nat) (p2 : Int32) : Option (Int32 × ZS) := bd (fX2_shown σ b p2 (2 * (σ.1 b 5))) (fun r_1 σ_3 => bd (fX2_trueDepth σ_3 b p2) (fun r_4 σ_6 => some (fJ3_min r_1 r_4, σ_6)))
set_option maxHeartbeats 4000000 in
set_option maxRecDepth 100000 in
theorem tX15_believes (l : Launch) (w : ZW) {σ σ' : ZS} {a : Nat} {ci : Nat} {n : Int32} {k : Int32} {b : Nat} {p2 : Int32} (hci : zShipC ci) (hP : σ.2.2.1 a = some (.inr (ci, [.ref (w.2.2 4), .int n, .int k]))) (hb : zBay b) {r : Int32} (hf : fX15_believes σ a ci n k b p2 = some (r, σ')) : zC l w zLx yX15_believes (ws_ yX15_believes cX15_believes 3 (some .int)) 725 6073 [.ref a, .ref (w.2.2 b), .int p2] σ (.returned (some (.int r))) σ' := by
  refine zC.of (plainFor_of_name (by decide)) (Nat.le_of_ble_eq_true rfl) ?_
  intro p e s m args below meth c C hnm
  show Z p l e _ s m args below meth c _ w _ _ 3 σ 0 [(0, .ref a), (1, .ref (w.2.2 b)), (2, .int p2)] []
  unfold fX15_believes at hf
  refine z_aload_n C 1 dX15_believes_0 rfl rfl ?_
  refine z_iload_n C 2 dX15_believes_1 rfl rfl ?_
  refine z_iconst C 2 dX15_believes_2 (by decide) ?_
  refine z_aload_n C 1 dX15_believes_3 rfl rfl ?_
  refine z_getIN C (ly_b0 hb) (Cn := RX2) (T := TX2) (N := 20) rfl in_X2 5 (by decide) q222 (Or.inl rfl) rfl dX15_believes_4 ?_
  refine z_imul C dX15_believes_7 ?_
  obtain ⟨r_1, σ_3, e_2, hf⟩ := bd_ hf
  refine z_calli C (rest := []) (av := (.ref (w.2.2 b) :: [.int p2, .int (2 * (σ.1 b 5))])) (zPay.of q428 q79) (fun H ls hH h2 => zInv_V C (As := [.int p2, .int (2 * (σ.1 b 5))]) (rest := []) (ci := 2) (T := TX2) (N := 20) rfl (zSee.fix (ly_b0 hb)) hH q604 q426 q427 (Or.inl rfl) q428 mh_X2 np_X2_shown dX15_believes_8) (tX2_shown l w hb e_2) (Nat.le_of_ble_eq_true rfl) (Nat.le_of_ble_eq_true rfl) ?_
  refine z_aload_n C 1 dX15_believes_11 rfl rfl ?_
  refine z_iload_n C 2 dX15_believes_12 rfl rfl ?_
  obtain ⟨r_4, σ_6, e_5, hf⟩ := bd_ hf
  refine z_calli C (rest := [.int r_1]) (av := (.ref (w.2.2 b) :: [.int p2])) (zPay.of q383 q79) (fun H ls hH h2 => zInv_V C (As := [.int p2]) (rest := [.int r_1]) (ci := 2) (T := TX2) (N := 20) rfl (zSee.fix (ly_b0 hb)) hH q605 q381 q382 (Or.inl rfl) q383 mh_X2 np_X2_trueDepth dX15_believes_13) (tX2_trueDepth l w hb e_5) (Nat.le_of_ble_eq_true rfl) (Nat.le_of_ble_eq_true rfl) ?_
  refine z_calli C (rest := []) (av := [.int r_1, .int r_4]) (zPay.of q424 q84) (fun H ls hH h2 => zInv_S C (As := [.int r_1, .int r_4]) (rest := []) q606 q423 q84 (Or.inl rfl) q424 mh_J3 np_J3_min dX15_believes_16) (tJ3_min l w zLx σ_6 r_1 r_4) (Nat.le_of_ble_eq_true rfl) (Nat.le_of_ble_eq_true rfl) ?_
  obtain ⟨rfl, rfl⟩ := fin_ hf
  exact z_iret C rfl dX15_believes_19
def fX9_believes (σ : ZS) (a : Nat) (ci : Nat) (n : Int32) (k : Int32) (b : Nat) (p2 : Int32) : Option (Int32 × ZS) := bd (fX2_shown σ b p2 (σ.1 b 5)) (fun r_1 σ_3 => some (r_1, σ_3))
set_option maxHeartbeats 4000000 in
set_option maxRecDepth 100000 in
theorem tX9_believes (l : Launch) (w : ZW) {σ σ' : ZS} {a : Nat} {ci : Nat} {n : Int32} {k : Int32} {b : Nat} {p2 : Int32} (hci : zShipC ci) (hP : σ.2.2.1 a = some (.inr (ci, [.ref (w.2.2 4), .int n, .int k]))) (hb : zBay b) {r : Int32} (hf : fX9_believes σ a ci n k b p2 = some (r, σ')) : zC l w zLx yX9_believes (ws_ yX9_believes cX9_believes 3 (some .int)) 725 6073 [.ref a, .ref (w.2.2 b), .int p2] σ (.returned (some (.int r))) σ' := by
  refine zC.of (plainFor_of_name (by decide)) (Nat.le_of_ble_eq_true rfl) ?_
  intro p e s m args below meth c C hnm
  show Z p l e _ s m args below meth c _ w _ _ 3 σ 0 [(0, .ref a), (1, .ref (w.2.2 b)), (2, .int p2)] []
  unfold fX9_believes at hf
  refine z_aload_n C 1 dX9_believes_0 rfl rfl ?_
  refine z_iload_n C 2 dX9_believes_1 rfl rfl ?_
  refine z_aload_n C 1 dX9_believes_2 rfl rfl ?_
  refine z_getIN C (ly_b0 hb) (Cn := RX2) (T := TX2) (N := 20) rfl in_X2 5 (by decide) q221 (Or.inl rfl) rfl dX9_believes_3 ?_
  obtain ⟨r_1, σ_3, e_2, hf⟩ := bd_ hf
  refine z_calli C (rest := []) (av := (.ref (w.2.2 b) :: [.int p2, .int (σ.1 b 5)])) (zPay.of q428 q79) (fun H ls hH h2 => zInv_V C (As := [.int p2, .int (σ.1 b 5)]) (rest := []) (ci := 2) (T := TX2) (N := 20) rfl (zSee.fix (ly_b0 hb)) hH q624 q426 q427 (Or.inl rfl) q428 mh_X2 np_X2_shown dX9_believes_6) (tX2_shown l w hb e_2) (Nat.le_of_ble_eq_true rfl) (Nat.le_of_ble_eq_true rfl) ?_
  obtain ⟨rfl, rfl⟩ := fin_ hf
  exact z_iret C rfl dX9_believes_9
def fS_Ship_steers (w : ZW) (σ : ZS) (a ci : Nat) (n k : Int32) (p1 : Int32) : Option (Int32 × ZS) := if ci = 8 then (fX9_steers w σ a ci n k p1) else (if ci = 9 then (fX9_steers w σ a ci n k p1) else (if ci = 10 then (fX11_steers w σ a ci n k p1) else (if ci = 11 then (fX9_steers w σ a ci n k p1) else (if ci = 12 then (fX9_steers w σ a ci n k p1) else (if ci = 13 then (fX14_steers w σ a ci n k p1) else (if ci = 14 then (fX9_steers w σ a ci n k p1) else (none)))))))
section
variable {p : Program} {l : Launch} {e : Env} {R : Room} {s : State} {m : MethodId} {args : Array Value} {below : List Frame} {meth : Method} {c : Code} {Q : State → Prop} {w : ZW} {A : Nat → Prop} {nL : Nat} {cc : ByteArray} {own : String} {ret : Option FieldType} {hh : List (Nat × Nat × Nat × Nat)} {σ : ZS} {pc : Nat} {lv : List (Nat × Value)} {st : List Value}
theorem z_S_Ship_steers (C : zCx p s m args meth c w zLx A nL cc own ret hh) {index a ci : Nat} {n k p1 r : Int32} {σ' : ZS} (hci : zShipC ci) (hP : σ.2.2.1 a = some (.inr (ci, [.ref (w.2.2 4), .int n, .int k]))) (hq1 : Cond.methodLink own index ⟨"OldLight$Ship", "steers", "(I)I"⟩ ∈ lw_all) (hf : fS_Ship_steers w σ a ci n k p1 = some (r, σ')) (hd : decode cc pc = .ok (.invokevirtual index, 3)) (hfr : 5 + 1 ≤ R.frames) (hlo : (st.map fun v => v.category).sum + (3 + 11) + 66 ≤ R.locals) (kk : Z p l e R s m args below meth c Q w zLx A nL σ' (pc + 3) lv (.int r :: st)) : Z p l e R s m args below meth c Q w zLx A nL σ pc lv (.int p1 :: .ref a :: st) := by
  rcases hci with rfl | rfl | rfl | rfl | rfl | rfl | rfl
  · skip
    exact z_calli C (rest := st) (av := (.ref a :: [.int p1])) (zPay.of q1138 q87) (fun H ls hH h2 => zInv_U C (x := ⟨"OldLight$Ship", "steers", "(I)I"⟩) (owner := "OldLight$Ship") (As := [.int p1]) (rest := st) (ci := 8) (T := TX9) (N := 3) rfl (zSee.pool hP) hH hq1 q1889 (zDecl_of C q1136 q1138) (by unfold zMH; decide) q1136 q1897 np_X9_steers hd) (tX9_steers l w (by unfold zShipC; decide) hP hf) (by have := hfr; omega) (by have := hlo; omega) kk
  · skip
    exact z_calli C (rest := st) (av := (.ref a :: [.int p1])) (zPay.of q1138 q87) (fun H ls hH h2 => zInv_U C (x := ⟨"OldLight$Ship", "steers", "(I)I"⟩) (owner := "OldLight$Ship") (As := [.int p1]) (rest := st) (ci := 9) (T := TX10) (N := 3) rfl (zSee.pool hP) hH hq1 q1889 (zDecl_of C q1136 q1138) (by unfold zMH; decide) q1136 q1893 np_X9_steers hd) (tX9_steers l w (by unfold zShipC; decide) hP hf) (by have := hfr; omega) (by have := hlo; omega) kk
  · skip
    exact z_calli C (rest := st) (av := (.ref a :: [.int p1])) (zPay.of q1151 q89) (fun H ls hH h2 => zInv_U C (x := ⟨"OldLight$Ship", "steers", "(I)I"⟩) (owner := "OldLight$Ship") (As := [.int p1]) (rest := st) (ci := 10) (T := TX11) (N := 3) rfl (zSee.pool hP) hH hq1 q1889 (zDecl_of C q1136 q1138) (by unfold zMH; decide) q1149 q1896 np_X11_steers hd) (tX11_steers l w (by unfold zShipC; decide) hP hf) (by have := hfr; omega) (by have := hlo; omega) kk
  · skip
    exact z_calli C (rest := st) (av := (.ref a :: [.int p1])) (zPay.of q1138 q87) (fun H ls hH h2 => zInv_U C (x := ⟨"OldLight$Ship", "steers", "(I)I"⟩) (owner := "OldLight$Ship") (As := [.int p1]) (rest := st) (ci := 11) (T := TX12) (N := 3) rfl (zSee.pool hP) hH hq1 q1889 (zDecl_of C q1136 q1138) (by unfold zMH; decide) q1136 q1899 np_X9_steers hd) (tX9_steers l w (by unfold zShipC; decide) hP hf) (by have := hfr; omega) (by have := hlo; omega) kk
  · skip
    exact z_calli C (rest := st) (av := (.ref a :: [.int p1])) (zPay.of q1138 q87) (fun H ls hH h2 => zInv_U C (x := ⟨"OldLight$Ship", "steers", "(I)I"⟩) (owner := "OldLight$Ship") (As := [.int p1]) (rest := st) (ci := 12) (T := TX13) (N := 3) rfl (zSee.pool hP) hH hq1 q1889 (zDecl_of C q1136 q1138) (by unfold zMH; decide) q1136 q1894 np_X9_steers hd) (tX9_steers l w (by unfold zShipC; decide) hP hf) (by have := hfr; omega) (by have := hlo; omega) kk
  · skip
    exact z_calli C (rest := st) (av := (.ref a :: [.int p1])) (zPay.of q1169 q92) (fun H ls hH h2 => zInv_U C (x := ⟨"OldLight$Ship", "steers", "(I)I"⟩) (owner := "OldLight$Ship") (As := [.int p1]) (rest := st) (ci := 13) (T := TX14) (N := 3) rfl (zSee.pool hP) hH hq1 q1889 (zDecl_of C q1136 q1138) (by unfold zMH; decide) q1167 q1898 np_X14_steers hd) (tX14_steers l w (by unfold zShipC; decide) hP hf) (by have := hfr; omega) (by have := hlo; omega) kk
  · skip
    exact z_calli C (rest := st) (av := (.ref a :: [.int p1])) (zPay.of q1138 q87) (fun H ls hH h2 => zInv_U C (x := ⟨"OldLight$Ship", "steers", "(I)I"⟩) (owner := "OldLight$Ship") (As := [.int p1]) (rest := st) (ci := 14) (T := TX15) (N := 3) rfl (zSee.pool hP) hH hq1 q1889 (zDecl_of C q1136 q1138) (by unfold zMH; decide) q1136 q1895 np_X9_steers hd) (tX9_steers l w (by unfold zShipC; decide) hP hf) (by have := hfr; omega) (by have := hlo; omega) kk
end
def fS_Steers_steers (w : ZW) (σ : ZS) (a ci : Nat) (n k : Int32) (p1 : Int32) : Option (Int32 × ZS) := if ci = 8 then (fX9_steers w σ a ci n k p1) else (if ci = 9 then (fX9_steers w σ a ci n k p1) else (if ci = 10 then (fX11_steers w σ a ci n k p1) else (if ci = 11 then (fX9_steers w σ a ci n k p1) else (if ci = 12 then (fX9_steers w σ a ci n k p1) else (if ci = 13 then (fX14_steers w σ a ci n k p1) else (if ci = 14 then (fX9_steers w σ a ci n k p1) else (none)))))))
section
variable {p : Program} {l : Launch} {e : Env} {R : Room} {s : State} {m : MethodId} {args : Array Value} {below : List Frame} {meth : Method} {c : Code} {Q : State → Prop} {w : ZW} {A : Nat → Prop} {nL : Nat} {cc : ByteArray} {own : String} {ret : Option FieldType} {hh : List (Nat × Nat × Nat × Nat)} {σ : ZS} {pc : Nat} {lv : List (Nat × Value)} {st : List Value}
theorem z_S_Steers_steers (C : zCx p s m args meth c w zLx A nL cc own ret hh) {index cnt a ci : Nat} {n k p1 r : Int32} {σ' : ZS} (hci : zShipC ci) (hP : σ.2.2.1 a = some (.inr (ci, [.ref (w.2.2 4), .int n, .int k]))) (hq1 : Cond.methodLink own index ⟨"OldLight$Steers", "steers", "(I)I"⟩ ∈ lw_all) (hf : fS_Steers_steers w σ a ci n k p1 = some (r, σ')) (hd : decode cc pc = .ok (.invokeinterface index cnt, 5)) (hfr : 5 + 1 ≤ R.frames) (hlo : (st.map fun v => v.category).sum + (3 + 11) + 66 ≤ R.locals) (kk : Z p l e R s m args below meth c Q w zLx A nL σ' (pc + 5) lv (.int r :: st)) : Z p l e R s m args below meth c Q w zLx A nL σ pc lv (.int p1 :: .ref a :: st) := by
  rcases hci with rfl | rfl | rfl | rfl | rfl | rfl | rfl
  · skip
    exact z_calli C (rest := st) (av := (.ref a :: [.int p1])) (zPay.of q1138 q87) (fun H ls hH h2 => zInv_F C (x := ⟨"OldLight$Steers", "steers", "(I)I"⟩) (As := [.int p1]) (rest := st) (ci := 8) (T := TX9) (N := 3) rfl (zSee.pool hP) hH hq1 (by decide) q1136 q1162 q1137 q1163 q1161 np_X9_steers hd) (tX9_steers l w (by unfold zShipC; decide) hP hf) (by have := hfr; omega) (by have := hlo; omega) kk
  · skip
    exact z_calli C (rest := st) (av := (.ref a :: [.int p1])) (zPay.of q1138 q87) (fun H ls hH h2 => zInv_F C (x := ⟨"OldLight$Steers", "steers", "(I)I"⟩) (As := [.int p1]) (rest := st) (ci := 9) (T := TX10) (N := 3) rfl (zSee.pool hP) hH hq1 (by decide) q1136 q1134 q1137 q1135 q1133 np_X9_steers hd) (tX9_steers l w (by unfold zShipC; decide) hP hf) (by have := hfr; omega) (by have := hlo; omega) kk
  · skip
    exact z_calli C (rest := st) (av := (.ref a :: [.int p1])) (zPay.of q1151 q89) (fun H ls hH h2 => zInv_F C (x := ⟨"OldLight$Steers", "steers", "(I)I"⟩) (As := [.int p1]) (rest := st) (ci := 10) (T := TX11) (N := 3) rfl (zSee.pool hP) hH hq1 (by decide) q1149 q1147 q1150 q1148 q1146 np_X11_steers hd) (tX11_steers l w (by unfold zShipC; decide) hP hf) (by have := hfr; omega) (by have := hlo; omega) kk
  · skip
    exact z_calli C (rest := st) (av := (.ref a :: [.int p1])) (zPay.of q1138 q87) (fun H ls hH h2 => zInv_F C (x := ⟨"OldLight$Steers", "steers", "(I)I"⟩) (As := [.int p1]) (rest := st) (ci := 11) (T := TX12) (N := 3) rfl (zSee.pool hP) hH hq1 (by decide) q1136 q1173 q1137 q1174 q1172 np_X9_steers hd) (tX9_steers l w (by unfold zShipC; decide) hP hf) (by have := hfr; omega) (by have := hlo; omega) kk
  · skip
    exact z_calli C (rest := st) (av := (.ref a :: [.int p1])) (zPay.of q1138 q87) (fun H ls hH h2 => zInv_F C (x := ⟨"OldLight$Steers", "steers", "(I)I"⟩) (As := [.int p1]) (rest := st) (ci := 12) (T := TX13) (N := 3) rfl (zSee.pool hP) hH hq1 (by decide) q1136 q1141 q1137 q1142 q1140 np_X9_steers hd) (tX9_steers l w (by unfold zShipC; decide) hP hf) (by have := hfr; omega) (by have := hlo; omega) kk
  · skip
    exact z_calli C (rest := st) (av := (.ref a :: [.int p1])) (zPay.of q1169 q92) (fun H ls hH h2 => zInv_F C (x := ⟨"OldLight$Steers", "steers", "(I)I"⟩) (As := [.int p1]) (rest := st) (ci := 13) (T := TX14) (N := 3) rfl (zSee.pool hP) hH hq1 (by decide) q1167 q1165 q1168 q1166 q1164 np_X14_steers hd) (tX14_steers l w (by unfold zShipC; decide) hP hf) (by have := hfr; omega) (by have := hlo; omega) kk
  · skip
    exact z_calli C (rest := st) (av := (.ref a :: [.int p1])) (zPay.of q1138 q87) (fun H ls hH h2 => zInv_F C (x := ⟨"OldLight$Steers", "steers", "(I)I"⟩) (As := [.int p1]) (rest := st) (ci := 14) (T := TX15) (N := 3) rfl (zSee.pool hP) hH hq1 (by decide) q1136 q1144 q1137 q1145 q1143 np_X9_steers hd) (tX9_steers l w (by unfold zShipC; decide) hP hf) (by have := hfr; omega) (by have := hlo; omega) kk
end
def fX0_ofCell (σ : ZS) (p1 : Int32) (p2 : Int32) : Option (Int32 × ZS) := nm (if (fX0_isCell σ p1) = 0 then 0 else (if (fX0_in p2 0 5) = 0 then 0 else 1)) (fun (j_1 : Int32) => bd (fX0_need σ j_1 1) (fun r_2 σ_4 => sc r_2 (fun _ => if 3 ≤ p2 then (bd (if p2 = 3 then (bd (fX2_trueDepth σ_4 100 p1) (fun r_18 σ_20 => some (r_18, σ_20))) else (if p2 = 4 then (bd (fX2_shown σ_4 100 p1 (σ_4.1 100 5)) (fun r_15 σ_17 => some (r_15, σ_17))) else (bo (fX2_whoAreAt σ_4 100 p1) (fun r_13 => some (r_13, σ_4))))) (fun (j_8 : Int32) σ_9 => some (j_8, σ_9))) else (nm (fX0_cellRow σ_4 p2) (fun (q_21 : Nat) => if q_21 = (100 + 2) then (gd (¬ (p1 < 0 ∨ 8 ≤ p1.toNatClampNeg)) (some (σ_4.1 (100 + 2) p1.toNatClampNeg, σ_4))) else (if q_21 = (100 + 3) then (gd (¬ (p1 < 0 ∨ 8 ≤ p1.toNatClampNeg)) (some (σ_4.1 (100 + 3) p1.toNatClampNeg, σ_4))) else (gd (q_21 = (100 + 4)) (gd (¬ (p1 < 0 ∨ 8 ≤ p1.toNatClampNeg)) (some (σ_4.1 (100 + 4) p1.toNatClampNeg, σ_4)))))))) (fun _ => bd (fX0_finds σ_4) (fun r_28 σ_30 => some (r_28, σ_30)))))
set_option maxHeartbeats 4000000 in
set_option maxRecDepth 100000 in
theorem tX0_ofCell (l : Launch) (w : ZW) {σ σ' : ZS} {p1 : Int32} {p2 : Int32} {r : Int32} (hf : fX0_ofCell σ p1 p2 = some (r, σ')) : zC l w zLx yX0_ofCell (wsW_ yX0_ofCell cX0_ofCell 4 (some .int) [(0, 39, 88, 8), (40, 87, 88, 8)]) 725 6073 [.ref (w.2.2 0), .int p1, .int p2] σ (.returned (some (.int r))) σ' := by
  refine zC.ofW (plainFor_of_name (by decide)) (Nat.le_of_ble_eq_true rfl) ?_
  intro p e s m args below meth c C hnm
  show Z p l e _ s m args below meth c _ w _ _ 4 σ 0 [(0, .ref (w.2.2 0)), (1, .int p1), (2, .int p2)] []
  unfold fX0_ofCell at hf
  refine z_aload_n C 0 dX0_ofCell_0 rfl rfl ?_
  refine z_aload_n C 0 dX0_ofCell_1 rfl rfl ?_
  refine z_iload_n C 1 dX0_ofCell_2 rfl rfl ?_
  refine z_calli C (rest := [.ref (w.2.2 0)]) (av := (.ref (w.2.2 0) :: [.int p1])) (zPay.of q371 q74) (fun H ls hH h2 => zInv_V C (As := [.int p1]) (rest := [.ref (w.2.2 0)]) (ci := 0) (T := TX0) (N := 8) rfl (zSee.fix ly_x0) hH q368 q370 qs3 (Or.inl rfl) q371 mh_X0 np_X0_isCell dX0_ofCell_3) (tX0_isCell l w σ p1) (Nat.le_of_ble_eq_true rfl) (Nat.le_of_ble_eq_true rfl) ?_
  obtain ⟨j_1, ej_1, hf⟩ := nmo_ hf
  have hj_1 : j_1 = 0 ∨ j_1 = 1 := by rw [ej_1]; (try dsimp only [nm]); (repeat' split) <;> first | exact Or.inl rfl | exact Or.inr rfl
  have hjj_1 : Z p l e (zRm 725 6073 σ) s m args below meth c (zQ below w zLx σ (.returned (some (.int r))) σ' args s) w zLx (zA w zLx σ) 4 σ 23 [(0, .ref (w.2.2 0)), (1, .int p1), (2, .int p2)] [.int j_1, .ref (w.2.2 0)] := by
    refine z_iconst C 1 dX0_ofCell_23 (by decide) ?_
    obtain ⟨r_2, σ_4, e_3, hf⟩ := bd_ hf
    rcases r_2 with ⟨⟩ | ⟨⟩
    · dsimp only [sc] at hf
      refine z_callv C (rest := []) (av := (.ref (w.2.2 0) :: [.int j_1, .int 1])) (zPay.of q354 q74) (fun H ls hH h2 => zInv_V C (As := [.int j_1, .int 1]) (rest := []) (ci := 0) (T := TX0) (N := 8) rfl (zSee.fix ly_x0) hH q351 q353 qs1 (Or.inl rfl) q354 mh_X0 np_X0_need dX0_ofCell_24) (tX0_need l w e_3) (Nat.le_of_ble_eq_true rfl) (Nat.le_of_ble_eq_true rfl) ?_
      refine z_iload_n C 2 dX0_ofCell_27 rfl rfl ?_
      refine z_iconst C 3 dX0_ofCell_28 (by decide) ?_
      refine z_icmp_ge C 40 dX0_ofCell_29 (by decide) (fun c_7 => ?_) (fun c_7 => ?_)
      · replace hf := if_t c_7 hf
        refine z_iload_n C 2 dX0_ofCell_40 rfl rfl ?_
        refine z_iconst C 3 dX0_ofCell_41 (by decide) ?_
        obtain ⟨j_8, σ_9, e_10, hf⟩ := bd_ hf
        have hje_10 : Z p l e (zRm 725 6073 σ) s m args below meth c (zQ below w zLx σ (.returned (some (.int r))) σ' args s) w zLx (zA w zLx σ) 4 σ_9 87 [(0, .ref (w.2.2 0)), (1, .int p1), (2, .int p2)] [.int j_8] := by
          obtain ⟨rfl, rfl⟩ := fin_ hf
          exact z_iret C rfl dX0_ofCell_87
        replace hf := e_10
        refine z_icmp_ne C 56 dX0_ofCell_42 (by decide) (fun c_11 => ?_) (fun c_11 => ?_)
        · replace hf := if_f c_11 hf
          refine z_iload_n C 2 dX0_ofCell_56 rfl rfl ?_
          refine z_iconst C 4 dX0_ofCell_57 (by decide) ?_
          refine z_icmp_ne C 79 dX0_ofCell_58 (by decide) (fun c_12 => ?_) (fun c_12 => ?_)
          · replace hf := if_f c_12 hf
            refine z_aload_n C 0 dX0_ofCell_79 rfl rfl ?_
            refine z_getR C ly_x0 (Cn := RX0) (T := TX0) (N := 8) rfl in_X0 1 (by decide) q320 (Or.inl rfl) rfl dX0_ofCell_80 ?_
            refine z_iload_n C 1 dX0_ofCell_83 rfl rfl ?_
            obtain ⟨r_13, e_14, hf⟩ := bo_ hf
            refine z_calli C (rest := []) (av := (.ref (w.2.2 100) :: [.int p1])) (zPay.of q436 q79) (fun H ls hH h2 => zInv_V C (As := [.int p1]) (rest := []) (ci := 2) (T := TX2) (N := 20) rfl (zSee.fix (ly_b0 zb100)) hH q433 q434 q435 (Or.inl rfl) q436 mh_X2 np_X2_whoAreAt dX0_ofCell_84) (tX2_whoAreAt l w zb100 e_14) (Nat.le_of_ble_eq_true rfl) (Nat.le_of_ble_eq_true rfl) ?_
            obtain ⟨rfl, rfl⟩ := fin_ hf
            exact hje_10
          · replace hf := if_t c_12 hf
            refine z_aload_n C 0 dX0_ofCell_61 rfl rfl ?_
            refine z_getR C ly_x0 (Cn := RX0) (T := TX0) (N := 8) rfl in_X0 1 (by decide) q320 (Or.inl rfl) rfl dX0_ofCell_62 ?_
            refine z_iload_n C 1 dX0_ofCell_65 rfl rfl ?_
            refine z_aload_n C 0 dX0_ofCell_66 rfl rfl ?_
            refine z_getR C ly_x0 (Cn := RX0) (T := TX0) (N := 8) rfl in_X0 1 (by decide) q320 (Or.inl rfl) rfl dX0_ofCell_67 ?_
            refine z_getIN C (ly_b0 zb100) (Cn := RX2) (T := TX2) (N := 20) rfl in_X2 5 (by decide) q224 (Or.inl rfl) rfl dX0_ofCell_70 ?_
            obtain ⟨r_15, σ_17, e_16, hf⟩ := bd_ hf
            refine z_calli C (rest := []) (av := (.ref (w.2.2 100) :: [.int p1, .int (σ_4.1 100 5)])) (zPay.of q428 q79) (fun H ls hH h2 => zInv_V C (As := [.int p1, .int (σ_4.1 100 5)]) (rest := []) (ci := 2) (T := TX2) (N := 20) rfl (zSee.fix (ly_b0 zb100)) hH q425 q426 q427 (Or.inl rfl) q428 mh_X2 np_X2_shown dX0_ofCell_73) (tX2_shown l w zb100 e_16) (Nat.le_of_ble_eq_true rfl) (Nat.le_of_ble_eq_true rfl) ?_
            refine z_goto C 87 dX0_ofCell_76 (by decide) ?_
            obtain ⟨rfl, rfl⟩ := fin_ hf
            exact hje_10
        · replace hf := if_t c_11 hf
          refine z_aload_n C 0 dX0_ofCell_45 rfl rfl ?_
          refine z_getR C ly_x0 (Cn := RX0) (T := TX0) (N := 8) rfl in_X0 1 (by decide) q320 (Or.inl rfl) rfl dX0_ofCell_46 ?_
          refine z_iload_n C 1 dX0_ofCell_49 rfl rfl ?_
          obtain ⟨r_18, σ_20, e_19, hf⟩ := bd_ hf
          refine z_calli C (rest := []) (av := (.ref (w.2.2 100) :: [.int p1])) (zPay.of q383 q79) (fun H ls hH h2 => zInv_V C (As := [.int p1]) (rest := []) (ci := 2) (T := TX2) (N := 20) rfl (zSee.fix (ly_b0 zb100)) hH q380 q381 q382 (Or.inl rfl) q383 mh_X2 np_X2_trueDepth dX0_ofCell_50) (tX2_trueDepth l w zb100 e_19) (Nat.le_of_ble_eq_true rfl) (Nat.le_of_ble_eq_true rfl) ?_
          refine z_goto C 87 dX0_ofCell_53 (by decide) ?_
          obtain ⟨rfl, rfl⟩ := fin_ hf
          exact hje_10
      · replace hf := if_f c_7 hf
        refine z_aload_n C 0 dX0_ofCell_32 rfl rfl ?_
        refine z_iload_n C 2 dX0_ofCell_33 rfl rfl ?_
        refine z_callr C (rest := []) (av := (.ref (w.2.2 0) :: [.int p2])) (zPay.of q375 q74) (fun H ls hH h2 => zInv_V C (As := [.int p2]) (rest := []) (ci := 0) (T := TX0) (N := 8) rfl (zSee.fix ly_x0) hH q372 q374 qs4 (Or.inl rfl) q375 mh_X0 np_X0_cellRow dX0_ofCell_34) (tX0_cellRow l w σ_4 p2) (Nat.le_of_ble_eq_true rfl) (Nat.le_of_ble_eq_true rfl) ?_
        obtain ⟨q_21, eq_21, hf⟩ := nmo_ hf
        refine z_eq (congrArg (fun z => Value.ref (w.2.2 z)) eq_21.symm) ?_
        by_cases c_22 : q_21 = (100 + 2)
        · replace hf := if_t c_22 hf
          refine z_eq (congrArg (fun z => Value.ref (w.2.2 z)) c_22) ?_
          refine z_iload_n C 1 dX0_ofCell_37 rfl rfl ?_
          obtain ⟨g_23, hf⟩ := gd_ hf
          refine z_ialoadF C (ly_b2 zb100) g_23 dX0_ofCell_38 ?_
          obtain ⟨rfl, rfl⟩ := fin_ hf
          exact z_iret C rfl dX0_ofCell_39
        replace hf := if_f c_22 hf
        by_cases c_24 : q_21 = (100 + 3)
        · replace hf := if_t c_24 hf
          refine z_eq (congrArg (fun z => Value.ref (w.2.2 z)) c_24) ?_
          refine z_iload_n C 1 dX0_ofCell_37 rfl rfl ?_
          obtain ⟨g_25, hf⟩ := gd_ hf
          refine z_ialoadF C (ly_b3 zb100) g_25 dX0_ofCell_38 ?_
          obtain ⟨rfl, rfl⟩ := fin_ hf
          exact z_iret C rfl dX0_ofCell_39
        replace hf := if_f c_24 hf
        obtain ⟨c_26, hf⟩ := gd_ hf
        refine z_eq (congrArg (fun z => Value.ref (w.2.2 z)) c_26) ?_
        refine z_iload_n C 1 dX0_ofCell_37 rfl rfl ?_
        obtain ⟨g_27, hf⟩ := gd_ hf
        refine z_ialoadF C (ly_b4 zb100) g_27 dX0_ofCell_38 ?_
        obtain ⟨rfl, rfl⟩ := fin_ hf
        exact z_iret C rfl dX0_ofCell_39
    · dsimp only [sc] at hf
      refine z_callt C (rest := []) (av := (.ref (w.2.2 0) :: [.int j_1, .int 1])) (zPay.of q354 q74) (fun H ls hH h2 => zInv_V C (As := [.int j_1, .int 1]) (rest := []) (ci := 0) (T := TX0) (N := 8) rfl (zSee.fix ly_x0) hH q351 q353 qs1 (Or.inl rfl) q354 mh_X0 np_X0_need dX0_ofCell_24) (tX0_need l w e_3) (Nat.le_of_ble_eq_true rfl) (Nat.le_of_ble_eq_true rfl) ?_
      refine z_catch C [] 0 39 88 8 [(40, 87, 88, 8)] rfl (by decide) (by decide) (by decide) (ci := 1) (Cn := RX1) (T0 := TX1) (N := 7) rfl (zSee.fix ly_x1) q118 ?_
      refine z_astore_n C dX0_ofCell_88 rfl (by decide) rfl (lv' := [(3, .ref (w.2.2 1)), (0, .ref (w.2.2 0)), (1, .int p1), (2, .int p2)]) ?_
      refine z_aload_n C 1 dX0_ofCell_89 rfl rfl ?_
      refine z_aload_n C 0 dX0_ofCell_90 rfl rfl ?_
      obtain ⟨r_28, σ_30, e_29, hf⟩ := bd_ hf
      refine z_calli C (rest := []) (av := (.ref (w.2.2 0) :: [.ref (w.2.2 1)])) (zPay.of q362 q74) (fun H ls hH h2 => zInv_V C (As := [.ref (w.2.2 1)]) (rest := []) (ci := 0) (T := TX0) (N := 8) rfl (zSee.fix ly_x0) hH q359 q361 qs2 (Or.inl rfl) q362 mh_X0 np_X0_finds dX0_ofCell_91) (tX0_finds l w e_29) (Nat.le_of_ble_eq_true rfl) (Nat.le_of_ble_eq_true rfl) ?_
      obtain ⟨rfl, rfl⟩ := fin_ hf
      exact z_iret C rfl dX0_ofCell_94
  replace hf := ej_1
  refine z_if_eq C 22 dX0_ofCell_6 (by decide) (fun c_31 => ?_) (fun c_31 => ?_)
  · replace hf := ifp_t c_31 hf
    refine z_iconst C 0 dX0_ofCell_22 (by decide) ?_
    subst hf
    exact hjj_1
  · replace hf := ifp_f c_31 hf
    refine z_iload_n C 2 dX0_ofCell_9 rfl rfl ?_
    refine z_iconst C 0 dX0_ofCell_10 (by decide) ?_
    refine z_iconst C 5 dX0_ofCell_11 (by decide) ?_
    refine z_calli C (rest := [.ref (w.2.2 0)]) (av := [.int p2, .int 0, .int 5]) (zPay.of q350 q74) (fun H ls hH h2 => zInv_S C (As := [.int p2, .int 0, .int 5]) (rest := [.ref (w.2.2 0)]) q348 q349 q74 (Or.inl rfl) q350 mh_X0 np_X0_in dX0_ofCell_12) (tX0_in l w zLx σ p2 0 5) (Nat.le_of_ble_eq_true rfl) (Nat.le_of_ble_eq_true rfl) ?_
    refine z_if_eq C 22 dX0_ofCell_15 (by decide) (fun c_32 => ?_) (fun c_32 => ?_)
    · replace hf := ifp_t c_32 hf
      refine z_iconst C 0 dX0_ofCell_22 (by decide) ?_
      subst hf
      exact hjj_1
    · replace hf := ifp_f c_32 hf
      refine z_iconst C 1 dX0_ofCell_18 (by decide) ?_
      refine z_goto C 23 dX0_ofCell_19 (by decide) ?_
      subst hf
      exact hjj_1
def fX0_leastFalse_L32 (y1 : Int32) (y2 : Int32) (y3 : Int32) (y4 : Int32) : Nat → Int32 → Int32 → ZS → Option ((Int32 × Int32) × ZS)
  | 0, _, _, _ => none
  | n + 1, y5, y6, σ => if (σ.1 100 0) ≤ y6 then (some ((y5, y6), σ)) else (bd (fX2_depthIn σ 100 y6 ((σ.1 100 4) - y4)) (fun r_8 σ_10 => bd (fX2_trueDepth σ_10 100 y6) (fun r_11 σ_13 => nm (if r_8 = r_11 then 0 else 1) (fun (j_14 : Int32) => nm (y5 + j_14) (fun (x5_15 : Int32) => nm (y6 + 1) (fun (x6_16 : Int32) => fX0_leastFalse_L32 y1 y2 y3 y4 n x5_15 x6_16 σ_13))))))
def fX0_leastFalse_L19 (y1 : Int32) : Nat → Int32 → Int32 → Int32 → ZS → Option ((Int32 × Int32 × Int32) × ZS)
  | 0, _, _, _, _ => none
  | n + 1, y2, y3, y4, σ => if 99 < y4 then (some ((y2, y3, y4), σ)) else (bd (fX0_leastFalse_L32 y1 y2 y3 y4 10000 0 0 σ) (fun uu20 σ_20 => nm (if y3 ≤ (uu20.1) then y2 else y4) (fun (j_22 : Int32) => nm (fJ3_min y3 (uu20.1)) (fun (x3_23 : Int32) => nm (y4 + 1) (fun (x4_24 : Int32) => fX0_leastFalse_L19 y1 n j_22 x3_23 x4_24 σ_20)))))
def fX0_leastFalse (σ : ZS) (p1 : Int32) : Option (Int32 × ZS) := bd (fX0_need σ (fX0_in p1 0 1) 1) (fun r_1 σ_3 => sc r_1 (fun _ => bd (fX0_leastFalse_L19 p1 10000 0 9 1 σ_3) (fun uu29 σ_29 => nm (if p1 = 0 then (uu29.1) else (uu29.2.1)) (fun (j_31 : Int32) => some (j_31, σ_29)))) (fun _ => bd (fX0_finds σ_3) (fun r_33 σ_35 => some (r_33, σ_35))))
set_option maxHeartbeats 4000000 in
set_option maxRecDepth 100000 in
theorem lfX0_leastFalse_L32 {p : Program} {l : Launch} {e : Env} {R : Room} {s : State} {m : MethodId} {args : Array Value} {below : List Frame} {meth : Method} {c : Code} {Q : State → Prop} {w : ZW} {A : Nat → Prop} {ret : Option FieldType} {hh : List (Nat × Nat × Nat × Nat)} (C : zCx p s m args meth c w zLx A 7 cX0_leastFalse RX0 ret hh) (hfr : 724 ≤ R.frames) (hlo : 6061 ≤ R.locals) (y1 : Int32) (y2 : Int32) (y3 : Int32) (y4 : Int32) {z5 : Int32} {z6 : Int32} {σ' : ZS} (hk : Z p l e R s m args below meth c Q w zLx A 7 σ' 91 [(0, .ref (w.2.2 0)), (1, .int y1), (2, .int y2), (3, .int y3), (4, .int y4), (5, .int z5), (6, .int z6)] []) : ∀ (n : Nat) (y5 : Int32) (y6 : Int32) (σ : ZS), fX0_leastFalse_L32 y1 y2 y3 y4 n y5 y6 σ = some ((z5, z6), σ') → Z p l e R s m args below meth c Q w zLx A 7 σ 32 [(0, .ref (w.2.2 0)), (1, .int y1), (2, .int y2), (3, .int y3), (4, .int y4), (5, .int y5), (6, .int y6)] [] := by
  intro n
  induction n with
  | zero => intro y5 y6 σ hf; exact none_ hf
  | succ n ih =>
    intro y5 y6 σ hf
    rw [fX0_leastFalse_L32] at hf
    refine z_iload C 6 dX0_leastFalse_32 rfl ?_
    refine z_aload_n C 0 dX0_leastFalse_34 rfl rfl ?_
    refine z_getR C ly_x0 (Cn := RX0) (T := TX0) (N := 8) rfl in_X0 1 (by decide) q320 (Or.inl rfl) rfl dX0_leastFalse_35 ?_
    refine z_getIN C (ly_b0 zb100) (Cn := RX2) (T := TX2) (N := 20) rfl in_X2 0 (by decide) q211 (Or.inl rfl) rfl dX0_leastFalse_38 ?_
    refine z_icmp_ge C 91 dX0_leastFalse_41 (by decide) (fun c_7 => ?_) (fun c_7 => ?_)
    · replace hf := if_t c_7 hf
      obtain ⟨hf1, rfl⟩ := fin_ hf
      simp only [Prod.mk.injEq] at hf1
      obtain ⟨rfl, rfl⟩ := hf1
      exact hk
    · replace hf := if_f c_7 hf
      refine z_iload C 5 dX0_leastFalse_44 rfl ?_
      refine z_aload_n C 0 dX0_leastFalse_46 rfl rfl ?_
      refine z_getR C ly_x0 (Cn := RX0) (T := TX0) (N := 8) rfl in_X0 1 (by decide) q320 (Or.inl rfl) rfl dX0_leastFalse_47 ?_
      refine z_iload C 6 dX0_leastFalse_50 rfl ?_
      refine z_aload_n C 0 dX0_leastFalse_52 rfl rfl ?_
      refine z_getR C ly_x0 (Cn := RX0) (T := TX0) (N := 8) rfl in_X0 1 (by decide) q320 (Or.inl rfl) rfl dX0_leastFalse_53 ?_
      refine z_getIN C (ly_b0 zb100) (Cn := RX2) (T := TX2) (N := 20) rfl in_X2 4 (by decide) q219 (Or.inl rfl) rfl dX0_leastFalse_56 ?_
      refine z_iload C 4 dX0_leastFalse_59 rfl ?_
      refine z_isub C dX0_leastFalse_61 ?_
      obtain ⟨r_8, σ_10, e_9, hf⟩ := bd_ hf
      refine z_calli C (rest := [.int y5]) (av := (.ref (w.2.2 100) :: [.int y6, .int ((σ.1 100 4) - y4)])) (zPay.of q387 q79) (fun H ls hH h2 => zInv_V C (As := [.int y6, .int ((σ.1 100 4) - y4)]) (rest := [.int y5]) (ci := 2) (T := TX2) (N := 20) rfl (zSee.fix (ly_b0 zb100)) hH q961 q385 q386 (Or.inl rfl) q387 mh_X2 np_X2_depthIn dX0_leastFalse_62) (tX2_depthIn l w zb100 e_9) (Nat.le_trans (Nat.le_of_ble_eq_true rfl) hfr) (Nat.le_trans (Nat.le_of_ble_eq_true rfl) hlo) ?_
      refine z_aload_n C 0 dX0_leastFalse_65 rfl rfl ?_
      refine z_getR C ly_x0 (Cn := RX0) (T := TX0) (N := 8) rfl in_X0 1 (by decide) q320 (Or.inl rfl) rfl dX0_leastFalse_66 ?_
      refine z_iload C 6 dX0_leastFalse_69 rfl ?_
      obtain ⟨r_11, σ_13, e_12, hf⟩ := bd_ hf
      refine z_calli C (rest := [.int r_8, .int y5]) (av := (.ref (w.2.2 100) :: [.int y6])) (zPay.of q383 q79) (fun H ls hH h2 => zInv_V C (As := [.int y6]) (rest := [.int r_8, .int y5]) (ci := 2) (T := TX2) (N := 20) rfl (zSee.fix (ly_b0 zb100)) hH q380 q381 q382 (Or.inl rfl) q383 mh_X2 np_X2_trueDepth dX0_leastFalse_71) (tX2_trueDepth l w zb100 e_12) (Nat.le_trans (Nat.le_of_ble_eq_true rfl) hfr) (Nat.le_trans (Nat.le_of_ble_eq_true rfl) hlo) ?_
      obtain ⟨j_14, ej_14, hf⟩ := nmo_ hf
      have hj_14 : j_14 = 0 ∨ j_14 = 1 := by rw [ej_14]; (try dsimp only [nm]); (repeat' split) <;> first | exact Or.inl rfl | exact Or.inr rfl
      have hjj_14 : Z p l e R s m args below meth c Q w zLx A 7 σ_13 82 [(0, .ref (w.2.2 0)), (1, .int y1), (2, .int y2), (3, .int y3), (4, .int y4), (5, .int y5), (6, .int y6)] [.int j_14, .int y5] := by
        refine z_iadd C dX0_leastFalse_82 ?_
        obtain ⟨x5_15, ex5_15, hf⟩ := nmo_ hf
        refine z_top ex5_15 ?_
        refine z_istore C dX0_leastFalse_83 (by decide) rfl (lv' := [(5, .int x5_15), (0, .ref (w.2.2 0)), (1, .int y1), (2, .int y2), (3, .int y3), (4, .int y4), (6, .int y6)]) ?_
        obtain ⟨x6_16, ex6_16, hf⟩ := nmo_ hf
        refine z_iinc C x6_16 6 dX0_leastFalse_85 rfl (by rw [ex6_16]; rfl) (by decide) rfl (lv' := [(6, .int x6_16), (5, .int x5_15), (0, .ref (w.2.2 0)), (1, .int y1), (2, .int y2), (3, .int y3), (4, .int y4)]) ?_
        refine z_goto C 32 dX0_leastFalse_88 (by decide) ?_
        exact z_lv [2, 3, 4, 5, 6, 1, 0] rfl (ih _ _ _ hf)
      replace hf := ej_14
      refine z_icmp_ne C 81 dX0_leastFalse_74 (by decide) (fun c_17 => ?_) (fun c_17 => ?_)
      · replace hf := ifp_f c_17 hf
        refine z_iconst C 1 dX0_leastFalse_81 (by decide) ?_
        subst hf
        exact hjj_14
      · replace hf := ifp_t c_17 hf
        refine z_iconst C 0 dX0_leastFalse_77 (by decide) ?_
        refine z_goto C 82 dX0_leastFalse_78 (by decide) ?_
        subst hf
        exact hjj_14
set_option maxHeartbeats 4000000 in
set_option maxRecDepth 100000 in
theorem lfX0_leastFalse_L19 {p : Program} {l : Launch} {e : Env} {R : Room} {s : State} {m : MethodId} {args : Array Value} {below : List Frame} {meth : Method} {c : Code} {Q : State → Prop} {w : ZW} {A : Nat → Prop} {ret : Option FieldType} {hh : List (Nat × Nat × Nat × Nat)} (C : zCx p s m args meth c w zLx A 7 cX0_leastFalse RX0 ret hh) (hfr : 724 ≤ R.frames) (hlo : 6061 ≤ R.locals) (y1 : Int32) {z2 : Int32} {z3 : Int32} {z4 : Int32} {σ' : ZS} (hk : Z p l e R s m args below meth c Q w zLx A 7 σ' 117 [(0, .ref (w.2.2 0)), (1, .int y1), (2, .int z2), (3, .int z3), (4, .int z4)] []) : ∀ (n : Nat) (y2 : Int32) (y3 : Int32) (y4 : Int32) (σ : ZS), fX0_leastFalse_L19 y1 n y2 y3 y4 σ = some ((z2, z3, z4), σ') → Z p l e R s m args below meth c Q w zLx A 7 σ 19 [(0, .ref (w.2.2 0)), (1, .int y1), (2, .int y2), (3, .int y3), (4, .int y4)] [] := by
  intro n
  induction n with
  | zero => intro y2 y3 y4 σ hf; exact none_ hf
  | succ n ih =>
    intro y2 y3 y4 σ hf
    rw [fX0_leastFalse_L19] at hf
    refine z_iload C 4 dX0_leastFalse_19 rfl ?_
    refine z_bipush C 99 dX0_leastFalse_21 (by decide) ?_
    refine z_icmp_gt C 117 dX0_leastFalse_23 (by decide) (fun c_6 => ?_) (fun c_6 => ?_)
    · replace hf := if_t c_6 hf
      obtain ⟨hf1, rfl⟩ := fin_ hf
      simp only [Prod.mk.injEq] at hf1
      obtain ⟨rfl, rfl, rfl⟩ := hf1
      exact hk
    · replace hf := if_f c_6 hf
      refine z_iconst C 0 dX0_leastFalse_26 (by decide) ?_
      refine z_istore C dX0_leastFalse_27 (by decide) rfl (lv' := [(5, .int 0), (0, .ref (w.2.2 0)), (1, .int y1), (2, .int y2), (3, .int y3), (4, .int y4)]) ?_
      refine z_iconst C 0 dX0_leastFalse_29 (by decide) ?_
      refine z_istore C dX0_leastFalse_30 (by decide) rfl (lv' := [(6, .int 0), (5, .int 0), (0, .ref (w.2.2 0)), (1, .int y1), (2, .int y2), (3, .int y3), (4, .int y4)]) ?_
      obtain ⟨⟨x5_18, x6_19⟩, σ_20, e_21, hf⟩ := bd_ hf
      try dsimp only at hf
      refine z_lv (lv' := [(0, .ref (w.2.2 0)), (1, .int y1), (2, .int y2), (3, .int y3), (4, .int y4), (5, .int 0), (6, .int 0)]) [2, 3, 4, 5, 6, 1, 0] rfl ?_
      refine lfX0_leastFalse_L32 C (Nat.le_trans (Nat.le_of_ble_eq_true rfl) hfr) (Nat.le_trans (Nat.le_of_ble_eq_true rfl) hlo) y1 y2 y3 y4 ?_ _ _ _ _ e_21
      refine z_iload C 5 dX0_leastFalse_91 rfl ?_
      refine z_iload_n C 3 dX0_leastFalse_93 rfl rfl ?_
      obtain ⟨j_22, ej_22, hf⟩ := nmo_ hf
      have hjj_22 : Z p l e R s m args below meth c Q w zLx A 7 σ_20 103 [(0, .ref (w.2.2 0)), (1, .int y1), (2, .int y2), (3, .int y3), (4, .int y4), (5, .int x5_18), (6, .int x6_19)] [.int j_22] := by
        refine z_istore_n C dX0_leastFalse_103 rfl (by decide) rfl (lv' := [(2, .int j_22), (0, .ref (w.2.2 0)), (1, .int y1), (3, .int y3), (4, .int y4), (5, .int x5_18), (6, .int x6_19)]) ?_
        refine z_iload_n C 3 dX0_leastFalse_104 rfl rfl ?_
        refine z_iload C 5 dX0_leastFalse_105 rfl ?_
        refine z_calli C (rest := []) (av := [.int y3, .int x5_18]) (zPay.of q424 q84) (fun H ls hH h2 => zInv_S C (As := [.int y3, .int x5_18]) (rest := []) q1001 q423 q84 (Or.inl rfl) q424 mh_J3 np_J3_min dX0_leastFalse_107) (tJ3_min l w zLx σ_20 y3 x5_18) (Nat.le_trans (Nat.le_of_ble_eq_true rfl) hfr) (Nat.le_trans (Nat.le_of_ble_eq_true rfl) hlo) ?_
        obtain ⟨x3_23, ex3_23, hf⟩ := nmo_ hf
        refine z_top ex3_23 ?_
        refine z_istore_n C dX0_leastFalse_110 rfl (by decide) rfl (lv' := [(3, .int x3_23), (2, .int j_22), (0, .ref (w.2.2 0)), (1, .int y1), (4, .int y4), (5, .int x5_18), (6, .int x6_19)]) ?_
        obtain ⟨x4_24, ex4_24, hf⟩ := nmo_ hf
        refine z_iinc C x4_24 4 dX0_leastFalse_111 rfl (by rw [ex4_24]; rfl) (by decide) rfl (lv' := [(4, .int x4_24), (3, .int x3_23), (2, .int j_22), (0, .ref (w.2.2 0)), (1, .int y1), (5, .int x5_18), (6, .int x6_19)]) ?_
        refine z_goto C 19 dX0_leastFalse_114 (by decide) ?_
        exact z_lv [3, 4, 2, 1, 0] rfl (ih _ _ _ _ hf)
      replace hf := ej_22
      refine z_icmp_ge C 102 dX0_leastFalse_94 (by decide) (fun c_25 => ?_) (fun c_25 => ?_)
      · replace hf := ifp_t c_25 hf
        refine z_iload_n C 2 dX0_leastFalse_102 rfl rfl ?_
        subst hf
        exact hjj_22
      · replace hf := ifp_f c_25 hf
        refine z_iload C 4 dX0_leastFalse_97 rfl ?_
        refine z_goto C 103 dX0_leastFalse_99 (by decide) ?_
        subst hf
        exact hjj_22
set_option maxHeartbeats 4000000 in
set_option maxRecDepth 100000 in
theorem tX0_leastFalse (l : Launch) (w : ZW) {σ σ' : ZS} {p1 : Int32} {r : Int32} (hf : fX0_leastFalse σ p1 = some (r, σ')) : zC l w zLx yX0_leastFalse (wsW_ yX0_leastFalse cX0_leastFalse 7 (some .int) [(0, 126, 127, 8)]) 724 6061 [.ref (w.2.2 0), .int p1] σ (.returned (some (.int r))) σ' := by
  refine zC.ofW (plainFor_of_name (by decide)) (Nat.le_of_ble_eq_true rfl) ?_
  intro p e s m args below meth c C hnm
  show Z p l e _ s m args below meth c _ w _ _ 7 σ 0 [(0, .ref (w.2.2 0)), (1, .int p1)] []
  unfold fX0_leastFalse at hf
  refine z_aload_n C 0 dX0_leastFalse_0 rfl rfl ?_
  refine z_iload_n C 1 dX0_leastFalse_1 rfl rfl ?_
  refine z_iconst C 0 dX0_leastFalse_2 (by decide) ?_
  refine z_iconst C 1 dX0_leastFalse_3 (by decide) ?_
  refine z_calli C (rest := [.ref (w.2.2 0)]) (av := [.int p1, .int 0, .int 1]) (zPay.of q350 q74) (fun H ls hH h2 => zInv_S C (As := [.int p1, .int 0, .int 1]) (rest := [.ref (w.2.2 0)]) q348 q349 q74 (Or.inl rfl) q350 mh_X0 np_X0_in dX0_leastFalse_4) (tX0_in l w zLx σ p1 0 1) (Nat.le_of_ble_eq_true rfl) (Nat.le_of_ble_eq_true rfl) ?_
  refine z_iconst C 1 dX0_leastFalse_7 (by decide) ?_
  obtain ⟨r_1, σ_3, e_2, hf⟩ := bd_ hf
  rcases r_1 with ⟨⟩ | ⟨⟩
  · dsimp only [sc] at hf
    refine z_callv C (rest := []) (av := (.ref (w.2.2 0) :: [.int (fX0_in p1 0 1), .int 1])) (zPay.of q354 q74) (fun H ls hH h2 => zInv_V C (As := [.int (fX0_in p1 0 1), .int 1]) (rest := []) (ci := 0) (T := TX0) (N := 8) rfl (zSee.fix ly_x0) hH q351 q353 qs1 (Or.inl rfl) q354 mh_X0 np_X0_need dX0_leastFalse_8) (tX0_need l w e_2) (Nat.le_of_ble_eq_true rfl) (Nat.le_of_ble_eq_true rfl) ?_
    refine z_iconst C 0 dX0_leastFalse_11 (by decide) ?_
    refine z_istore_n C dX0_leastFalse_12 rfl (by decide) rfl (lv' := [(2, .int 0), (0, .ref (w.2.2 0)), (1, .int p1)]) ?_
    refine z_bipush C 9 dX0_leastFalse_13 (by decide) ?_
    refine z_istore_n C dX0_leastFalse_15 rfl (by decide) rfl (lv' := [(3, .int 9), (2, .int 0), (0, .ref (w.2.2 0)), (1, .int p1)]) ?_
    refine z_iconst C 1 dX0_leastFalse_16 (by decide) ?_
    refine z_istore C dX0_leastFalse_17 (by decide) rfl (lv' := [(4, .int 1), (3, .int 9), (2, .int 0), (0, .ref (w.2.2 0)), (1, .int p1)]) ?_
    obtain ⟨⟨x2_26, x3_27, x4_28⟩, σ_29, e_30, hf⟩ := bd_ hf
    try dsimp only at hf
    refine z_lv (lv' := [(0, .ref (w.2.2 0)), (1, .int p1), (2, .int 0), (3, .int 9), (4, .int 1)]) [3, 4, 2, 1, 0] rfl ?_
    refine lfX0_leastFalse_L19 C (Nat.le_of_ble_eq_true rfl) (Nat.le_of_ble_eq_true rfl) p1 ?_ _ _ _ _ _ e_30
    refine z_iload_n C 1 dX0_leastFalse_117 rfl rfl ?_
    obtain ⟨j_31, ej_31, hf⟩ := nmo_ hf
    have hjj_31 : Z p l e (zRm 724 6061 σ) s m args below meth c (zQ below w zLx σ (.returned (some (.int r))) σ' args s) w zLx (zA w zLx σ) 7 σ_29 126 [(0, .ref (w.2.2 0)), (1, .int p1), (2, .int x2_26), (3, .int x3_27), (4, .int x4_28)] [.int j_31] := by
      obtain ⟨rfl, rfl⟩ := fin_ hf
      exact z_iret C rfl dX0_leastFalse_126
    replace hf := ej_31
    refine z_if_ne C 125 dX0_leastFalse_118 (by decide) (fun c_32 => ?_) (fun c_32 => ?_)
    · replace hf := ifp_f c_32 hf
      refine z_iload_n C 3 dX0_leastFalse_125 rfl rfl ?_
      subst hf
      exact hjj_31
    · replace hf := ifp_t c_32 hf
      refine z_iload_n C 2 dX0_leastFalse_121 rfl rfl ?_
      refine z_goto C 126 dX0_leastFalse_122 (by decide) ?_
      subst hf
      exact hjj_31
  · dsimp only [sc] at hf
    refine z_callt C (rest := []) (av := (.ref (w.2.2 0) :: [.int (fX0_in p1 0 1), .int 1])) (zPay.of q354 q74) (fun H ls hH h2 => zInv_V C (As := [.int (fX0_in p1 0 1), .int 1]) (rest := []) (ci := 0) (T := TX0) (N := 8) rfl (zSee.fix ly_x0) hH q351 q353 qs1 (Or.inl rfl) q354 mh_X0 np_X0_need dX0_leastFalse_8) (tX0_need l w e_2) (Nat.le_of_ble_eq_true rfl) (Nat.le_of_ble_eq_true rfl) ?_
    refine z_catch C [] 0 126 127 8 [] rfl (by decide) (by decide) (by decide) (ci := 1) (Cn := RX1) (T0 := TX1) (N := 7) rfl (zSee.fix ly_x1) q118 ?_
    refine z_astore_n C dX0_leastFalse_127 rfl (by decide) rfl (lv' := [(2, .ref (w.2.2 1)), (0, .ref (w.2.2 0)), (1, .int p1)]) ?_
    refine z_aload_n C 1 dX0_leastFalse_128 rfl rfl ?_
    refine z_aload_n C 0 dX0_leastFalse_129 rfl rfl ?_
    obtain ⟨r_33, σ_35, e_34, hf⟩ := bd_ hf
    refine z_calli C (rest := []) (av := (.ref (w.2.2 0) :: [.ref (w.2.2 1)])) (zPay.of q362 q74) (fun H ls hH h2 => zInv_V C (As := [.ref (w.2.2 1)]) (rest := []) (ci := 0) (T := TX0) (N := 8) rfl (zSee.fix ly_x0) hH q359 q361 qs2 (Or.inl rfl) q362 mh_X0 np_X0_finds dX0_leastFalse_130) (tX0_finds l w e_34) (Nat.le_of_ble_eq_true rfl) (Nat.le_of_ble_eq_true rfl) ?_
    obtain ⟨rfl, rfl⟩ := fin_ hf
    exact z_iret C rfl dX0_leastFalse_133
def fX0_isShownSo_L5 (w : ZW) (p1 : Nat) (y2 : Int32) : Nat → Int32 → Int32 → ZS → Option ((Int32 × Int32) × ZS)
  | 0, _, _, _ => none
  | n + 1, y3, y4, σ => if (σ.1 100 0) ≤ y4 then (some ((y3, y4), σ)) else (if y3 = 0 then (some ((y3, y4), σ)) else (bo (oSheet (σ.2.2.1 p1)) (fun sh3 => bo (fS_Sheet_get w σ p1 (sh3.1) (sh3.2) y4) (fun r_8 => bd (if r_8 < 0 then (some (1, σ)) else (bo (fS_Sheet_get w σ p1 (sh3.1) (sh3.2) y4) (fun r_15 => bd (fX2_shown σ 100 y4 y2) (fun r_17 σ_19 => if r_15 = r_17 then (some (1, σ_19)) else (some (0, σ_19)))))) (fun (j_10 : Int32) σ_11 => nm (y4 + 1) (fun (x4_13 : Int32) => fX0_isShownSo_L5 w p1 y2 n j_10 x4_13 σ_11))))))
def fX0_isShownSo (w : ZW) (σ : ZS) (p1 : Nat) (p2 : Int32) : Option (Int32 × ZS) := bd (fX0_isShownSo_L5 w p1 p2 10000 1 0 σ) (fun uu23 σ_23 => gd ((uu23.1) = 0 ∨ (uu23.1) = 1) (some ((uu23.1), σ_23)))
set_option maxHeartbeats 4000000 in
set_option maxRecDepth 100000 in
theorem lfX0_isShownSo_L5 {p : Program} {l : Launch} {e : Env} {R : Room} {s : State} {m : MethodId} {args : Array Value} {below : List Frame} {meth : Method} {c : Code} {Q : State → Prop} {w : ZW} {A : Nat → Prop} {ret : Option FieldType} {hh : List (Nat × Nat × Nat × Nat)} (C : zCx p s m args meth c w zLx A 5 cX0_isShownSo RX0 ret hh) (hfr : 725 ≤ R.frames) (hlo : 6074 ≤ R.locals) {p1 : Nat} (y2 : Int32) {z3 : Int32} {z4 : Int32} {σ' : ZS} (hk : Z p l e R s m args below meth c Q w zLx A 5 σ' 61 [(0, .ref (w.2.2 0)), (1, .ref p1), (2, .int y2), (3, .int z3), (4, .int z4)] []) : ∀ (n : Nat) (y3 : Int32) (y4 : Int32) (σ : ZS), fX0_isShownSo_L5 w p1 y2 n y3 y4 σ = some ((z3, z4), σ') → Z p l e R s m args below meth c Q w zLx A 5 σ 5 [(0, .ref (w.2.2 0)), (1, .ref p1), (2, .int y2), (3, .int y3), (4, .int y4)] [] := by
  intro n
  induction n with
  | zero => intro y3 y4 σ hf; exact none_ hf
  | succ n ih =>
    intro y3 y4 σ hf
    rw [fX0_isShownSo_L5] at hf
    refine z_iload C 4 dX0_isShownSo_5 rfl ?_
    refine z_aload_n C 0 dX0_isShownSo_7 rfl rfl ?_
    refine z_getR C ly_x0 (Cn := RX0) (T := TX0) (N := 8) rfl in_X0 1 (by decide) q320 (Or.inl rfl) rfl dX0_isShownSo_8 ?_
    refine z_getIN C (ly_b0 zb100) (Cn := RX2) (T := TX2) (N := 20) rfl in_X2 0 (by decide) q211 (Or.inl rfl) rfl dX0_isShownSo_11 ?_
    refine z_icmp_ge C 61 dX0_isShownSo_14 (by decide) (fun c_1 => ?_) (fun c_1 => ?_)
    · replace hf := if_t c_1 hf
      obtain ⟨hf1, rfl⟩ := fin_ hf
      simp only [Prod.mk.injEq] at hf1
      obtain ⟨rfl, rfl⟩ := hf1
      exact hk
    · replace hf := if_f c_1 hf
      refine z_iload_n C 3 dX0_isShownSo_17 rfl rfl ?_
      refine z_if_eq C 61 dX0_isShownSo_18 (by decide) (fun c_2 => ?_) (fun c_2 => ?_)
      · replace hf := if_t c_2 hf
        obtain ⟨hf1, rfl⟩ := fin_ hf
        simp only [Prod.mk.injEq] at hf1
        obtain ⟨rfl, rfl⟩ := hf1
        exact hk
      · replace hf := if_f c_2 hf
        refine z_aload_n C 1 dX0_isShownSo_21 rfl rfl ?_
        refine z_iload C 4 dX0_isShownSo_22 rfl ?_
        obtain ⟨⟨ci_3, r_4⟩, e_5, hf⟩ := bo_ hf
        try dsimp only at hf
        obtain ⟨hP_6, hci_7⟩ := oSheet_ e_5
        obtain ⟨r_8, e_9, hf⟩ := bo_ hf
        refine z_Sh_get C hci_7 hP_6 q1030 e_9 dX0_isShownSo_24 (Nat.le_trans (Nat.le_of_ble_eq_true rfl) hfr) (Nat.le_trans (Nat.le_of_ble_eq_true rfl) hlo) ?_
        obtain ⟨j_10, σ_11, e_12, hf⟩ := bd_ hf
        have hje_12 : Z p l e R s m args below meth c Q w zLx A 5 σ_11 54 [(0, .ref (w.2.2 0)), (1, .ref p1), (2, .int y2), (3, .int y3), (4, .int y4)] [.int j_10] := by
          refine z_istore_n C dX0_isShownSo_54 rfl (by decide) rfl (lv' := [(3, .int j_10), (0, .ref (w.2.2 0)), (1, .ref p1), (2, .int y2), (4, .int y4)]) ?_
          obtain ⟨x4_13, ex4_13, hf⟩ := nmo_ hf
          refine z_iinc C x4_13 4 dX0_isShownSo_55 rfl (by rw [ex4_13]; rfl) (by decide) rfl (lv' := [(4, .int x4_13), (3, .int j_10), (0, .ref (w.2.2 0)), (1, .ref p1), (2, .int y2)]) ?_
          refine z_goto C 5 dX0_isShownSo_58 (by decide) ?_
          exact z_lv [2, 3, 4, 1, 0] rfl (ih _ _ _ hf)
        replace hf := e_12
        refine z_if_lt C 49 dX0_isShownSo_27 (by decide) (fun c_14 => ?_) (fun c_14 => ?_)
        · replace hf := if_t c_14 hf
          refine z_iconst C 1 dX0_isShownSo_49 (by decide) ?_
          refine z_goto C 54 dX0_isShownSo_50 (by decide) ?_
          obtain ⟨rfl, rfl⟩ := fin_ hf
          exact hje_12
        · replace hf := if_f c_14 hf
          refine z_aload_n C 1 dX0_isShownSo_30 rfl rfl ?_
          refine z_iload C 4 dX0_isShownSo_31 rfl ?_
          obtain ⟨r_15, e_16, hf⟩ := bo_ hf
          refine z_Sh_get C hci_7 hP_6 q1030 e_16 dX0_isShownSo_33 (Nat.le_trans (Nat.le_of_ble_eq_true rfl) hfr) (Nat.le_trans (Nat.le_of_ble_eq_true rfl) hlo) ?_
          refine z_aload_n C 0 dX0_isShownSo_36 rfl rfl ?_
          refine z_getR C ly_x0 (Cn := RX0) (T := TX0) (N := 8) rfl in_X0 1 (by decide) q320 (Or.inl rfl) rfl dX0_isShownSo_37 ?_
          refine z_iload C 4 dX0_isShownSo_40 rfl ?_
          refine z_iload_n C 2 dX0_isShownSo_42 rfl rfl ?_
          obtain ⟨r_17, σ_19, e_18, hf⟩ := bd_ hf
          refine z_calli C (rest := [.int r_15]) (av := (.ref (w.2.2 100) :: [.int y4, .int y2])) (zPay.of q428 q79) (fun H ls hH h2 => zInv_V C (As := [.int y4, .int y2]) (rest := [.int r_15]) (ci := 2) (T := TX2) (N := 20) rfl (zSee.fix (ly_b0 zb100)) hH q425 q426 q427 (Or.inl rfl) q428 mh_X2 np_X2_shown dX0_isShownSo_43) (tX2_shown l w zb100 e_18) (Nat.le_trans (Nat.le_of_ble_eq_true rfl) hfr) (Nat.le_trans (Nat.le_of_ble_eq_true rfl) hlo) ?_
          refine z_icmp_ne C 53 dX0_isShownSo_46 (by decide) (fun c_20 => ?_) (fun c_20 => ?_)
          · replace hf := if_f c_20 hf
            refine z_iconst C 0 dX0_isShownSo_53 (by decide) ?_
            obtain ⟨rfl, rfl⟩ := fin_ hf
            exact hje_12
          · replace hf := if_t c_20 hf
            refine z_iconst C 1 dX0_isShownSo_49 (by decide) ?_
            refine z_goto C 54 dX0_isShownSo_50 (by decide) ?_
            obtain ⟨rfl, rfl⟩ := fin_ hf
            exact hje_12
set_option maxHeartbeats 4000000 in
set_option maxRecDepth 100000 in
theorem tX0_isShownSo (l : Launch) (w : ZW) {σ σ' : ZS} {p1 : Nat} {p2 : Int32} {r : Int32} (hf : fX0_isShownSo w σ p1 p2 = some (r, σ')) : zC l w zLx yX0_isShownSo (ws_ yX0_isShownSo cX0_isShownSo 5 (some .boolean)) 725 6074 [.ref (w.2.2 0), .ref p1, .int p2] σ (.returned (some (.int r))) σ' := by
  refine zC.of (plainFor_of_name (by decide)) (Nat.le_of_ble_eq_true rfl) ?_
  intro p e s m args below meth c C hnm
  show Z p l e _ s m args below meth c _ w _ _ 5 σ 0 [(0, .ref (w.2.2 0)), (1, .ref p1), (2, .int p2)] []
  unfold fX0_isShownSo at hf
  refine z_iconst C 1 dX0_isShownSo_0 (by decide) ?_
  refine z_istore_n C dX0_isShownSo_1 rfl (by decide) rfl (lv' := [(3, .int 1), (0, .ref (w.2.2 0)), (1, .ref p1), (2, .int p2)]) ?_
  refine z_iconst C 0 dX0_isShownSo_2 (by decide) ?_
  refine z_istore C dX0_isShownSo_3 (by decide) rfl (lv' := [(4, .int 0), (3, .int 1), (0, .ref (w.2.2 0)), (1, .ref p1), (2, .int p2)]) ?_
  obtain ⟨⟨x3_21, x4_22⟩, σ_23, e_24, hf⟩ := bd_ hf
  try dsimp only at hf
  refine z_lv (lv' := [(0, .ref (w.2.2 0)), (1, .ref p1), (2, .int p2), (3, .int 1), (4, .int 0)]) [2, 3, 4, 1, 0] rfl ?_
  refine lfX0_isShownSo_L5 C (Nat.le_of_ble_eq_true rfl) (Nat.le_of_ble_eq_true rfl) p2 ?_ _ _ _ _ e_24
  refine z_iload_n C 3 dX0_isShownSo_61 rfl rfl ?_
  obtain ⟨g_25, hf⟩ := gd_ hf
  obtain ⟨rfl, rfl⟩ := fin_ hf
  exact z_iret C (b01 g_25) dX0_isShownSo_62
def fX10_believes (w : ZW) (σ : ZS) (a : Nat) (ci : Nat) (n : Int32) (k : Int32) (b : Nat) (p2 : Int32) : Option (Int32 × ZS) := bd (fX9_believes σ a ci n k b p2) (fun r_1 σ_3 => gd (oShip w (σ_3.2.2.1 a) = some (ci, n, k)) (some (r_1 + (k - k / 3 * 3), σ_3)))
set_option maxHeartbeats 4000000 in
set_option maxRecDepth 100000 in
theorem tX10_believes (l : Launch) (w : ZW) {σ σ' : ZS} {a : Nat} {ci : Nat} {n : Int32} {k : Int32} {b : Nat} {p2 : Int32} (hci : zShipC ci) (hP : σ.2.2.1 a = some (.inr (ci, [.ref (w.2.2 4), .int n, .int k]))) (hb : zBay b) {r : Int32} (hf : fX10_believes w σ a ci n k b p2 = some (r, σ')) : zC l w zLx yX10_believes (ws_ yX10_believes cX10_believes 3 (some .int)) 726 6087 [.ref a, .ref (w.2.2 b), .int p2] σ (.returned (some (.int r))) σ' := by
  refine zC.of (plainFor_of_name (by decide)) (Nat.le_of_ble_eq_true rfl) ?_
  intro p e s m args below meth c C hnm
  show Z p l e _ s m args below meth c _ w _ _ 3 σ 0 [(0, .ref a), (1, .ref (w.2.2 b)), (2, .int p2)] []
  unfold fX10_believes at hf
  refine z_aload_n C 0 dX10_believes_0 rfl rfl ?_
  refine z_aload_n C 1 dX10_believes_1 rfl rfl ?_
  refine z_iload_n C 2 dX10_believes_2 rfl rfl ?_
  obtain ⟨r_1, σ_3, e_2, hf⟩ := bd_ hf
  refine z_calli C (rest := []) (av := (.ref a :: [.ref (w.2.2 b), .int p2])) (zPay.of q623 q87) (fun H ls hH h2 => zInv_SU C (As := [.ref (w.2.2 b), .int p2]) (rest := []) (zShip_cl hci).choose_spec.choose_spec (zSee.pool hP) hH (x := ⟨"OldLight$Ship", "believes", "(LOldLight$Bay;I)I"⟩) q596 q592 ⟨rfl, rfl⟩ q492 (zSub_self rfl) q590 (Or.inl rfl) q623 (by decide) np_X9_believes dX10_believes_3) (tX9_believes l w hci hP hb e_2) (Nat.le_of_ble_eq_true rfl) (Nat.le_of_ble_eq_true rfl) ?_
  refine z_aload_n C 0 dX10_believes_6 rfl rfl ?_
  obtain ⟨g_4, hf⟩ := gd_ hf
  have hP_5 := (oShip_ g_4).1
  refine z_getS2 C hci hP_5 q482 (Or.inr q483) dX10_believes_7 ?_
  refine z_iconst C 3 dX10_believes_10 (by decide) ?_
  refine z_irem C dX10_believes_11 (by decide) ?_
  refine z_iadd C dX10_believes_12 ?_
  obtain ⟨rfl, rfl⟩ := fin_ hf
  exact z_iret C rfl dX10_believes_13
def fX12_believes (σ : ZS) (a : Nat) (ci : Nat) (n : Int32) (k : Int32) (b : Nat) (p2 : Int32) : Option (Int32 × ZS) := bd (fX9_believes σ a ci n k b p2) (fun r_1 σ_3 => bd (fX2_trueDepth σ_3 b p2) (fun r_4 σ_6 => some (fJ3_min r_1 r_4, σ_6)))
set_option maxHeartbeats 4000000 in
set_option maxRecDepth 100000 in
theorem tX12_believes (l : Launch) (w : ZW) {σ σ' : ZS} {a : Nat} {ci : Nat} {n : Int32} {k : Int32} {b : Nat} {p2 : Int32} (hci : zShipC ci) (hP : σ.2.2.1 a = some (.inr (ci, [.ref (w.2.2 4), .int n, .int k]))) (hb : zBay b) {r : Int32} (hf : fX12_believes σ a ci n k b p2 = some (r, σ')) : zC l w zLx yX12_believes (ws_ yX12_believes cX12_believes 3 (some .int)) 726 6087 [.ref a, .ref (w.2.2 b), .int p2] σ (.returned (some (.int r))) σ' := by
  refine zC.of (plainFor_of_name (by decide)) (Nat.le_of_ble_eq_true rfl) ?_
  intro p e s m args below meth c C hnm
  show Z p l e _ s m args below meth c _ w _ _ 3 σ 0 [(0, .ref a), (1, .ref (w.2.2 b)), (2, .int p2)] []
  unfold fX12_believes at hf
  refine z_aload_n C 0 dX12_believes_0 rfl rfl ?_
  refine z_aload_n C 1 dX12_believes_1 rfl rfl ?_
  refine z_iload_n C 2 dX12_believes_2 rfl rfl ?_
  obtain ⟨r_1, σ_3, e_2, hf⟩ := bd_ hf
  refine z_calli C (rest := []) (av := (.ref a :: [.ref (w.2.2 b), .int p2])) (zPay.of q623 q87) (fun H ls hH h2 => zInv_SU C (As := [.ref (w.2.2 b), .int p2]) (rest := []) (zShip_cl hci).choose_spec.choose_spec (zSee.pool hP) hH (x := ⟨"OldLight$Ship", "believes", "(LOldLight$Bay;I)I"⟩) q620 q592 ⟨rfl, rfl⟩ q512 (zSub_self rfl) q590 (Or.inl rfl) q623 (by decide) np_X9_believes dX12_believes_3) (tX9_believes l w hci hP hb e_2) (Nat.le_of_ble_eq_true rfl) (Nat.le_of_ble_eq_true rfl) ?_
  refine z_aload_n C 1 dX12_believes_6 rfl rfl ?_
  refine z_iload_n C 2 dX12_believes_7 rfl rfl ?_
  obtain ⟨r_4, σ_6, e_5, hf⟩ := bd_ hf
  refine z_calli C (rest := [.int r_1]) (av := (.ref (w.2.2 b) :: [.int p2])) (zPay.of q383 q79) (fun H ls hH h2 => zInv_V C (As := [.int p2]) (rest := [.int r_1]) (ci := 2) (T := TX2) (N := 20) rfl (zSee.fix (ly_b0 hb)) hH q621 q381 q382 (Or.inl rfl) q383 mh_X2 np_X2_trueDepth dX12_believes_8) (tX2_trueDepth l w hb e_5) (Nat.le_of_ble_eq_true rfl) (Nat.le_of_ble_eq_true rfl) ?_
  refine z_calli C (rest := []) (av := [.int r_1, .int r_4]) (zPay.of q424 q84) (fun H ls hH h2 => zInv_S C (As := [.int r_1, .int r_4]) (rest := []) q622 q423 q84 (Or.inl rfl) q424 mh_J3 np_J3_min dX12_believes_11) (tJ3_min l w zLx σ_6 r_1 r_4) (Nat.le_of_ble_eq_true rfl) (Nat.le_of_ble_eq_true rfl) ?_
  obtain ⟨rfl, rfl⟩ := fin_ hf
  exact z_iret C rfl dX12_believes_14
def fX13_believes (w : ZW) (σ : ZS) (a : Nat) (ci : Nat) (n : Int32) (k : Int32) (b : Nat) (p2 : Int32) : Option (Int32 × ZS) := bd (fX10_believes w σ a ci n k b p2) (fun r_1 σ_3 => some (r_1 - 1, σ_3))
set_option maxHeartbeats 4000000 in
set_option maxRecDepth 100000 in
theorem tX13_believes (l : Launch) (w : ZW) {σ σ' : ZS} {a : Nat} {ci : Nat} {n : Int32} {k : Int32} {b : Nat} {p2 : Int32} (hci : zShipC ci) (hP : σ.2.2.1 a = some (.inr (ci, [.ref (w.2.2 4), .int n, .int k]))) (hb : zBay b) {r : Int32} (hf : fX13_believes w σ a ci n k b p2 = some (r, σ')) : zC l w zLx yX13_believes (ws_ yX13_believes cX13_believes 3 (some .int)) 727 6101 [.ref a, .ref (w.2.2 b), .int p2] σ (.returned (some (.int r))) σ' := by
  refine zC.of (plainFor_of_name (by decide)) (Nat.le_of_ble_eq_true rfl) ?_
  intro p e s m args below meth c C hnm
  show Z p l e _ s m args below meth c _ w _ _ 3 σ 0 [(0, .ref a), (1, .ref (w.2.2 b)), (2, .int p2)] []
  unfold fX13_believes at hf
  refine z_aload_n C 0 dX13_believes_0 rfl rfl ?_
  refine z_aload_n C 1 dX13_believes_1 rfl rfl ?_
  refine z_iload_n C 2 dX13_believes_2 rfl rfl ?_
  obtain ⟨r_1, σ_3, e_2, hf⟩ := bd_ hf
  refine z_calli C (rest := []) (av := (.ref a :: [.ref (w.2.2 b), .int p2])) (zPay.of q595 q88) (fun H ls hH h2 => zInv_SU C (As := [.ref (w.2.2 b), .int p2]) (rest := []) (zShip_cl hci).choose_spec.choose_spec (zSee.pool hP) hH (x := ⟨"OldLight$Collier", "believes", "(LOldLight$Bay;I)I"⟩) q600 q1876 ⟨rfl, rfl⟩ q522 (zSub_self rfl) q594 (Or.inl rfl) q595 (by decide) np_X10_believes dX13_believes_3) (tX10_believes l w hci hP hb e_2) (Nat.le_of_ble_eq_true rfl) (Nat.le_of_ble_eq_true rfl) ?_
  refine z_iconst C 1 dX13_believes_6 (by decide) ?_
  refine z_isub C dX13_believes_7 ?_
  obtain ⟨rfl, rfl⟩ := fin_ hf
  exact z_iret C rfl dX13_believes_8
