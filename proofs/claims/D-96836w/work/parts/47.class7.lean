/-! the class, walked (written by gen/main_x.py) -/
def fX2_goes_L2 (w : ZW) (b : Nat) (y1 : Int32) : Nat → Int32 → ZS → Option ((Int32) × ZS)
  | 0, _, _ => none
  | n + 1, y2, σ => if y1 ≤ y2 then (some (y2, σ)) else (bd (fX2_passes w σ b) (fun _ σ_4 => nm (y2 + 1) (fun (x2_5 : Int32) => fX2_goes_L2 w b y1 n x2_5 σ_4)))
def fX2_goes (w : ZW) (σ : ZS) (b : Nat) (p1 : Int32) : Option (Unit × ZS) := bd (fX2_goes_L2 w b p1 10000 0 σ) (fun x2_6 σ_7 => some ((), σ_7))
set_option maxHeartbeats 4000000 in
set_option maxRecDepth 100000 in
theorem lfX2_goes_L2 {p : Program} {l : Launch} {e : Env} {R : Room} {s : State} {m : MethodId} {args : Array Value} {below : List Frame} {meth : Method} {c : Code} {Q : State → Prop} {w : ZW} {A : Nat → Prop} {ret : Option FieldType} {hh : List (Nat × Nat × Nat × Nat)} (C : zCx p s m args meth c w zLx A 3 cX2_goes RX2 ret hh) (hfr : 730 ≤ R.frames) (hlo : 6141 ≤ R.locals) {b : Nat} (hb : zBay b) (y1 : Int32) {z2 : Int32} {σ' : ZS} (hk : Z p l e R s m args below meth c Q w zLx A 3 σ' 17 [(0, .ref (w.2.2 b)), (1, .int y1), (2, .int z2)] []) : ∀ (n : Nat) (y2 : Int32) (σ : ZS), fX2_goes_L2 w b y1 n y2 σ = some (z2, σ') → Z p l e R s m args below meth c Q w zLx A 3 σ 2 [(0, .ref (w.2.2 b)), (1, .int y1), (2, .int y2)] [] := by
  intro n
  induction n with
  | zero => intro y2 σ hf; exact none_ hf
  | succ n ih =>
    intro y2 σ hf
    rw [fX2_goes_L2] at hf
    refine z_iload_n C 2 dX2_goes_2 rfl rfl ?_
    refine z_iload_n C 1 dX2_goes_3 rfl rfl ?_
    refine z_icmp_ge C 17 dX2_goes_4 (by decide) (fun c_1 => ?_) (fun c_1 => ?_)
    · replace hf := if_t c_1 hf
      obtain ⟨rfl, rfl⟩ := fin_ hf
      exact hk
    · replace hf := if_f c_1 hf
      refine z_aload_n C 0 dX2_goes_7 rfl rfl ?_
      obtain ⟨⟨⟩, σ_4, e_3, hf⟩ := bd_ hf
      refine z_callv C (rest := []) (av := (.ref (w.2.2 b) :: [])) (zPay.of q929 q79) (fun H ls hH h2 => zInv_V C (As := []) (rest := []) (ci := 2) (T := TX2) (N := 20) rfl (zSee.fix (ly_b0 hb)) hH q926 q927 q928 (Or.inl rfl) q929 mh_X2 np_X2_passes dX2_goes_8) (tX2_passes l w hb e_3) (Nat.le_trans (Nat.le_of_ble_eq_true rfl) hfr) (Nat.le_trans (Nat.le_of_ble_eq_true rfl) hlo) ?_
      obtain ⟨x2_5, ex2_5, hf⟩ := nmo_ hf
      refine z_iinc C x2_5 2 dX2_goes_11 rfl (by rw [ex2_5]; rfl) (by decide) rfl (lv' := [(2, .int x2_5), (0, .ref (w.2.2 b)), (1, .int y1)]) ?_
      refine z_goto C 2 dX2_goes_14 (by decide) ?_
      exact z_lv [1, 2, 0] rfl (ih _ _ hf)
set_option maxHeartbeats 4000000 in
set_option maxRecDepth 100000 in
theorem tX2_goes (l : Launch) (w : ZW) {σ σ' : ZS} {b : Nat} {p1 : Int32} (hb : zBay b) (hf : fX2_goes w σ b p1 = some ((), σ')) : zC l w zLx yX2_goes (ws_ yX2_goes cX2_goes 3 (some (.object "OldLight$Bay"))) 730 6141 [.ref (w.2.2 b), .int p1] σ (.returned (some (.ref (w.2.2 b)))) σ' := by
  refine zC.of (plainFor_of_name (by decide)) (Nat.le_of_ble_eq_true rfl) ?_
  intro p e s m args below meth c C hnm
  show Z p l e _ s m args below meth c _ w _ _ 3 σ 0 [(0, .ref (w.2.2 b)), (1, .int p1)] []
  unfold fX2_goes at hf
  refine z_iconst C 0 dX2_goes_0 (by decide) ?_
  refine z_istore_n C dX2_goes_1 rfl (by decide) rfl (lv' := [(2, .int 0), (0, .ref (w.2.2 b)), (1, .int p1)]) ?_
  obtain ⟨x2_6, σ_7, e_8, hf⟩ := bd_ hf
  refine z_lv (lv' := [(0, .ref (w.2.2 b)), (1, .int p1), (2, .int 0)]) [1, 2, 0] rfl ?_
  refine lfX2_goes_L2 C (Nat.le_of_ble_eq_true rfl) (Nat.le_of_ble_eq_true rfl) hb p1 ?_ _ _ _ e_8
  refine z_aload_n C 0 dX2_goes_17 rfl rfl ?_
  obtain ⟨-, rfl⟩ := fin_ hf
  exact z_aret C (Or.inl ⟨_, rfl⟩) (Or.inr ⟨_, rfl⟩) dX2_goes_18
def fX0_hours (w : ZW) (σ : ZS) (p1 : Int32) : Option (Int32 × ZS) := bd (fX0_mustGo σ p1 60) (fun r_1 σ_3 => sc r_1 (fun _ => bd (fX2_goes w σ_3 100 p1) (fun _ σ_8 => bo (fX2_atHome σ_8 100) (fun r_9 => some (r_9, σ_8)))) (fun _ => bd (fX0_finds σ_3) (fun r_11 σ_13 => some (r_11, σ_13))))
set_option maxHeartbeats 4000000 in
set_option maxRecDepth 100000 in
theorem tX0_hours (l : Launch) (w : ZW) {σ σ' : ZS} {p1 : Int32} {r : Int32} (hf : fX0_hours w σ p1 = some (r, σ')) : zC l w zLx yX0_hours (wsW_ yX0_hours cX0_hours 3 (some .int) [(0, 18, 19, 8)]) 731 6155 [.ref (w.2.2 0), .int p1] σ (.returned (some (.int r))) σ' := by
  refine zC.ofW (plainFor_of_name (by decide)) (Nat.le_of_ble_eq_true rfl) ?_
  intro p e s m args below meth c C hnm
  show Z p l e _ s m args below meth c _ w _ _ 3 σ 0 [(0, .ref (w.2.2 0)), (1, .int p1)] []
  unfold fX0_hours at hf
  refine z_aload_n C 0 dX0_hours_0 rfl rfl ?_
  refine z_iload_n C 1 dX0_hours_1 rfl rfl ?_
  refine z_bipush C 60 dX0_hours_2 (by decide) ?_
  obtain ⟨r_1, σ_3, e_2, hf⟩ := bd_ hf
  rcases r_1 with ⟨⟩ | ⟨⟩
  · dsimp only [sc] at hf
    refine z_callv C (rest := []) (av := (.ref (w.2.2 0) :: [.int p1, .int 60])) (zPay.of q921 q74) (fun H ls hH h2 => zInv_V C (As := [.int p1, .int 60]) (rest := []) (ci := 0) (T := TX0) (N := 8) rfl (zSee.fix ly_x0) hH q918 q920 qs21 (Or.inl rfl) q921 mh_X0 np_X0_mustGo dX0_hours_4) (tX0_mustGo l w e_2) (Nat.le_of_ble_eq_true rfl) (Nat.le_of_ble_eq_true rfl) ?_
    refine z_aload_n C 0 dX0_hours_7 rfl rfl ?_
    refine z_getR C ly_x0 (Cn := RX0) (T := TX0) (N := 8) rfl in_X0 1 (by decide) q320 (Or.inl rfl) rfl dX0_hours_8 ?_
    refine z_iload_n C 1 dX0_hours_11 rfl rfl ?_
    obtain ⟨⟨⟩, σ_8, e_7, hf⟩ := bd_ hf
    refine z_callr C (rest := []) (av := (.ref (w.2.2 100) :: [.int p1])) (zPay.of q925 q79) (fun H ls hH h2 => zInv_V C (As := [.int p1]) (rest := []) (ci := 2) (T := TX2) (N := 20) rfl (zSee.fix (ly_b0 zb100)) hH q922 q923 q924 (Or.inl rfl) q925 mh_X2 np_X2_goes dX0_hours_12) (tX2_goes l w zb100 e_7) (Nat.le_of_ble_eq_true rfl) (Nat.le_of_ble_eq_true rfl) ?_
    obtain ⟨r_9, e_10, hf⟩ := bo_ hf
    refine z_calli C (rest := []) (av := (.ref (w.2.2 100) :: [])) (zPay.of q943 q79) (fun H ls hH h2 => zInv_V C (As := []) (rest := []) (ci := 2) (T := TX2) (N := 20) rfl (zSee.fix (ly_b0 zb100)) hH q940 q941 q942 (Or.inl rfl) q943 mh_X2 np_X2_atHome dX0_hours_15) (tX2_atHome l w zb100 e_10) (Nat.le_of_ble_eq_true rfl) (Nat.le_of_ble_eq_true rfl) ?_
    obtain ⟨rfl, rfl⟩ := fin_ hf
    exact z_iret C rfl dX0_hours_18
  · dsimp only [sc] at hf
    refine z_callt C (rest := []) (av := (.ref (w.2.2 0) :: [.int p1, .int 60])) (zPay.of q921 q74) (fun H ls hH h2 => zInv_V C (As := [.int p1, .int 60]) (rest := []) (ci := 0) (T := TX0) (N := 8) rfl (zSee.fix ly_x0) hH q918 q920 qs21 (Or.inl rfl) q921 mh_X0 np_X0_mustGo dX0_hours_4) (tX0_mustGo l w e_2) (Nat.le_of_ble_eq_true rfl) (Nat.le_of_ble_eq_true rfl) ?_
    refine z_catch C [] 0 18 19 8 [] rfl (by decide) (by decide) (by decide) (ci := 1) (Cn := RX1) (T0 := TX1) (N := 7) rfl (zSee.fix ly_x1) q118 ?_
    refine z_astore_n C dX0_hours_19 rfl (by decide) rfl (lv' := [(2, .ref (w.2.2 1)), (0, .ref (w.2.2 0)), (1, .int p1)]) ?_
    refine z_aload_n C 1 dX0_hours_20 rfl rfl ?_
    refine z_aload_n C 0 dX0_hours_21 rfl rfl ?_
    obtain ⟨r_11, σ_13, e_12, hf⟩ := bd_ hf
    refine z_calli C (rest := []) (av := (.ref (w.2.2 0) :: [.ref (w.2.2 1)])) (zPay.of q362 q74) (fun H ls hH h2 => zInv_V C (As := [.ref (w.2.2 1)]) (rest := []) (ci := 0) (T := TX0) (N := 8) rfl (zSee.fix ly_x0) hH q359 q361 qs2 (Or.inl rfl) q362 mh_X0 np_X0_finds dX0_hours_22) (tX0_finds l w e_12) (Nat.le_of_ble_eq_true rfl) (Nat.le_of_ble_eq_true rfl) ?_
    obtain ⟨rfl, rfl⟩ := fin_ hf
    exact z_iret C rfl dX0_hours_25
def fX0_then (w : ZW) (σ : ZS) (p1 : Int32) (p2 : Int32) (p3 : Int32) : Option (Int32 × ZS) := nm (if (fX0_isAhead p1) = 0 then 0 else (if (fX0_isShip σ p2) = 0 then 0 else (if (fX0_in p3 0 1) = 0 then 0 else 1))) (fun (j_1 : Int32) => bd (fX0_need σ j_1 1) (fun r_2 σ_4 => sc r_2 (fun _ => bd (fX2_become σ_4 300 100) (fun _ σ_9 => bd (fX2_goes w σ_9 300 p1) (fun _ σ_12 => bo (if p3 = 0 then (gd (¬ (p2 < 0 ∨ 7 ≤ p2.toNatClampNeg)) (some (σ_12.1 (300 + 12) p2.toNatClampNeg))) else (gd (¬ (p2 < 0 ∨ 7 ≤ p2.toNatClampNeg)) (some (σ_12.1 (300 + 13) p2.toNatClampNeg)))) (fun (j_13 : Int32) => some (j_13, σ_12))))) (fun _ => bd (fX0_finds σ_4) (fun r_19 σ_21 => some (r_19, σ_21)))))
set_option maxHeartbeats 4000000 in
set_option maxRecDepth 100000 in
theorem tX0_then (l : Launch) (w : ZW) {σ σ' : ZS} {p1 : Int32} {p2 : Int32} {p3 : Int32} {r : Int32} (hf : fX0_then w σ p1 p2 p3 = some (r, σ')) : zC l w zLx yX0_then (wsW_ yX0_then cX0_then 5 (some .int) [(0, 75, 76, 8)]) 731 6155 [.ref (w.2.2 0), .int p1, .int p2, .int p3] σ (.returned (some (.int r))) σ' := by
  refine zC.ofW (plainFor_of_name (by decide)) (Nat.le_of_ble_eq_true rfl) ?_
  intro p e s m args below meth c C hnm
  show Z p l e _ s m args below meth c _ w _ _ 5 σ 0 [(0, .ref (w.2.2 0)), (1, .int p1), (2, .int p2), (3, .int p3)] []
  unfold fX0_then at hf
  refine z_aload_n C 0 dX0_then_0 rfl rfl ?_
  refine z_iload_n C 1 dX0_then_1 rfl rfl ?_
  refine z_calli C (rest := [.ref (w.2.2 0)]) (av := [.int p1]) (zPay.of q968 q74) (fun H ls hH h2 => zInv_S C (As := [.int p1]) (rest := [.ref (w.2.2 0)]) q966 q967 q74 (Or.inl rfl) q968 mh_X0 np_X0_isAhead dX0_then_2) (tX0_isAhead l w zLx σ p1) (Nat.le_of_ble_eq_true rfl) (Nat.le_of_ble_eq_true rfl) ?_
  obtain ⟨j_1, ej_1, hf⟩ := nmo_ hf
  have hj_1 : j_1 = 0 ∨ j_1 = 1 := by rw [ej_1]; (try dsimp only [nm]); (repeat' split) <;> first | exact Or.inl rfl | exact Or.inr rfl
  have hjj_1 : Z p l e (zRm 731 6155 σ) s m args below meth c (zQ below w zLx σ (.returned (some (.int r))) σ' args s) w zLx (zA w zLx σ) 5 σ 30 [(0, .ref (w.2.2 0)), (1, .int p1), (2, .int p2), (3, .int p3)] [.int j_1, .ref (w.2.2 0)] := by
    refine z_iconst C 1 dX0_then_30 (by decide) ?_
    obtain ⟨r_2, σ_4, e_3, hf⟩ := bd_ hf
    rcases r_2 with ⟨⟩ | ⟨⟩
    · dsimp only [sc] at hf
      refine z_callv C (rest := []) (av := (.ref (w.2.2 0) :: [.int j_1, .int 1])) (zPay.of q354 q74) (fun H ls hH h2 => zInv_V C (As := [.int j_1, .int 1]) (rest := []) (ci := 0) (T := TX0) (N := 8) rfl (zSee.fix ly_x0) hH q351 q353 qs1 (Or.inl rfl) q354 mh_X0 np_X0_need dX0_then_31) (tX0_need l w e_3) (Nat.le_of_ble_eq_true rfl) (Nat.le_of_ble_eq_true rfl) ?_
      refine z_aload_n C 0 dX0_then_34 rfl rfl ?_
      refine z_getR C ly_x0 (Cn := RX0) (T := TX0) (N := 8) rfl in_X0 3 (by decide) q322 (Or.inl rfl) rfl dX0_then_35 ?_
      refine z_aload_n C 0 dX0_then_38 rfl rfl ?_
      refine z_getR C ly_x0 (Cn := RX0) (T := TX0) (N := 8) rfl in_X0 1 (by decide) q320 (Or.inl rfl) rfl dX0_then_39 ?_
      obtain ⟨⟨⟩, σ_9, e_8, hf⟩ := bd_ hf
      refine z_callr C (rest := []) (av := (.ref (w.2.2 300) :: [.ref (w.2.2 100)])) (zPay.of q972 q79) (fun H ls hH h2 => zInv_V C (As := [.ref (w.2.2 100)]) (rest := []) (ci := 2) (T := TX2) (N := 20) rfl (zSee.fix (ly_b0 zb300)) hH q969 q970 q971 (Or.inl rfl) q972 mh_X2 np_X2_become dX0_then_42) (tX2_become l w zb300 zb100 e_8) (Nat.le_of_ble_eq_true rfl) (Nat.le_of_ble_eq_true rfl) ?_
      refine z_iload_n C 1 dX0_then_45 rfl rfl ?_
      obtain ⟨⟨⟩, σ_12, e_11, hf⟩ := bd_ hf
      refine z_callr C (rest := []) (av := (.ref (w.2.2 300) :: [.int p1])) (zPay.of q925 q79) (fun H ls hH h2 => zInv_V C (As := [.int p1]) (rest := []) (ci := 2) (T := TX2) (N := 20) rfl (zSee.fix (ly_b0 zb300)) hH q922 q923 q924 (Or.inl rfl) q925 mh_X2 np_X2_goes dX0_then_46) (tX2_goes l w zb300 e_11) (Nat.le_of_ble_eq_true rfl) (Nat.le_of_ble_eq_true rfl) ?_
      refine z_pop C dX0_then_49 rfl ?_
      refine z_iload_n C 3 dX0_then_50 rfl rfl ?_
      obtain ⟨j_13, e_15, hf⟩ := bo_ hf
      have hje_15 : Z p l e (zRm 731 6155 σ) s m args below meth c (zQ below w zLx σ (.returned (some (.int r))) σ' args s) w zLx (zA w zLx σ) 5 σ_12 75 [(0, .ref (w.2.2 0)), (1, .int p1), (2, .int p2), (3, .int p3)] [.int j_13] := by
        obtain ⟨rfl, rfl⟩ := fin_ hf
        exact z_iret C rfl dX0_then_75
      replace hf := e_15
      refine z_if_ne C 66 dX0_then_51 (by decide) (fun c_16 => ?_) (fun c_16 => ?_)
      · replace hf := if_f c_16 hf
        refine z_aload_n C 0 dX0_then_66 rfl rfl ?_
        refine z_getR C ly_x0 (Cn := RX0) (T := TX0) (N := 8) rfl in_X0 3 (by decide) q322 (Or.inl rfl) rfl dX0_then_67 ?_
        refine z_getRN C (ly_b0 zb300) (Cn := RX2) (T := TX2) (N := 20) rfl in_X2 12 (by decide) q238 (Or.inl rfl) rfl dX0_then_70 ?_
        refine z_iload_n C 2 dX0_then_73 rfl rfl ?_
        obtain ⟨g_17, hf⟩ := gd_ hf
        refine z_ialoadF C (ly_b13 zb300) g_17 dX0_then_74 ?_
        obtain rfl := fino_ hf
        exact hje_15
      · replace hf := if_t c_16 hf
        refine z_aload_n C 0 dX0_then_54 rfl rfl ?_
        refine z_getR C ly_x0 (Cn := RX0) (T := TX0) (N := 8) rfl in_X0 3 (by decide) q322 (Or.inl rfl) rfl dX0_then_55 ?_
        refine z_getRN C (ly_b0 zb300) (Cn := RX2) (T := TX2) (N := 20) rfl in_X2 11 (by decide) q236 (Or.inl rfl) rfl dX0_then_58 ?_
        refine z_iload_n C 2 dX0_then_61 rfl rfl ?_
        obtain ⟨g_18, hf⟩ := gd_ hf
        refine z_ialoadF C (ly_b12 zb300) g_18 dX0_then_62 ?_
        refine z_goto C 75 dX0_then_63 (by decide) ?_
        obtain rfl := fino_ hf
        exact hje_15
    · dsimp only [sc] at hf
      refine z_callt C (rest := []) (av := (.ref (w.2.2 0) :: [.int j_1, .int 1])) (zPay.of q354 q74) (fun H ls hH h2 => zInv_V C (As := [.int j_1, .int 1]) (rest := []) (ci := 0) (T := TX0) (N := 8) rfl (zSee.fix ly_x0) hH q351 q353 qs1 (Or.inl rfl) q354 mh_X0 np_X0_need dX0_then_31) (tX0_need l w e_3) (Nat.le_of_ble_eq_true rfl) (Nat.le_of_ble_eq_true rfl) ?_
      refine z_catch C [] 0 75 76 8 [] rfl (by decide) (by decide) (by decide) (ci := 1) (Cn := RX1) (T0 := TX1) (N := 7) rfl (zSee.fix ly_x1) q118 ?_
      refine z_astore C dX0_then_76 (by decide) rfl (lv' := [(4, .ref (w.2.2 1)), (0, .ref (w.2.2 0)), (1, .int p1), (2, .int p2), (3, .int p3)]) ?_
      refine z_aload_n C 1 dX0_then_78 rfl rfl ?_
      refine z_aload C 0 dX0_then_79 rfl ?_
      obtain ⟨r_19, σ_21, e_20, hf⟩ := bd_ hf
      refine z_calli C (rest := []) (av := (.ref (w.2.2 0) :: [.ref (w.2.2 1)])) (zPay.of q362 q74) (fun H ls hH h2 => zInv_V C (As := [.ref (w.2.2 1)]) (rest := []) (ci := 0) (T := TX0) (N := 8) rfl (zSee.fix ly_x0) hH q359 q361 qs2 (Or.inl rfl) q362 mh_X0 np_X0_finds dX0_then_81) (tX0_finds l w e_20) (Nat.le_of_ble_eq_true rfl) (Nat.le_of_ble_eq_true rfl) ?_
      obtain ⟨rfl, rfl⟩ := fin_ hf
      exact z_iret C rfl dX0_then_84
  replace hf := ej_1
  refine z_if_eq C 29 dX0_then_5 (by decide) (fun c_22 => ?_) (fun c_22 => ?_)
  · replace hf := ifp_t c_22 hf
    refine z_iconst C 0 dX0_then_29 (by decide) ?_
    subst hf
    exact hjj_1
  · replace hf := ifp_f c_22 hf
    refine z_aload_n C 0 dX0_then_8 rfl rfl ?_
    refine z_iload_n C 2 dX0_then_9 rfl rfl ?_
    refine z_calli C (rest := [.ref (w.2.2 0)]) (av := (.ref (w.2.2 0) :: [.int p2])) (zPay.of q561 q74) (fun H ls hH h2 => zInv_V C (As := [.int p2]) (rest := [.ref (w.2.2 0)]) (ci := 0) (T := TX0) (N := 8) rfl (zSee.fix ly_x0) hH q558 q560 qs8 (Or.inl rfl) q561 mh_X0 np_X0_isShip dX0_then_10) (tX0_isShip l w σ p2) (Nat.le_of_ble_eq_true rfl) (Nat.le_of_ble_eq_true rfl) ?_
    refine z_if_eq C 29 dX0_then_13 (by decide) (fun c_23 => ?_) (fun c_23 => ?_)
    · replace hf := ifp_t c_23 hf
      refine z_iconst C 0 dX0_then_29 (by decide) ?_
      subst hf
      exact hjj_1
    · replace hf := ifp_f c_23 hf
      refine z_iload_n C 3 dX0_then_16 rfl rfl ?_
      refine z_iconst C 0 dX0_then_17 (by decide) ?_
      refine z_iconst C 1 dX0_then_18 (by decide) ?_
      refine z_calli C (rest := [.ref (w.2.2 0)]) (av := [.int p3, .int 0, .int 1]) (zPay.of q350 q74) (fun H ls hH h2 => zInv_S C (As := [.int p3, .int 0, .int 1]) (rest := [.ref (w.2.2 0)]) q348 q349 q74 (Or.inl rfl) q350 mh_X0 np_X0_in dX0_then_19) (tX0_in l w zLx σ p3 0 1) (Nat.le_of_ble_eq_true rfl) (Nat.le_of_ble_eq_true rfl) ?_
      refine z_if_eq C 29 dX0_then_22 (by decide) (fun c_24 => ?_) (fun c_24 => ?_)
      · replace hf := ifp_t c_24 hf
        refine z_iconst C 0 dX0_then_29 (by decide) ?_
        subst hf
        exact hjj_1
      · replace hf := ifp_f c_24 hf
        refine z_iconst C 1 dX0_then_25 (by decide) ?_
        refine z_goto C 30 dX0_then_26 (by decide) ?_
        subst hf
        exact hjj_1
def fX0_areInBy (w : ZW) (σ : ZS) (p1 : Int32) (p2 : Int32) (p3 : Int32) : Option (Int32 × ZS) := bd (fX2_become σ 300 100) (fun _ σ_3 => bd (fX2_goes w (sI σ_3 300 5 p3) 300 p2) (fun _ σ_6 => bo (fX2_whoAreAt σ_6 300 0) (fun r_7 => nm (if (r_7 &&& p1) = p1 then 1 else 0) (fun (j_9 : Int32) => some (j_9, σ_6)))))
set_option maxHeartbeats 4000000 in
set_option maxRecDepth 100000 in
theorem tX0_areInBy (l : Launch) (w : ZW) {σ σ' : ZS} {p1 : Int32} {p2 : Int32} {p3 : Int32} {r : Int32} (hf : fX0_areInBy w σ p1 p2 p3 = some (r, σ')) : zC l w zLx yX0_areInBy (ws_ yX0_areInBy cX0_areInBy 4 (some .boolean)) 731 6155 [.ref (w.2.2 0), .int p1, .int p2, .int p3] σ (.returned (some (.int r))) σ' := by
  refine zC.of (plainFor_of_name (by decide)) (Nat.le_of_ble_eq_true rfl) ?_
  intro p e s m args below meth c C hnm
  show Z p l e _ s m args below meth c _ w _ _ 4 σ 0 [(0, .ref (w.2.2 0)), (1, .int p1), (2, .int p2), (3, .int p3)] []
  unfold fX0_areInBy at hf
  refine z_aload_n C 0 dX0_areInBy_0 rfl rfl ?_
  refine z_getR C ly_x0 (Cn := RX0) (T := TX0) (N := 8) rfl in_X0 3 (by decide) q322 (Or.inl rfl) rfl dX0_areInBy_1 ?_
  refine z_aload_n C 0 dX0_areInBy_4 rfl rfl ?_
  refine z_getR C ly_x0 (Cn := RX0) (T := TX0) (N := 8) rfl in_X0 1 (by decide) q320 (Or.inl rfl) rfl dX0_areInBy_5 ?_
  obtain ⟨⟨⟩, σ_3, e_2, hf⟩ := bd_ hf
  refine z_callr C (rest := []) (av := (.ref (w.2.2 300) :: [.ref (w.2.2 100)])) (zPay.of q972 q79) (fun H ls hH h2 => zInv_V C (As := [.ref (w.2.2 100)]) (rest := []) (ci := 2) (T := TX2) (N := 20) rfl (zSee.fix (ly_b0 zb300)) hH q969 q970 q971 (Or.inl rfl) q972 mh_X2 np_X2_become dX0_areInBy_8) (tX2_become l w zb300 zb100 e_2) (Nat.le_of_ble_eq_true rfl) (Nat.le_of_ble_eq_true rfl) ?_
  refine z_iload_n C 3 dX0_areInBy_11 rfl rfl ?_
  refine z_putI C (ly_b0 zb300) (k := 5) rfl (zPutN C (Cn := RX2) (T := TX2) (N := 20) rfl in_X2 tyX2 tyX2_ok nmX2 5 (by decide) q224 (Or.inl rfl) rfl rfl rfl (zFs_lt (Nat.le_of_ble_eq_true rfl)) dX0_areInBy_12) ?_
  refine z_aload_n C 0 dX0_areInBy_15 rfl rfl ?_
  refine z_getR C ly_x0 (Cn := RX0) (T := TX0) (N := 8) rfl in_X0 3 (by decide) q322 (Or.inl rfl) rfl dX0_areInBy_16 ?_
  refine z_iload_n C 2 dX0_areInBy_19 rfl rfl ?_
  obtain ⟨⟨⟩, σ_6, e_5, hf⟩ := bd_ hf
  refine z_callr C (rest := []) (av := (.ref (w.2.2 300) :: [.int p2])) (zPay.of q925 q79) (fun H ls hH h2 => zInv_V C (As := [.int p2]) (rest := []) (ci := 2) (T := TX2) (N := 20) rfl (zSee.fix (ly_b0 zb300)) hH q922 q923 q924 (Or.inl rfl) q925 mh_X2 np_X2_goes dX0_areInBy_20) (tX2_goes l w zb300 e_5) (Nat.le_of_ble_eq_true rfl) (Nat.le_of_ble_eq_true rfl) ?_
  refine z_iconst C 0 dX0_areInBy_23 (by decide) ?_
  obtain ⟨r_7, e_8, hf⟩ := bo_ hf
  refine z_calli C (rest := []) (av := (.ref (w.2.2 300) :: [.int 0])) (zPay.of q436 q79) (fun H ls hH h2 => zInv_V C (As := [.int 0]) (rest := []) (ci := 2) (T := TX2) (N := 20) rfl (zSee.fix (ly_b0 zb300)) hH q433 q434 q435 (Or.inl rfl) q436 mh_X2 np_X2_whoAreAt dX0_areInBy_24) (tX2_whoAreAt l w zb300 e_8) (Nat.le_of_ble_eq_true rfl) (Nat.le_of_ble_eq_true rfl) ?_
  refine z_iload_n C 1 dX0_areInBy_27 rfl rfl ?_
  refine z_iand C dX0_areInBy_28 ?_
  refine z_iload_n C 1 dX0_areInBy_29 rfl rfl ?_
  obtain ⟨j_9, ej_9, hf⟩ := nmo_ hf
  have hj_9 : j_9 = 0 ∨ j_9 = 1 := by rw [ej_9]; (try dsimp only [nm]); (repeat' split) <;> first | exact Or.inl rfl | exact Or.inr rfl
  have hjj_9 : Z p l e (zRm 731 6155 σ) s m args below meth c (zQ below w zLx σ (.returned (some (.int r))) σ' args s) w zLx (zA w zLx σ) 4 σ_6 38 [(0, .ref (w.2.2 0)), (1, .int p1), (2, .int p2), (3, .int p3)] [.int j_9] := by
    obtain ⟨rfl, rfl⟩ := fin_ hf
    exact z_iret C (b01 hj_9) dX0_areInBy_38
  replace hf := ej_9
  refine z_icmp_ne C 37 dX0_areInBy_30 (by decide) (fun c_10 => ?_) (fun c_10 => ?_)
  · replace hf := ifp_f c_10 hf
    refine z_iconst C 0 dX0_areInBy_37 (by decide) ?_
    subst hf
    exact hjj_9
  · replace hf := ifp_t c_10 hf
    refine z_iconst C 1 dX0_areInBy_33 (by decide) ?_
    refine z_goto C 38 dX0_areInBy_34 (by decide) ?_
    subst hf
    exact hjj_9
def fX0_struck (w : ZW) (σ : ZS) (p1 : Int32) : Option (Int32 × ZS) := bd (fX0_need σ (fX0_isCell σ p1) 1) (fun r_1 σ_3 => sc r_1 (fun _ => bd (fX2_become σ_3 300 100) (fun _ σ_8 => bd (fX2_goes w σ_8 300 60) (fun _ σ_11 => bo (fX2_whoAreLost σ_11 300) (fun r_12 => bo (fX2_whoAreAt σ_11 300 p1) (fun r_14 => some (r_12 &&& r_14, σ_11)))))) (fun _ => bd (fX0_finds σ_3) (fun r_16 σ_18 => some (r_16, σ_18))))
set_option maxHeartbeats 4000000 in
set_option maxRecDepth 100000 in
theorem tX0_struck (l : Launch) (w : ZW) {σ σ' : ZS} {p1 : Int32} {r : Int32} (hf : fX0_struck w σ p1 = some (r, σ')) : zC l w zLx yX0_struck (wsW_ yX0_struck cX0_struck 3 (some .int) [(0, 43, 44, 8)]) 731 6155 [.ref (w.2.2 0), .int p1] σ (.returned (some (.int r))) σ' := by
  refine zC.ofW (plainFor_of_name (by decide)) (Nat.le_of_ble_eq_true rfl) ?_
  intro p e s m args below meth c C hnm
  show Z p l e _ s m args below meth c _ w _ _ 3 σ 0 [(0, .ref (w.2.2 0)), (1, .int p1)] []
  unfold fX0_struck at hf
  refine z_aload_n C 0 dX0_struck_0 rfl rfl ?_
  refine z_aload_n C 0 dX0_struck_1 rfl rfl ?_
  refine z_iload_n C 1 dX0_struck_2 rfl rfl ?_
  refine z_calli C (rest := [.ref (w.2.2 0)]) (av := (.ref (w.2.2 0) :: [.int p1])) (zPay.of q371 q74) (fun H ls hH h2 => zInv_V C (As := [.int p1]) (rest := [.ref (w.2.2 0)]) (ci := 0) (T := TX0) (N := 8) rfl (zSee.fix ly_x0) hH q368 q370 qs3 (Or.inl rfl) q371 mh_X0 np_X0_isCell dX0_struck_3) (tX0_isCell l w σ p1) (Nat.le_of_ble_eq_true rfl) (Nat.le_of_ble_eq_true rfl) ?_
  refine z_iconst C 1 dX0_struck_6 (by decide) ?_
  obtain ⟨r_1, σ_3, e_2, hf⟩ := bd_ hf
  rcases r_1 with ⟨⟩ | ⟨⟩
  · dsimp only [sc] at hf
    refine z_callv C (rest := []) (av := (.ref (w.2.2 0) :: [.int (fX0_isCell σ p1), .int 1])) (zPay.of q354 q74) (fun H ls hH h2 => zInv_V C (As := [.int (fX0_isCell σ p1), .int 1]) (rest := []) (ci := 0) (T := TX0) (N := 8) rfl (zSee.fix ly_x0) hH q351 q353 qs1 (Or.inl rfl) q354 mh_X0 np_X0_need dX0_struck_7) (tX0_need l w e_2) (Nat.le_of_ble_eq_true rfl) (Nat.le_of_ble_eq_true rfl) ?_
    refine z_aload_n C 0 dX0_struck_10 rfl rfl ?_
    refine z_getR C ly_x0 (Cn := RX0) (T := TX0) (N := 8) rfl in_X0 3 (by decide) q322 (Or.inl rfl) rfl dX0_struck_11 ?_
    refine z_aload_n C 0 dX0_struck_14 rfl rfl ?_
    refine z_getR C ly_x0 (Cn := RX0) (T := TX0) (N := 8) rfl in_X0 1 (by decide) q320 (Or.inl rfl) rfl dX0_struck_15 ?_
    obtain ⟨⟨⟩, σ_8, e_7, hf⟩ := bd_ hf
    refine z_callr C (rest := []) (av := (.ref (w.2.2 300) :: [.ref (w.2.2 100)])) (zPay.of q972 q79) (fun H ls hH h2 => zInv_V C (As := [.ref (w.2.2 100)]) (rest := []) (ci := 2) (T := TX2) (N := 20) rfl (zSee.fix (ly_b0 zb300)) hH q969 q970 q971 (Or.inl rfl) q972 mh_X2 np_X2_become dX0_struck_18) (tX2_become l w zb300 zb100 e_7) (Nat.le_of_ble_eq_true rfl) (Nat.le_of_ble_eq_true rfl) ?_
    refine z_bipush C 60 dX0_struck_21 (by decide) ?_
    obtain ⟨⟨⟩, σ_11, e_10, hf⟩ := bd_ hf
    refine z_callr C (rest := []) (av := (.ref (w.2.2 300) :: [.int 60])) (zPay.of q925 q79) (fun H ls hH h2 => zInv_V C (As := [.int 60]) (rest := []) (ci := 2) (T := TX2) (N := 20) rfl (zSee.fix (ly_b0 zb300)) hH q922 q923 q924 (Or.inl rfl) q925 mh_X2 np_X2_goes dX0_struck_23) (tX2_goes l w zb300 e_10) (Nat.le_of_ble_eq_true rfl) (Nat.le_of_ble_eq_true rfl) ?_
    refine z_pop C dX0_struck_26 rfl ?_
    refine z_aload_n C 0 dX0_struck_27 rfl rfl ?_
    refine z_getR C ly_x0 (Cn := RX0) (T := TX0) (N := 8) rfl in_X0 3 (by decide) q322 (Or.inl rfl) rfl dX0_struck_28 ?_
    obtain ⟨r_12, e_13, hf⟩ := bo_ hf
    refine z_calli C (rest := []) (av := (.ref (w.2.2 300) :: [])) (zPay.of q983 q79) (fun H ls hH h2 => zInv_V C (As := []) (rest := []) (ci := 2) (T := TX2) (N := 20) rfl (zSee.fix (ly_b0 zb300)) hH q980 q981 q982 (Or.inl rfl) q983 mh_X2 np_X2_whoAreLost dX0_struck_31) (tX2_whoAreLost l w zb300 e_13) (Nat.le_of_ble_eq_true rfl) (Nat.le_of_ble_eq_true rfl) ?_
    refine z_aload_n C 0 dX0_struck_34 rfl rfl ?_
    refine z_getR C ly_x0 (Cn := RX0) (T := TX0) (N := 8) rfl in_X0 3 (by decide) q322 (Or.inl rfl) rfl dX0_struck_35 ?_
    refine z_iload_n C 1 dX0_struck_38 rfl rfl ?_
    obtain ⟨r_14, e_15, hf⟩ := bo_ hf
    refine z_calli C (rest := [.int r_12]) (av := (.ref (w.2.2 300) :: [.int p1])) (zPay.of q436 q79) (fun H ls hH h2 => zInv_V C (As := [.int p1]) (rest := [.int r_12]) (ci := 2) (T := TX2) (N := 20) rfl (zSee.fix (ly_b0 zb300)) hH q433 q434 q435 (Or.inl rfl) q436 mh_X2 np_X2_whoAreAt dX0_struck_39) (tX2_whoAreAt l w zb300 e_15) (Nat.le_of_ble_eq_true rfl) (Nat.le_of_ble_eq_true rfl) ?_
    refine z_iand C dX0_struck_42 ?_
    obtain ⟨rfl, rfl⟩ := fin_ hf
    exact z_iret C rfl dX0_struck_43
  · dsimp only [sc] at hf
    refine z_callt C (rest := []) (av := (.ref (w.2.2 0) :: [.int (fX0_isCell σ p1), .int 1])) (zPay.of q354 q74) (fun H ls hH h2 => zInv_V C (As := [.int (fX0_isCell σ p1), .int 1]) (rest := []) (ci := 0) (T := TX0) (N := 8) rfl (zSee.fix ly_x0) hH q351 q353 qs1 (Or.inl rfl) q354 mh_X0 np_X0_need dX0_struck_7) (tX0_need l w e_2) (Nat.le_of_ble_eq_true rfl) (Nat.le_of_ble_eq_true rfl) ?_
    refine z_catch C [] 0 43 44 8 [] rfl (by decide) (by decide) (by decide) (ci := 1) (Cn := RX1) (T0 := TX1) (N := 7) rfl (zSee.fix ly_x1) q118 ?_
    refine z_astore_n C dX0_struck_44 rfl (by decide) rfl (lv' := [(2, .ref (w.2.2 1)), (0, .ref (w.2.2 0)), (1, .int p1)]) ?_
    refine z_aload_n C 1 dX0_struck_45 rfl rfl ?_
    refine z_aload_n C 0 dX0_struck_46 rfl rfl ?_
    obtain ⟨r_16, σ_18, e_17, hf⟩ := bd_ hf
    refine z_calli C (rest := []) (av := (.ref (w.2.2 0) :: [.ref (w.2.2 1)])) (zPay.of q362 q74) (fun H ls hH h2 => zInv_V C (As := [.ref (w.2.2 1)]) (rest := []) (ci := 0) (T := TX0) (N := 8) rfl (zSee.fix ly_x0) hH q359 q361 qs2 (Or.inl rfl) q362 mh_X0 np_X0_finds dX0_struck_47) (tX0_finds l w e_17) (Nat.le_of_ble_eq_true rfl) (Nat.le_of_ble_eq_true rfl) ?_
    obtain ⟨rfl, rfl⟩ := fin_ hf
    exact z_iret C rfl dX0_struck_50
def fX0_isSafeWithout (w : ZW) (σ : ZS) (p1 : Int32) (p2 : Int32) : Option (Int32 × ZS) := bd (fX2_become σ 300 100) (fun _ σ_3 => nm ((σ_3.1 300 6) &&& (p1 ^^^ (-1))) (fun (f_4 : Int32) => bd (fX2_goes w (sI σ_3 300 6 f_4) 300 p2) (fun _ σ_7 => bo (fX2_whoAreLost σ_7 300) (fun r_8 => bo (fX2_whoAreLost σ_7 100) (fun r_10 => nm (if r_8 = r_10 then 1 else 0) (fun (j_12 : Int32) => some (j_12, σ_7)))))))
set_option maxHeartbeats 4000000 in
set_option maxRecDepth 100000 in
theorem tX0_isSafeWithout (l : Launch) (w : ZW) {σ σ' : ZS} {p1 : Int32} {p2 : Int32} {r : Int32} (hf : fX0_isSafeWithout w σ p1 p2 = some (r, σ')) : zC l w zLx yX0_isSafeWithout (ws_ yX0_isSafeWithout cX0_isSafeWithout 3 (some .boolean)) 731 6155 [.ref (w.2.2 0), .int p1, .int p2] σ (.returned (some (.int r))) σ' := by
  refine zC.of (plainFor_of_name (by decide)) (Nat.le_of_ble_eq_true rfl) ?_
  intro p e s m args below meth c C hnm
  show Z p l e _ s m args below meth c _ w _ _ 3 σ 0 [(0, .ref (w.2.2 0)), (1, .int p1), (2, .int p2)] []
  unfold fX0_isSafeWithout at hf
  refine z_aload_n C 0 dX0_isSafeWithout_0 rfl rfl ?_
  refine z_getR C ly_x0 (Cn := RX0) (T := TX0) (N := 8) rfl in_X0 3 (by decide) q322 (Or.inl rfl) rfl dX0_isSafeWithout_1 ?_
  refine z_aload_n C 0 dX0_isSafeWithout_4 rfl rfl ?_
  refine z_getR C ly_x0 (Cn := RX0) (T := TX0) (N := 8) rfl in_X0 1 (by decide) q320 (Or.inl rfl) rfl dX0_isSafeWithout_5 ?_
  obtain ⟨⟨⟩, σ_3, e_2, hf⟩ := bd_ hf
  refine z_callr C (rest := []) (av := (.ref (w.2.2 300) :: [.ref (w.2.2 100)])) (zPay.of q972 q79) (fun H ls hH h2 => zInv_V C (As := [.ref (w.2.2 100)]) (rest := []) (ci := 2) (T := TX2) (N := 20) rfl (zSee.fix (ly_b0 zb300)) hH q969 q970 q971 (Or.inl rfl) q972 mh_X2 np_X2_become dX0_isSafeWithout_8) (tX2_become l w zb300 zb100 e_2) (Nat.le_of_ble_eq_true rfl) (Nat.le_of_ble_eq_true rfl) ?_
  refine z_dup C dX0_isSafeWithout_11 rfl ?_
  refine z_getIN C (ly_b0 zb300) (Cn := RX2) (T := TX2) (N := 20) rfl in_X2 6 (by decide) q226 (Or.inl rfl) rfl dX0_isSafeWithout_12 ?_
  refine z_iload_n C 1 dX0_isSafeWithout_15 rfl rfl ?_
  refine z_iconst C (-1) dX0_isSafeWithout_16 (by decide) ?_
  refine z_ixor C dX0_isSafeWithout_17 ?_
  refine z_iand C dX0_isSafeWithout_18 ?_
  obtain ⟨f_4, ef_4, hf⟩ := nmo_ hf
  refine z_top ef_4 ?_
  refine z_putI C (ly_b0 zb300) (k := 6) rfl (zPutN C (Cn := RX2) (T := TX2) (N := 20) rfl in_X2 tyX2 tyX2_ok nmX2 6 (by decide) q226 (Or.inl rfl) rfl rfl rfl (zFs_lt (Nat.le_of_ble_eq_true rfl)) dX0_isSafeWithout_19) ?_
  refine z_aload_n C 0 dX0_isSafeWithout_22 rfl rfl ?_
  refine z_getR C ly_x0 (Cn := RX0) (T := TX0) (N := 8) rfl in_X0 3 (by decide) q322 (Or.inl rfl) rfl dX0_isSafeWithout_23 ?_
  refine z_iload_n C 2 dX0_isSafeWithout_26 rfl rfl ?_
  obtain ⟨⟨⟩, σ_7, e_6, hf⟩ := bd_ hf
  refine z_callr C (rest := []) (av := (.ref (w.2.2 300) :: [.int p2])) (zPay.of q925 q79) (fun H ls hH h2 => zInv_V C (As := [.int p2]) (rest := []) (ci := 2) (T := TX2) (N := 20) rfl (zSee.fix (ly_b0 zb300)) hH q922 q923 q924 (Or.inl rfl) q925 mh_X2 np_X2_goes dX0_isSafeWithout_27) (tX2_goes l w zb300 e_6) (Nat.le_of_ble_eq_true rfl) (Nat.le_of_ble_eq_true rfl) ?_
  obtain ⟨r_8, e_9, hf⟩ := bo_ hf
  refine z_calli C (rest := []) (av := (.ref (w.2.2 300) :: [])) (zPay.of q983 q79) (fun H ls hH h2 => zInv_V C (As := []) (rest := []) (ci := 2) (T := TX2) (N := 20) rfl (zSee.fix (ly_b0 zb300)) hH q980 q981 q982 (Or.inl rfl) q983 mh_X2 np_X2_whoAreLost dX0_isSafeWithout_30) (tX2_whoAreLost l w zb300 e_9) (Nat.le_of_ble_eq_true rfl) (Nat.le_of_ble_eq_true rfl) ?_
  refine z_aload_n C 0 dX0_isSafeWithout_33 rfl rfl ?_
  refine z_getR C ly_x0 (Cn := RX0) (T := TX0) (N := 8) rfl in_X0 1 (by decide) q320 (Or.inl rfl) rfl dX0_isSafeWithout_34 ?_
  obtain ⟨r_10, e_11, hf⟩ := bo_ hf
  refine z_calli C (rest := [.int r_8]) (av := (.ref (w.2.2 100) :: [])) (zPay.of q983 q79) (fun H ls hH h2 => zInv_V C (As := []) (rest := [.int r_8]) (ci := 2) (T := TX2) (N := 20) rfl (zSee.fix (ly_b0 zb100)) hH q980 q981 q982 (Or.inl rfl) q983 mh_X2 np_X2_whoAreLost dX0_isSafeWithout_37) (tX2_whoAreLost l w zb100 e_11) (Nat.le_of_ble_eq_true rfl) (Nat.le_of_ble_eq_true rfl) ?_
  obtain ⟨j_12, ej_12, hf⟩ := nmo_ hf
  have hj_12 : j_12 = 0 ∨ j_12 = 1 := by rw [ej_12]; (try dsimp only [nm]); (repeat' split) <;> first | exact Or.inl rfl | exact Or.inr rfl
  have hjj_12 : Z p l e (zRm 731 6155 σ) s m args below meth c (zQ below w zLx σ (.returned (some (.int r))) σ' args s) w zLx (zA w zLx σ) 3 σ_7 48 [(0, .ref (w.2.2 0)), (1, .int p1), (2, .int p2)] [.int j_12] := by
    obtain ⟨rfl, rfl⟩ := fin_ hf
    exact z_iret C (b01 hj_12) dX0_isSafeWithout_48
  replace hf := ej_12
  refine z_icmp_ne C 47 dX0_isSafeWithout_40 (by decide) (fun c_13 => ?_) (fun c_13 => ?_)
  · replace hf := ifp_f c_13 hf
    refine z_iconst C 0 dX0_isSafeWithout_47 (by decide) ?_
    subst hf
    exact hjj_12
  · replace hf := ifp_t c_13 hf
    refine z_iconst C 1 dX0_isSafeWithout_43 (by decide) ?_
    refine z_goto C 48 dX0_isSafeWithout_44 (by decide) ?_
    subst hf
    exact hjj_12
def fX0_isInWith (w : ZW) (σ : ZS) (p1 : Int32) (p2 : Int32) : Option (Int32 × ZS) := bd (fX2_become σ 300 100) (fun _ σ_3 => gd (¬ (p1 < 0 ∨ 7 ≤ p1.toNatClampNeg)) (bd (fX2_goes w (sI σ_3 (300 + 11) (p1.toNatClampNeg) p2) 300 60) (fun _ σ_7 => nm (if (σ_7.1 (300 + 12) p1.toNatClampNeg) = 0 then 1 else 0) (fun (j_8 : Int32) => some (j_8, σ_7)))))
set_option maxHeartbeats 4000000 in
set_option maxRecDepth 100000 in
theorem tX0_isInWith (l : Launch) (w : ZW) {σ σ' : ZS} {p1 : Int32} {p2 : Int32} {r : Int32} (hf : fX0_isInWith w σ p1 p2 = some (r, σ')) : zC l w zLx yX0_isInWith (ws_ yX0_isInWith cX0_isInWith 3 (some .boolean)) 731 6155 [.ref (w.2.2 0), .int p1, .int p2] σ (.returned (some (.int r))) σ' := by
  refine zC.of (plainFor_of_name (by decide)) (Nat.le_of_ble_eq_true rfl) ?_
  intro p e s m args below meth c C hnm
  show Z p l e _ s m args below meth c _ w _ _ 3 σ 0 [(0, .ref (w.2.2 0)), (1, .int p1), (2, .int p2)] []
  unfold fX0_isInWith at hf
  refine z_aload_n C 0 dX0_isInWith_0 rfl rfl ?_
  refine z_getR C ly_x0 (Cn := RX0) (T := TX0) (N := 8) rfl in_X0 3 (by decide) q322 (Or.inl rfl) rfl dX0_isInWith_1 ?_
  refine z_aload_n C 0 dX0_isInWith_4 rfl rfl ?_
  refine z_getR C ly_x0 (Cn := RX0) (T := TX0) (N := 8) rfl in_X0 1 (by decide) q320 (Or.inl rfl) rfl dX0_isInWith_5 ?_
  obtain ⟨⟨⟩, σ_3, e_2, hf⟩ := bd_ hf
  refine z_callr C (rest := []) (av := (.ref (w.2.2 300) :: [.ref (w.2.2 100)])) (zPay.of q972 q79) (fun H ls hH h2 => zInv_V C (As := [.ref (w.2.2 100)]) (rest := []) (ci := 2) (T := TX2) (N := 20) rfl (zSee.fix (ly_b0 zb300)) hH q969 q970 q971 (Or.inl rfl) q972 mh_X2 np_X2_become dX0_isInWith_8) (tX2_become l w zb300 zb100 e_2) (Nat.le_of_ble_eq_true rfl) (Nat.le_of_ble_eq_true rfl) ?_
  refine z_getRN C (ly_b0 zb300) (Cn := RX2) (T := TX2) (N := 20) rfl in_X2 10 (by decide) q234 (Or.inl rfl) rfl dX0_isInWith_11 ?_
  refine z_iload_n C 1 dX0_isInWith_14 rfl rfl ?_
  refine z_iload_n C 2 dX0_isInWith_15 rfl rfl ?_
  obtain ⟨g_4, hf⟩ := gd_ hf
  refine z_iastore C (ly_b11 zb300) g_4 dX0_isInWith_16 ?_
  refine z_aload_n C 0 dX0_isInWith_17 rfl rfl ?_
  refine z_getR C ly_x0 (Cn := RX0) (T := TX0) (N := 8) rfl in_X0 3 (by decide) q322 (Or.inl rfl) rfl dX0_isInWith_18 ?_
  refine z_bipush C 60 dX0_isInWith_21 (by decide) ?_
  obtain ⟨⟨⟩, σ_7, e_6, hf⟩ := bd_ hf
  refine z_callr C (rest := []) (av := (.ref (w.2.2 300) :: [.int 60])) (zPay.of q925 q79) (fun H ls hH h2 => zInv_V C (As := [.int 60]) (rest := []) (ci := 2) (T := TX2) (N := 20) rfl (zSee.fix (ly_b0 zb300)) hH q922 q923 q924 (Or.inl rfl) q925 mh_X2 np_X2_goes dX0_isInWith_23) (tX2_goes l w zb300 e_6) (Nat.le_of_ble_eq_true rfl) (Nat.le_of_ble_eq_true rfl) ?_
  refine z_getRN C (ly_b0 zb300) (Cn := RX2) (T := TX2) (N := 20) rfl in_X2 11 (by decide) q236 (Or.inl rfl) rfl dX0_isInWith_26 ?_
  refine z_iload_n C 1 dX0_isInWith_29 rfl rfl ?_
  refine z_ialoadF C (ly_b12 zb300) g_4 dX0_isInWith_30 ?_
  obtain ⟨j_8, ej_8, hf⟩ := nmo_ hf
  have hj_8 : j_8 = 0 ∨ j_8 = 1 := by rw [ej_8]; (try dsimp only [nm]); (repeat' split) <;> first | exact Or.inl rfl | exact Or.inr rfl
  have hjj_8 : Z p l e (zRm 731 6155 σ) s m args below meth c (zQ below w zLx σ (.returned (some (.int r))) σ' args s) w zLx (zA w zLx σ) 3 σ_7 39 [(0, .ref (w.2.2 0)), (1, .int p1), (2, .int p2)] [.int j_8] := by
    obtain ⟨rfl, rfl⟩ := fin_ hf
    exact z_iret C (b01 hj_8) dX0_isInWith_39
  replace hf := ej_8
  refine z_if_ne C 38 dX0_isInWith_31 (by decide) (fun c_9 => ?_) (fun c_9 => ?_)
  · replace hf := ifp_f c_9 hf
    refine z_iconst C 0 dX0_isInWith_38 (by decide) ?_
    subst hf
    exact hjj_8
  · replace hf := ifp_t c_9 hf
    refine z_iconst C 1 dX0_isInWith_34 (by decide) ?_
    refine z_goto C 39 dX0_isInWith_35 (by decide) ?_
    subst hf
    exact hjj_8
def fX0_traffic_L50 (σ : ZS) (y1 : Int32) (y2 : Int32) : Nat → Int32 → Int32 → Int32 → Option (Int32 × Int32 × Int32)
  | 0, _, _, _ => none
  | n + 1, y3, y4, y5 => if (σ.1 300 0) ≤ y5 then (some (y3, y4, y5)) else (bo (fX2_whoAreAt σ 300 y5) (fun r_24 => bo (fX2_whoAreLost σ 300) (fun r_26 => nm (fJ9_bitCount (r_24 &&& (r_26 ^^^ (-1)))) (fun (x6_28 : Int32) => nm (if x6_28 ≤ y4 then y3 else y5) (fun (j_29 : Int32) => nm (fJ3_max y4 x6_28) (fun (x4_30 : Int32) => nm (y5 + 1) (fun (x5_31 : Int32) => fX0_traffic_L50 σ y1 y2 n j_29 x4_30 x5_31)))))))
def fX0_traffic (w : ZW) (σ : ZS) (p1 : Int32) (p2 : Int32) : Option (Int32 × ZS) := nm (if (fX0_isAhead p1) = 0 then 0 else (if (fX0_in p2 0 1) = 0 then 0 else 1)) (fun (j_1 : Int32) => bd (fX0_need σ j_1 1) (fun r_2 σ_4 => sc r_2 (fun _ => bd (fX2_become σ_4 300 100) (fun _ σ_9 => bd (fX2_goes w σ_9 300 p1) (fun _ σ_12 => bo (fX0_traffic_L50 σ_12 p1 p2 10000 0 (-1) 0) (fun uu36 => nm (if p2 = 0 then (uu36.1) else (uu36.2.1)) (fun (j_38 : Int32) => some (j_38, σ_12)))))) (fun _ => bd (fX0_finds σ_4) (fun r_40 σ_42 => some (r_40, σ_42)))))
set_option maxHeartbeats 4000000 in
set_option maxRecDepth 100000 in
theorem lfX0_traffic_L50 {p : Program} {l : Launch} {e : Env} {R : Room} {s : State} {m : MethodId} {args : Array Value} {below : List Frame} {meth : Method} {c : Code} {Q : State → Prop} {w : ZW} {A : Nat → Prop} {ret : Option FieldType} {hh : List (Nat × Nat × Nat × Nat)} (C : zCx p s m args meth c w zLx A 7 cX0_traffic RX0 ret hh) (hfr : 1 ≤ R.frames) (hlo : 15 ≤ R.locals) (σ : ZS) (y1 : Int32) (y2 : Int32) {z3 : Int32} {z4 : Int32} {z5 : Int32} (hk : Z p l e R s m args below meth c Q w zLx A 7 σ 115 [(0, .ref (w.2.2 0)), (1, .int y1), (2, .int y2), (3, .int z3), (4, .int z4), (5, .int z5)] []) : ∀ (n : Nat) (y3 : Int32) (y4 : Int32) (y5 : Int32), fX0_traffic_L50 σ y1 y2 n y3 y4 y5 = some (z3, z4, z5) → Z p l e R s m args below meth c Q w zLx A 7 σ 50 [(0, .ref (w.2.2 0)), (1, .int y1), (2, .int y2), (3, .int y3), (4, .int y4), (5, .int y5)] [] := by
  intro n
  induction n with
  | zero => intro y3 y4 y5 hf; exact none_ hf
  | succ n ih =>
    intro y3 y4 y5 hf
    rw [fX0_traffic_L50] at hf
    refine z_iload C 5 dX0_traffic_50 rfl ?_
    refine z_aload_n C 0 dX0_traffic_52 rfl rfl ?_
    refine z_getR C ly_x0 (Cn := RX0) (T := TX0) (N := 8) rfl in_X0 3 (by decide) q322 (Or.inl rfl) rfl dX0_traffic_53 ?_
    refine z_getIN C (ly_b0 zb300) (Cn := RX2) (T := TX2) (N := 20) rfl in_X2 0 (by decide) q211 (Or.inl rfl) rfl dX0_traffic_56 ?_
    refine z_icmp_ge C 115 dX0_traffic_59 (by decide) (fun c_23 => ?_) (fun c_23 => ?_)
    · replace hf := if_t c_23 hf
      have hf1 := fino_ hf
      simp only [Prod.mk.injEq] at hf1
      obtain ⟨rfl, rfl, rfl⟩ := hf1
      exact hk
    · replace hf := if_f c_23 hf
      refine z_aload_n C 0 dX0_traffic_62 rfl rfl ?_
      refine z_getR C ly_x0 (Cn := RX0) (T := TX0) (N := 8) rfl in_X0 3 (by decide) q322 (Or.inl rfl) rfl dX0_traffic_63 ?_
      refine z_iload C 5 dX0_traffic_66 rfl ?_
      obtain ⟨r_24, e_25, hf⟩ := bo_ hf
      refine z_calli C (rest := []) (av := (.ref (w.2.2 300) :: [.int y5])) (zPay.of q436 q79) (fun H ls hH h2 => zInv_V C (As := [.int y5]) (rest := []) (ci := 2) (T := TX2) (N := 20) rfl (zSee.fix (ly_b0 zb300)) hH q433 q434 q435 (Or.inl rfl) q436 mh_X2 np_X2_whoAreAt dX0_traffic_68) (tX2_whoAreAt l w zb300 e_25) (Nat.le_trans (Nat.le_of_ble_eq_true rfl) hfr) (Nat.le_trans (Nat.le_of_ble_eq_true rfl) hlo) ?_
      refine z_aload_n C 0 dX0_traffic_71 rfl rfl ?_
      refine z_getR C ly_x0 (Cn := RX0) (T := TX0) (N := 8) rfl in_X0 3 (by decide) q322 (Or.inl rfl) rfl dX0_traffic_72 ?_
      obtain ⟨r_26, e_27, hf⟩ := bo_ hf
      refine z_calli C (rest := [.int r_24]) (av := (.ref (w.2.2 300) :: [])) (zPay.of q983 q79) (fun H ls hH h2 => zInv_V C (As := []) (rest := [.int r_24]) (ci := 2) (T := TX2) (N := 20) rfl (zSee.fix (ly_b0 zb300)) hH q980 q981 q982 (Or.inl rfl) q983 mh_X2 np_X2_whoAreLost dX0_traffic_75) (tX2_whoAreLost l w zb300 e_27) (Nat.le_trans (Nat.le_of_ble_eq_true rfl) hfr) (Nat.le_trans (Nat.le_of_ble_eq_true rfl) hlo) ?_
      refine z_iconst C (-1) dX0_traffic_78 (by decide) ?_
      refine z_ixor C dX0_traffic_79 ?_
      refine z_iand C dX0_traffic_80 ?_
      refine z_calli C (rest := []) (av := [.int (r_24 &&& (r_26 ^^^ (-1)))]) (zPay.of q1052 q105) (fun H ls hH h2 => zInv_S C (As := [.int (r_24 &&& (r_26 ^^^ (-1)))]) (rest := []) q1050 q1051 q105 (Or.inl rfl) q1052 mh_J9 np_J9_bitCount dX0_traffic_81) (tJ9_bitCount l w zLx σ (r_24 &&& (r_26 ^^^ (-1)))) (Nat.le_trans (Nat.le_of_ble_eq_true rfl) hfr) (Nat.le_trans (Nat.le_of_ble_eq_true rfl) hlo) ?_
      obtain ⟨x6_28, ex6_28, hf⟩ := nmo_ hf
      refine z_top ex6_28 ?_
      refine z_istore C dX0_traffic_84 (by decide) rfl (lv' := [(6, .int x6_28), (0, .ref (w.2.2 0)), (1, .int y1), (2, .int y2), (3, .int y3), (4, .int y4), (5, .int y5)]) ?_
      refine z_iload C 0 dX0_traffic_86 rfl ?_
      refine z_iload C 5 dX0_traffic_88 rfl ?_
      obtain ⟨j_29, ej_29, hf⟩ := nmo_ hf
      have hjj_29 : Z p l e R s m args below meth c Q w zLx A 7 σ 99 [(0, .ref (w.2.2 0)), (1, .int y1), (2, .int y2), (3, .int y3), (4, .int y4), (5, .int y5), (6, .int x6_28)] [.int j_29] := by
        refine z_istore_n C dX0_traffic_99 rfl (by decide) rfl (lv' := [(3, .int j_29), (0, .ref (w.2.2 0)), (1, .int y1), (2, .int y2), (4, .int y4), (5, .int y5), (6, .int x6_28)]) ?_
        refine z_iload C 4 dX0_traffic_100 rfl ?_
        refine z_iload C 6 dX0_traffic_102 rfl ?_
        refine z_calli C (rest := []) (av := [.int y4, .int x6_28]) (zPay.of q390 q84) (fun H ls hH h2 => zInv_S C (As := [.int y4, .int x6_28]) (rest := []) q1076 q389 q84 (Or.inl rfl) q390 mh_J3 np_J3_max dX0_traffic_104) (tJ3_max l w zLx σ y4 x6_28) (Nat.le_trans (Nat.le_of_ble_eq_true rfl) hfr) (Nat.le_trans (Nat.le_of_ble_eq_true rfl) hlo) ?_
        obtain ⟨x4_30, ex4_30, hf⟩ := nmo_ hf
        refine z_top ex4_30 ?_
        refine z_istore C dX0_traffic_107 (by decide) rfl (lv' := [(4, .int x4_30), (3, .int j_29), (0, .ref (w.2.2 0)), (1, .int y1), (2, .int y2), (5, .int y5), (6, .int x6_28)]) ?_
        obtain ⟨x5_31, ex5_31, hf⟩ := nmo_ hf
        refine z_iinc C x5_31 5 dX0_traffic_109 rfl (by rw [ex5_31]; rfl) (by decide) rfl (lv' := [(5, .int x5_31), (4, .int x4_30), (3, .int j_29), (0, .ref (w.2.2 0)), (1, .int y1), (2, .int y2), (6, .int x6_28)]) ?_
        refine z_goto C 50 dX0_traffic_112 (by decide) ?_
        exact z_lv [3, 4, 5, 2, 1, 0] rfl (ih _ _ _ hf)
      replace hf := ej_29
      refine z_icmp_le C 98 dX0_traffic_90 (by decide) (fun c_32 => ?_) (fun c_32 => ?_)
      · replace hf := ifp_t c_32 hf
        refine z_iload_n C 4 dX0_traffic_98 rfl rfl ?_
        subst hf
        exact z_lv [1, 2, 3, 4, 5, 6, 0] rfl hjj_29
      · replace hf := ifp_f c_32 hf
        refine z_iload C 6 dX0_traffic_93 rfl ?_
        refine z_goto C 99 dX0_traffic_95 (by decide) ?_
        subst hf
        exact z_lv [1, 2, 3, 4, 5, 6, 0] rfl hjj_29
set_option maxHeartbeats 4000000 in
set_option maxRecDepth 100000 in
theorem tX0_traffic (l : Launch) (w : ZW) {σ σ' : ZS} {p1 : Int32} {p2 : Int32} {r : Int32} (hf : fX0_traffic w σ p1 p2 = some (r, σ')) : zC l w zLx yX0_traffic (wsW_ yX0_traffic cX0_traffic 7 (some .int) [(0, 125, 126, 8)]) 731 6155 [.ref (w.2.2 0), .int p1, .int p2] σ (.returned (some (.int r))) σ' := by
  refine zC.ofW (plainFor_of_name (by decide)) (Nat.le_of_ble_eq_true rfl) ?_
  intro p e s m args below meth c C hnm
  show Z p l e _ s m args below meth c _ w _ _ 7 σ 0 [(0, .ref (w.2.2 0)), (1, .int p1), (2, .int p2)] []
  unfold fX0_traffic at hf
  refine z_aload_n C 0 dX0_traffic_0 rfl rfl ?_
  refine z_iload_n C 1 dX0_traffic_1 rfl rfl ?_
  refine z_calli C (rest := [.ref (w.2.2 0)]) (av := [.int p1]) (zPay.of q968 q74) (fun H ls hH h2 => zInv_S C (As := [.int p1]) (rest := [.ref (w.2.2 0)]) q966 q967 q74 (Or.inl rfl) q968 mh_X0 np_X0_isAhead dX0_traffic_2) (tX0_isAhead l w zLx σ p1) (Nat.le_of_ble_eq_true rfl) (Nat.le_of_ble_eq_true rfl) ?_
  obtain ⟨j_1, ej_1, hf⟩ := nmo_ hf
  have hj_1 : j_1 = 0 ∨ j_1 = 1 := by rw [ej_1]; (try dsimp only [nm]); (repeat' split) <;> first | exact Or.inl rfl | exact Or.inr rfl
  have hjj_1 : Z p l e (zRm 731 6155 σ) s m args below meth c (zQ below w zLx σ (.returned (some (.int r))) σ' args s) w zLx (zA w zLx σ) 7 σ 22 [(0, .ref (w.2.2 0)), (1, .int p1), (2, .int p2)] [.int j_1, .ref (w.2.2 0)] := by
    refine z_iconst C 1 dX0_traffic_22 (by decide) ?_
    obtain ⟨r_2, σ_4, e_3, hf⟩ := bd_ hf
    rcases r_2 with ⟨⟩ | ⟨⟩
    · dsimp only [sc] at hf
      refine z_callv C (rest := []) (av := (.ref (w.2.2 0) :: [.int j_1, .int 1])) (zPay.of q354 q74) (fun H ls hH h2 => zInv_V C (As := [.int j_1, .int 1]) (rest := []) (ci := 0) (T := TX0) (N := 8) rfl (zSee.fix ly_x0) hH q351 q353 qs1 (Or.inl rfl) q354 mh_X0 np_X0_need dX0_traffic_23) (tX0_need l w e_3) (Nat.le_of_ble_eq_true rfl) (Nat.le_of_ble_eq_true rfl) ?_
      refine z_aload_n C 0 dX0_traffic_26 rfl rfl ?_
      refine z_getR C ly_x0 (Cn := RX0) (T := TX0) (N := 8) rfl in_X0 3 (by decide) q322 (Or.inl rfl) rfl dX0_traffic_27 ?_
      refine z_aload_n C 0 dX0_traffic_30 rfl rfl ?_
      refine z_getR C ly_x0 (Cn := RX0) (T := TX0) (N := 8) rfl in_X0 1 (by decide) q320 (Or.inl rfl) rfl dX0_traffic_31 ?_
      obtain ⟨⟨⟩, σ_9, e_8, hf⟩ := bd_ hf
      refine z_callr C (rest := []) (av := (.ref (w.2.2 300) :: [.ref (w.2.2 100)])) (zPay.of q972 q79) (fun H ls hH h2 => zInv_V C (As := [.ref (w.2.2 100)]) (rest := []) (ci := 2) (T := TX2) (N := 20) rfl (zSee.fix (ly_b0 zb300)) hH q969 q970 q971 (Or.inl rfl) q972 mh_X2 np_X2_become dX0_traffic_34) (tX2_become l w zb300 zb100 e_8) (Nat.le_of_ble_eq_true rfl) (Nat.le_of_ble_eq_true rfl) ?_
      refine z_iload_n C 1 dX0_traffic_37 rfl rfl ?_
      obtain ⟨⟨⟩, σ_12, e_11, hf⟩ := bd_ hf
      refine z_callr C (rest := []) (av := (.ref (w.2.2 300) :: [.int p1])) (zPay.of q925 q79) (fun H ls hH h2 => zInv_V C (As := [.int p1]) (rest := []) (ci := 2) (T := TX2) (N := 20) rfl (zSee.fix (ly_b0 zb300)) hH q922 q923 q924 (Or.inl rfl) q925 mh_X2 np_X2_goes dX0_traffic_38) (tX2_goes l w zb300 e_11) (Nat.le_of_ble_eq_true rfl) (Nat.le_of_ble_eq_true rfl) ?_
      refine z_pop C dX0_traffic_41 rfl ?_
      refine z_iconst C 0 dX0_traffic_42 (by decide) ?_
      refine z_istore_n C dX0_traffic_43 rfl (by decide) rfl (lv' := [(3, .int 0), (0, .ref (w.2.2 0)), (1, .int p1), (2, .int p2)]) ?_
      refine z_iconst C (-1) dX0_traffic_44 (by decide) ?_
      refine z_istore C dX0_traffic_45 (by decide) rfl (lv' := [(4, .int (-1)), (3, .int 0), (0, .ref (w.2.2 0)), (1, .int p1), (2, .int p2)]) ?_
      refine z_iconst C 0 dX0_traffic_47 (by decide) ?_
      refine z_istore C dX0_traffic_48 (by decide) rfl (lv' := [(5, .int 0), (4, .int (-1)), (3, .int 0), (0, .ref (w.2.2 0)), (1, .int p1), (2, .int p2)]) ?_
      obtain ⟨⟨x3_33, x4_34, x5_35⟩, e_37, hf⟩ := bo_ hf
      try dsimp only at hf
      refine z_lv (lv' := [(0, .ref (w.2.2 0)), (1, .int p1), (2, .int p2), (3, .int 0), (4, .int (-1)), (5, .int 0)]) [3, 4, 5, 2, 1, 0] rfl ?_
      refine lfX0_traffic_L50 C (Nat.le_of_ble_eq_true rfl) (Nat.le_of_ble_eq_true rfl) σ_12 p1 p2 ?_ _ _ _ _ e_37
      refine z_iload_n C 2 dX0_traffic_115 rfl rfl ?_
      obtain ⟨j_38, ej_38, hf⟩ := nmo_ hf
      have hjj_38 : Z p l e (zRm 731 6155 σ) s m args below meth c (zQ below w zLx σ (.returned (some (.int r))) σ' args s) w zLx (zA w zLx σ) 7 σ_12 125 [(0, .ref (w.2.2 0)), (1, .int p1), (2, .int p2), (3, .int x3_33), (4, .int x4_34), (5, .int x5_35)] [.int j_38] := by
        obtain ⟨rfl, rfl⟩ := fin_ hf
        exact z_iret C rfl dX0_traffic_125
      replace hf := ej_38
      refine z_if_ne C 123 dX0_traffic_116 (by decide) (fun c_39 => ?_) (fun c_39 => ?_)
      · replace hf := ifp_f c_39 hf
        refine z_iload C 4 dX0_traffic_123 rfl ?_
        subst hf
        exact hjj_38
      · replace hf := ifp_t c_39 hf
        refine z_iload_n C 3 dX0_traffic_119 rfl rfl ?_
        refine z_goto C 125 dX0_traffic_120 (by decide) ?_
        subst hf
        exact hjj_38
    · dsimp only [sc] at hf
      refine z_callt C (rest := []) (av := (.ref (w.2.2 0) :: [.int j_1, .int 1])) (zPay.of q354 q74) (fun H ls hH h2 => zInv_V C (As := [.int j_1, .int 1]) (rest := []) (ci := 0) (T := TX0) (N := 8) rfl (zSee.fix ly_x0) hH q351 q353 qs1 (Or.inl rfl) q354 mh_X0 np_X0_need dX0_traffic_23) (tX0_need l w e_3) (Nat.le_of_ble_eq_true rfl) (Nat.le_of_ble_eq_true rfl) ?_
      refine z_catch C [] 0 125 126 8 [] rfl (by decide) (by decide) (by decide) (ci := 1) (Cn := RX1) (T0 := TX1) (N := 7) rfl (zSee.fix ly_x1) q118 ?_
      refine z_astore_n C dX0_traffic_126 rfl (by decide) rfl (lv' := [(3, .ref (w.2.2 1)), (0, .ref (w.2.2 0)), (1, .int p1), (2, .int p2)]) ?_
      refine z_aload_n C 1 dX0_traffic_127 rfl rfl ?_
      refine z_aload_n C 0 dX0_traffic_128 rfl rfl ?_
      obtain ⟨r_40, σ_42, e_41, hf⟩ := bd_ hf
      refine z_calli C (rest := []) (av := (.ref (w.2.2 0) :: [.ref (w.2.2 1)])) (zPay.of q362 q74) (fun H ls hH h2 => zInv_V C (As := [.ref (w.2.2 1)]) (rest := []) (ci := 0) (T := TX0) (N := 8) rfl (zSee.fix ly_x0) hH q359 q361 qs2 (Or.inl rfl) q362 mh_X0 np_X0_finds dX0_traffic_129) (tX0_finds l w e_41) (Nat.le_of_ble_eq_true rfl) (Nat.le_of_ble_eq_true rfl) ?_
      obtain ⟨rfl, rfl⟩ := fin_ hf
      exact z_iret C rfl dX0_traffic_132
  replace hf := ej_1
  refine z_if_eq C 21 dX0_traffic_5 (by decide) (fun c_43 => ?_) (fun c_43 => ?_)
  · replace hf := ifp_t c_43 hf
    refine z_iconst C 0 dX0_traffic_21 (by decide) ?_
    subst hf
    exact hjj_1
  · replace hf := ifp_f c_43 hf
    refine z_iload_n C 2 dX0_traffic_8 rfl rfl ?_
    refine z_iconst C 0 dX0_traffic_9 (by decide) ?_
    refine z_iconst C 1 dX0_traffic_10 (by decide) ?_
    refine z_calli C (rest := [.ref (w.2.2 0)]) (av := [.int p2, .int 0, .int 1]) (zPay.of q350 q74) (fun H ls hH h2 => zInv_S C (As := [.int p2, .int 0, .int 1]) (rest := [.ref (w.2.2 0)]) q348 q349 q74 (Or.inl rfl) q350 mh_X0 np_X0_in dX0_traffic_11) (tX0_in l w zLx σ p2 0 1) (Nat.le_of_ble_eq_true rfl) (Nat.le_of_ble_eq_true rfl) ?_
    refine z_if_eq C 21 dX0_traffic_14 (by decide) (fun c_44 => ?_) (fun c_44 => ?_)
    · replace hf := ifp_t c_44 hf
      refine z_iconst C 0 dX0_traffic_21 (by decide) ?_
      subst hf
      exact hjj_1
    · replace hf := ifp_f c_44 hf
      refine z_iconst C 1 dX0_traffic_17 (by decide) ?_
      refine z_goto C 22 dX0_traffic_18 (by decide) ?_
      subst hf
      exact hjj_1
def fX0_odds_L40 (w : ZW) (y1 : Int32) (y2 : Int32) (y3 : Int32) : Nat → Int32 → Int32 → ZS → Option ((Int32 × Int32) × ZS)
  | 0, _, _, _ => none
  | n + 1, y4, y5, σ => if 20 ≤ y5 then (some ((y4, y5), σ)) else (bd (fX0_areInBy w σ (1 <<< (y1 &&& 31)) y2 y5) (fun r_8 σ_10 => nm (if r_8 = 0 then 0 else 1) (fun (j_11 : Int32) => nm (y4 + j_11) (fun (x4_12 : Int32) => nm (y5 + 1) (fun (x5_13 : Int32) => fX0_odds_L40 w y1 y2 y3 n x4_12 x5_13 σ_10)))))
def fX0_odds (w : ZW) (σ : ZS) (p1 : Int32) (p2 : Int32) (p3 : Int32) : Option (Int32 × ZS) := nm (if (fX0_isShip σ p1) = 0 then 0 else (if (fX0_isAhead p2) = 0 then 0 else (if (fX0_in p3 0 1) = 0 then 0 else 1))) (fun (j_1 : Int32) => bd (fX0_need σ j_1 1) (fun r_2 σ_4 => sc r_2 (fun _ => bd (fX0_odds_L40 w p1 p2 p3 10000 0 0 σ_4) (fun uu17 σ_17 => bo (fX0_common σ_17 (uu17.1) 20) (fun r_19 => bo (if p3 = 0 then (gd (¬ r_19 = 0) (some ((uu17.1) / r_19))) else (gd (¬ r_19 = 0) (some (20 / r_19)))) (fun (j_21 : Int32) => some (j_21, σ_17))))) (fun _ => bd (fX0_finds σ_4) (fun r_27 σ_29 => some (r_27, σ_29)))))
set_option maxHeartbeats 4000000 in
set_option maxRecDepth 100000 in
theorem lfX0_odds_L40 {p : Program} {l : Launch} {e : Env} {R : Room} {s : State} {m : MethodId} {args : Array Value} {below : List Frame} {meth : Method} {c : Code} {Q : State → Prop} {w : ZW} {A : Nat → Prop} {ret : Option FieldType} {hh : List (Nat × Nat × Nat × Nat)} (C : zCx p s m args meth c w zLx A 6 cX0_odds RX0 ret hh) (hfr : 732 ≤ R.frames) (hlo : 6171 ≤ R.locals) (y1 : Int32) (y2 : Int32) (y3 : Int32) {z4 : Int32} {z5 : Int32} {σ' : ZS} (hk : Z p l e R s m args below meth c Q w zLx A 6 σ' 76 [(0, .ref (w.2.2 0)), (1, .int y1), (2, .int y2), (3, .int y3), (4, .int z4), (5, .int z5)] []) : ∀ (n : Nat) (y4 : Int32) (y5 : Int32) (σ : ZS), fX0_odds_L40 w y1 y2 y3 n y4 y5 σ = some ((z4, z5), σ') → Z p l e R s m args below meth c Q w zLx A 6 σ 40 [(0, .ref (w.2.2 0)), (1, .int y1), (2, .int y2), (3, .int y3), (4, .int y4), (5, .int y5)] [] := by
  intro n
  induction n with
  | zero => intro y4 y5 σ hf; exact none_ hf
  | succ n ih =>
    intro y4 y5 σ hf
    rw [fX0_odds_L40] at hf
    refine z_iload C 5 dX0_odds_40 rfl ?_
    refine z_bipush C 20 dX0_odds_42 (by decide) ?_
    refine z_icmp_ge C 76 dX0_odds_44 (by decide) (fun c_7 => ?_) (fun c_7 => ?_)
    · replace hf := if_t c_7 hf
      obtain ⟨hf1, rfl⟩ := fin_ hf
      simp only [Prod.mk.injEq] at hf1
      obtain ⟨rfl, rfl⟩ := hf1
      exact hk
    · replace hf := if_f c_7 hf
      refine z_iload C 4 dX0_odds_47 rfl ?_
      refine z_aload_n C 0 dX0_odds_49 rfl rfl ?_
      refine z_iconst C 1 dX0_odds_50 (by decide) ?_
      refine z_iload_n C 1 dX0_odds_51 rfl rfl ?_
      refine z_ishl C dX0_odds_52 ?_
      refine z_iload_n C 2 dX0_odds_53 rfl rfl ?_
      refine z_iload C 5 dX0_odds_54 rfl ?_
      obtain ⟨r_8, σ_10, e_9, hf⟩ := bd_ hf
      refine z_calli C (rest := [.int y4]) (av := (.ref (w.2.2 0) :: [.int (1 <<< (y1 &&& 31)), .int y2, .int y5])) (zPay.of q996 q74) (fun H ls hH h2 => zInv_V C (As := [.int (1 <<< (y1 &&& 31)), .int y2, .int y5]) (rest := [.int y4]) (ci := 0) (T := TX0) (N := 8) rfl (zSee.fix ly_x0) hH q993 q995 qs24 (Or.inl rfl) q996 mh_X0 np_X0_areInBy dX0_odds_56) (tX0_areInBy l w e_9) (Nat.le_trans (Nat.le_of_ble_eq_true rfl) hfr) (Nat.le_trans (Nat.le_of_ble_eq_true rfl) hlo) ?_
      obtain ⟨j_11, ej_11, hf⟩ := nmo_ hf
      have hj_11 : j_11 = 0 ∨ j_11 = 1 := by rw [ej_11]; (try dsimp only [nm]); (repeat' split) <;> first | exact Or.inl rfl | exact Or.inr rfl
      have hjj_11 : Z p l e R s m args below meth c Q w zLx A 6 σ_10 67 [(0, .ref (w.2.2 0)), (1, .int y1), (2, .int y2), (3, .int y3), (4, .int y4), (5, .int y5)] [.int j_11, .int y4] := by
        refine z_iadd C dX0_odds_67 ?_
        obtain ⟨x4_12, ex4_12, hf⟩ := nmo_ hf
        refine z_top ex4_12 ?_
        refine z_istore C dX0_odds_68 (by decide) rfl (lv' := [(4, .int x4_12), (0, .ref (w.2.2 0)), (1, .int y1), (2, .int y2), (3, .int y3), (5, .int y5)]) ?_
        obtain ⟨x5_13, ex5_13, hf⟩ := nmo_ hf
        refine z_iinc C x5_13 5 dX0_odds_70 rfl (by rw [ex5_13]; rfl) (by decide) rfl (lv' := [(5, .int x5_13), (4, .int x4_12), (0, .ref (w.2.2 0)), (1, .int y1), (2, .int y2), (3, .int y3)]) ?_
        refine z_goto C 40 dX0_odds_73 (by decide) ?_
        exact z_lv [2, 3, 4, 5, 1, 0] rfl (ih _ _ _ hf)
      replace hf := ej_11
      refine z_if_eq C 66 dX0_odds_59 (by decide) (fun c_14 => ?_) (fun c_14 => ?_)
      · replace hf := ifp_t c_14 hf
        refine z_iconst C 0 dX0_odds_66 (by decide) ?_
        subst hf
        exact hjj_11
      · replace hf := ifp_f c_14 hf
        refine z_iconst C 1 dX0_odds_62 (by decide) ?_
        refine z_goto C 67 dX0_odds_63 (by decide) ?_
        subst hf
        exact hjj_11
set_option maxHeartbeats 4000000 in
set_option maxRecDepth 100000 in
theorem tX0_odds (l : Launch) (w : ZW) {σ σ' : ZS} {p1 : Int32} {p2 : Int32} {p3 : Int32} {r : Int32} (hf : fX0_odds w σ p1 p2 p3 = some (r, σ')) : zC l w zLx yX0_odds (wsW_ yX0_odds cX0_odds 6 (some .int) [(0, 102, 103, 8)]) 732 6171 [.ref (w.2.2 0), .int p1, .int p2, .int p3] σ (.returned (some (.int r))) σ' := by
  refine zC.ofW (plainFor_of_name (by decide)) (Nat.le_of_ble_eq_true rfl) ?_
  intro p e s m args below meth c C hnm
  show Z p l e _ s m args below meth c _ w _ _ 6 σ 0 [(0, .ref (w.2.2 0)), (1, .int p1), (2, .int p2), (3, .int p3)] []
  unfold fX0_odds at hf
  refine z_aload_n C 0 dX0_odds_0 rfl rfl ?_
  refine z_aload_n C 0 dX0_odds_1 rfl rfl ?_
  refine z_iload_n C 1 dX0_odds_2 rfl rfl ?_
  refine z_calli C (rest := [.ref (w.2.2 0)]) (av := (.ref (w.2.2 0) :: [.int p1])) (zPay.of q561 q74) (fun H ls hH h2 => zInv_V C (As := [.int p1]) (rest := [.ref (w.2.2 0)]) (ci := 0) (T := TX0) (N := 8) rfl (zSee.fix ly_x0) hH q558 q560 qs8 (Or.inl rfl) q561 mh_X0 np_X0_isShip dX0_odds_3) (tX0_isShip l w σ p1) (Nat.le_of_ble_eq_true rfl) (Nat.le_of_ble_eq_true rfl) ?_
  obtain ⟨j_1, ej_1, hf⟩ := nmo_ hf
  have hj_1 : j_1 = 0 ∨ j_1 = 1 := by rw [ej_1]; (try dsimp only [nm]); (repeat' split) <;> first | exact Or.inl rfl | exact Or.inr rfl
  have hjj_1 : Z p l e (zRm 732 6171 σ) s m args below meth c (zQ below w zLx σ (.returned (some (.int r))) σ' args s) w zLx (zA w zLx σ) 6 σ 30 [(0, .ref (w.2.2 0)), (1, .int p1), (2, .int p2), (3, .int p3)] [.int j_1, .ref (w.2.2 0)] := by
    refine z_iconst C 1 dX0_odds_30 (by decide) ?_
    obtain ⟨r_2, σ_4, e_3, hf⟩ := bd_ hf
    rcases r_2 with ⟨⟩ | ⟨⟩
    · dsimp only [sc] at hf
      refine z_callv C (rest := []) (av := (.ref (w.2.2 0) :: [.int j_1, .int 1])) (zPay.of q354 q74) (fun H ls hH h2 => zInv_V C (As := [.int j_1, .int 1]) (rest := []) (ci := 0) (T := TX0) (N := 8) rfl (zSee.fix ly_x0) hH q351 q353 qs1 (Or.inl rfl) q354 mh_X0 np_X0_need dX0_odds_31) (tX0_need l w e_3) (Nat.le_of_ble_eq_true rfl) (Nat.le_of_ble_eq_true rfl) ?_
      refine z_iconst C 0 dX0_odds_34 (by decide) ?_
      refine z_istore C dX0_odds_35 (by decide) rfl (lv' := [(4, .int 0), (0, .ref (w.2.2 0)), (1, .int p1), (2, .int p2), (3, .int p3)]) ?_
      refine z_iconst C 0 dX0_odds_37 (by decide) ?_
      refine z_istore C dX0_odds_38 (by decide) rfl (lv' := [(5, .int 0), (4, .int 0), (0, .ref (w.2.2 0)), (1, .int p1), (2, .int p2), (3, .int p3)]) ?_
      obtain ⟨⟨x4_15, x5_16⟩, σ_17, e_18, hf⟩ := bd_ hf
      try dsimp only at hf
      refine z_lv (lv' := [(0, .ref (w.2.2 0)), (1, .int p1), (2, .int p2), (3, .int p3), (4, .int 0), (5, .int 0)]) [2, 3, 4, 5, 1, 0] rfl ?_
      refine lfX0_odds_L40 C (Nat.le_of_ble_eq_true rfl) (Nat.le_of_ble_eq_true rfl) p1 p2 p3 ?_ _ _ _ _ e_18
      refine z_iload C 4 dX0_odds_76 rfl ?_
      refine z_bipush C 20 dX0_odds_78 (by decide) ?_
      obtain ⟨r_19, e_20, hf⟩ := bo_ hf
      refine z_calli C (rest := []) (av := [.int x4_15, .int 20]) (zPay.of q1083 q74) (fun H ls hH h2 => zInv_S C (As := [.int x4_15, .int 20]) (rest := []) q1081 q1082 q74 (Or.inl rfl) q1083 mh_X0 np_X0_common dX0_odds_80) (tX0_common l w e_20) (Nat.le_of_ble_eq_true rfl) (Nat.le_of_ble_eq_true rfl) ?_
      refine z_istore C dX0_odds_83 (by decide) rfl (lv' := [(5, .int r_19), (0, .ref (w.2.2 0)), (1, .int p1), (2, .int p2), (3, .int p3), (4, .int x4_15)]) ?_
      refine z_iload_n C 4 dX0_odds_85 rfl rfl ?_
      obtain ⟨j_21, e_23, hf⟩ := bo_ hf
      have hje_23 : Z p l e (zRm 732 6171 σ) s m args below meth c (zQ below w zLx σ (.returned (some (.int r))) σ' args s) w zLx (zA w zLx σ) 6 σ_17 102 [(0, .ref (w.2.2 0)), (1, .int p1), (2, .int p2), (3, .int p3), (4, .int x4_15), (5, .int r_19)] [.int j_21] := by
        obtain ⟨rfl, rfl⟩ := fin_ hf
        exact z_iret C rfl dX0_odds_102
      replace hf := e_23
      refine z_if_ne C 97 dX0_odds_86 (by decide) (fun c_24 => ?_) (fun c_24 => ?_)
      · replace hf := if_f c_24 hf
        refine z_bipush C 20 dX0_odds_97 (by decide) ?_
        refine z_iload C 0 dX0_odds_99 rfl ?_
        obtain ⟨g_25, hf⟩ := gd_ hf
        refine z_idiv C dX0_odds_101 g_25 ?_
        obtain rfl := fino_ hf
        exact z_lv [1, 2, 3, 4, 5, 0] rfl hje_23
      · replace hf := if_t c_24 hf
        refine z_iload C 5 dX0_odds_89 rfl ?_
        refine z_iload C 0 dX0_odds_91 rfl ?_
        obtain ⟨g_26, hf⟩ := gd_ hf
        refine z_idiv C dX0_odds_93 g_26 ?_
        refine z_goto C 102 dX0_odds_94 (by decide) ?_
        obtain rfl := fino_ hf
        exact z_lv [1, 2, 3, 4, 5, 0] rfl hje_23
    · dsimp only [sc] at hf
      refine z_callt C (rest := []) (av := (.ref (w.2.2 0) :: [.int j_1, .int 1])) (zPay.of q354 q74) (fun H ls hH h2 => zInv_V C (As := [.int j_1, .int 1]) (rest := []) (ci := 0) (T := TX0) (N := 8) rfl (zSee.fix ly_x0) hH q351 q353 qs1 (Or.inl rfl) q354 mh_X0 np_X0_need dX0_odds_31) (tX0_need l w e_3) (Nat.le_of_ble_eq_true rfl) (Nat.le_of_ble_eq_true rfl) ?_
      refine z_catch C [] 0 102 103 8 [] rfl (by decide) (by decide) (by decide) (ci := 1) (Cn := RX1) (T0 := TX1) (N := 7) rfl (zSee.fix ly_x1) q118 ?_
      refine z_astore C dX0_odds_103 (by decide) rfl (lv' := [(4, .ref (w.2.2 1)), (0, .ref (w.2.2 0)), (1, .int p1), (2, .int p2), (3, .int p3)]) ?_
      refine z_aload_n C 1 dX0_odds_105 rfl rfl ?_
      refine z_aload C 0 dX0_odds_106 rfl ?_
      obtain ⟨r_27, σ_29, e_28, hf⟩ := bd_ hf
      refine z_calli C (rest := []) (av := (.ref (w.2.2 0) :: [.ref (w.2.2 1)])) (zPay.of q362 q74) (fun H ls hH h2 => zInv_V C (As := [.ref (w.2.2 1)]) (rest := []) (ci := 0) (T := TX0) (N := 8) rfl (zSee.fix ly_x0) hH q359 q361 qs2 (Or.inl rfl) q362 mh_X0 np_X0_finds dX0_odds_108) (tX0_finds l w e_28) (Nat.le_of_ble_eq_true rfl) (Nat.le_of_ble_eq_true rfl) ?_
      obtain ⟨rfl, rfl⟩ := fin_ hf
      exact z_iret C rfl dX0_odds_111
  replace hf := ej_1
  refine z_if_eq C 29 dX0_odds_6 (by decide) (fun c_30 => ?_) (fun c_30 => ?_)
  · replace hf := ifp_t c_30 hf
    refine z_iconst C 0 dX0_odds_29 (by decide) ?_
    subst hf
    exact hjj_1
  · replace hf := ifp_f c_30 hf
    refine z_iload_n C 2 dX0_odds_9 rfl rfl ?_
    refine z_calli C (rest := [.ref (w.2.2 0)]) (av := [.int p2]) (zPay.of q968 q74) (fun H ls hH h2 => zInv_S C (As := [.int p2]) (rest := [.ref (w.2.2 0)]) q966 q967 q74 (Or.inl rfl) q968 mh_X0 np_X0_isAhead dX0_odds_10) (tX0_isAhead l w zLx σ p2) (Nat.le_of_ble_eq_true rfl) (Nat.le_of_ble_eq_true rfl) ?_
    refine z_if_eq C 29 dX0_odds_13 (by decide) (fun c_31 => ?_) (fun c_31 => ?_)
    · replace hf := ifp_t c_31 hf
      refine z_iconst C 0 dX0_odds_29 (by decide) ?_
      subst hf
      exact hjj_1
    · replace hf := ifp_f c_31 hf
      refine z_iload_n C 3 dX0_odds_16 rfl rfl ?_
      refine z_iconst C 0 dX0_odds_17 (by decide) ?_
      refine z_iconst C 1 dX0_odds_18 (by decide) ?_
      refine z_calli C (rest := [.ref (w.2.2 0)]) (av := [.int p3, .int 0, .int 1]) (zPay.of q350 q74) (fun H ls hH h2 => zInv_S C (As := [.int p3, .int 0, .int 1]) (rest := [.ref (w.2.2 0)]) q348 q349 q74 (Or.inl rfl) q350 mh_X0 np_X0_in dX0_odds_19) (tX0_in l w zLx σ p3 0 1) (Nat.le_of_ble_eq_true rfl) (Nat.le_of_ble_eq_true rfl) ?_
      refine z_if_eq C 29 dX0_odds_22 (by decide) (fun c_32 => ?_) (fun c_32 => ?_)
      · replace hf := ifp_t c_32 hf
        refine z_iconst C 0 dX0_odds_29 (by decide) ?_
        subst hf
        exact hjj_1
      · replace hf := ifp_f c_32 hf
        refine z_iconst C 1 dX0_odds_25 (by decide) ?_
        refine z_goto C 30 dX0_odds_26 (by decide) ?_
        subst hf
        exact hjj_1
def fX0_check_L32 (w : ZW) (y1 : Int32) : Nat → Int32 → Int32 → ZS → Option ((Int32 × Int32) × ZS)
  | 0, _, _, _ => none
  | n + 1, y2, y3, σ => if y1 ≤ y2 then (some ((y2, y3), σ)) else (if y3 = 0 then (some ((y2, y3), σ)) else (gd (¬ (y2 < 0 ∨ 20 ≤ y2.toNatClampNeg)) (bd (fX2_goes w σ 300 1) (fun _ σ_10 => bo (fX2_atHome σ_10 300) (fun r_11 => nm (if (σ.1 (100 + 18) y2.toNatClampNeg) = r_11 then 1 else 0) (fun (j_13 : Int32) => nm (if j_13 = 0 then 0 else 1) (fun (j_14 : Int32) => nm (y2 + j_14) (fun (x2_15 : Int32) => fX0_check_L32 w y1 n x2_15 j_13 σ_10))))))))
def fX0_check (w : ZW) (σ : ZS) : Option (Int32 × ZS) := nm (σ.1 100 18) (fun (x1_1 : Int32) => bd (fX2_become (sI σ 100 18 0) 300 100) (fun _ σ_4 => bd (fX0_check_L32 w x1_1 10000 0 1 σ_4) (fun uu20 σ_20 => nm (if (uu20.2) = 0 then (1 + (uu20.1)) else 0) (fun (j_22 : Int32) => some (j_22, σ_20)))))
set_option maxHeartbeats 4000000 in
set_option maxRecDepth 100000 in
theorem lfX0_check_L32 {p : Program} {l : Launch} {e : Env} {R : Room} {s : State} {m : MethodId} {args : Array Value} {below : List Frame} {meth : Method} {c : Code} {Q : State → Prop} {w : ZW} {A : Nat → Prop} {ret : Option FieldType} {hh : List (Nat × Nat × Nat × Nat)} (C : zCx p s m args meth c w zLx A 4 cX0_check RX0 ret hh) (hfr : 731 ≤ R.frames) (hlo : 6156 ≤ R.locals) (y1 : Int32) {z2 : Int32} {z3 : Int32} {σ' : ZS} (hk : Z p l e R s m args below meth c Q w zLx A 4 σ' 85 [(0, .ref (w.2.2 0)), (1, .int y1), (2, .int z2), (3, .int z3)] []) : ∀ (n : Nat) (y2 : Int32) (y3 : Int32) (σ : ZS), fX0_check_L32 w y1 n y2 y3 σ = some ((z2, z3), σ') → Z p l e R s m args below meth c Q w zLx A 4 σ 32 [(0, .ref (w.2.2 0)), (1, .int y1), (2, .int y2), (3, .int y3)] [] := by
  intro n
  induction n with
  | zero => intro y2 y3 σ hf; exact none_ hf
  | succ n ih =>
    intro y2 y3 σ hf
    rw [fX0_check_L32] at hf
    refine z_iload_n C 2 dX0_check_32 rfl rfl ?_
    refine z_iload_n C 1 dX0_check_33 rfl rfl ?_
    refine z_icmp_ge C 85 dX0_check_34 (by decide) (fun c_5 => ?_) (fun c_5 => ?_)
    · replace hf := if_t c_5 hf
      obtain ⟨hf1, rfl⟩ := fin_ hf
      simp only [Prod.mk.injEq] at hf1
      obtain ⟨rfl, rfl⟩ := hf1
      exact hk
    · replace hf := if_f c_5 hf
      refine z_iload_n C 3 dX0_check_37 rfl rfl ?_
      refine z_if_eq C 85 dX0_check_38 (by decide) (fun c_6 => ?_) (fun c_6 => ?_)
      · replace hf := if_t c_6 hf
        obtain ⟨hf1, rfl⟩ := fin_ hf
        simp only [Prod.mk.injEq] at hf1
        obtain ⟨rfl, rfl⟩ := hf1
        exact hk
      · replace hf := if_f c_6 hf
        refine z_aload_n C 0 dX0_check_41 rfl rfl ?_
        refine z_getR C ly_x0 (Cn := RX0) (T := TX0) (N := 8) rfl in_X0 1 (by decide) q320 (Or.inl rfl) rfl dX0_check_42 ?_
        refine z_getRN C (ly_b0 zb100) (Cn := RX2) (T := TX2) (N := 20) rfl in_X2 17 (by decide) q248 (Or.inl rfl) rfl dX0_check_45 ?_
        refine z_iload_n C 2 dX0_check_48 rfl rfl ?_
        obtain ⟨g_7, hf⟩ := gd_ hf
        refine z_ialoadF C (ly_b18 zb100) g_7 dX0_check_49 ?_
        refine z_aload_n C 0 dX0_check_50 rfl rfl ?_
        refine z_getR C ly_x0 (Cn := RX0) (T := TX0) (N := 8) rfl in_X0 3 (by decide) q322 (Or.inl rfl) rfl dX0_check_51 ?_
        refine z_iconst C 1 dX0_check_54 (by decide) ?_
        obtain ⟨⟨⟩, σ_10, e_9, hf⟩ := bd_ hf
        refine z_callr C (rest := [.int (σ.1 (100 + 18) y2.toNatClampNeg)]) (av := (.ref (w.2.2 300) :: [.int 1])) (zPay.of q925 q79) (fun H ls hH h2 => zInv_V C (As := [.int 1]) (rest := [.int (σ.1 (100 + 18) y2.toNatClampNeg)]) (ci := 2) (T := TX2) (N := 20) rfl (zSee.fix (ly_b0 zb300)) hH q922 q923 q924 (Or.inl rfl) q925 mh_X2 np_X2_goes dX0_check_55) (tX2_goes l w zb300 e_9) (Nat.le_trans (Nat.le_of_ble_eq_true rfl) hfr) (Nat.le_trans (Nat.le_of_ble_eq_true rfl) hlo) ?_
        obtain ⟨r_11, e_12, hf⟩ := bo_ hf
        refine z_calli C (rest := [.int (σ.1 (100 + 18) y2.toNatClampNeg)]) (av := (.ref (w.2.2 300) :: [])) (zPay.of q943 q79) (fun H ls hH h2 => zInv_V C (As := []) (rest := [.int (σ.1 (100 + 18) y2.toNatClampNeg)]) (ci := 2) (T := TX2) (N := 20) rfl (zSee.fix (ly_b0 zb300)) hH q940 q941 q942 (Or.inl rfl) q943 mh_X2 np_X2_atHome dX0_check_58) (tX2_atHome l w zb300 e_12) (Nat.le_trans (Nat.le_of_ble_eq_true rfl) hfr) (Nat.le_trans (Nat.le_of_ble_eq_true rfl) hlo) ?_
        obtain ⟨j_13, ej_13, hf⟩ := nmo_ hf
        have hj_13 : j_13 = 0 ∨ j_13 = 1 := by rw [ej_13]; (try dsimp only [nm]); (repeat' split) <;> first | exact Or.inl rfl | exact Or.inr rfl
        have hjj_13 : Z p l e R s m args below meth c Q w zLx A 4 σ_10 69 [(0, .ref (w.2.2 0)), (1, .int y1), (2, .int y2), (3, .int y3)] [.int j_13] := by
          refine z_istore_n C dX0_check_69 rfl (by decide) rfl (lv' := [(3, .int j_13), (0, .ref (w.2.2 0)), (1, .int y1), (2, .int y2)]) ?_
          refine z_iload_n C 3 dX0_check_70 rfl rfl ?_
          refine z_iload_n C 0 dX0_check_71 rfl rfl ?_
          obtain ⟨j_14, ej_14, hf⟩ := nmo_ hf
          have hj_14 : j_14 = 0 ∨ j_14 = 1 := by rw [ej_14]; (try dsimp only [nm]); (repeat' split) <;> first | exact Or.inl rfl | exact Or.inr rfl
          have hjj_14 : Z p l e R s m args below meth c Q w zLx A 4 σ_10 80 [(0, .ref (w.2.2 0)), (1, .int y1), (2, .int y2), (3, .int j_13)] [.int j_14, .int y2] := by
            refine z_iadd C dX0_check_80 ?_
            obtain ⟨x2_15, ex2_15, hf⟩ := nmo_ hf
            refine z_top ex2_15 ?_
            refine z_istore_n C dX0_check_81 rfl (by decide) rfl (lv' := [(2, .int x2_15), (0, .ref (w.2.2 0)), (1, .int y1), (3, .int j_13)]) ?_
            refine z_goto C 32 dX0_check_82 (by decide) ?_
            exact z_lv [1, 2, 0, 3] rfl (ih _ _ _ hf)
          replace hf := ej_14
          refine z_if_eq C 79 dX0_check_72 (by decide) (fun c_16 => ?_) (fun c_16 => ?_)
          · replace hf := ifp_t c_16 hf
            refine z_iconst C 0 dX0_check_79 (by decide) ?_
            subst hf
            exact z_lv [1, 2, 3, 0] rfl hjj_14
          · replace hf := ifp_f c_16 hf
            refine z_iconst C 1 dX0_check_75 (by decide) ?_
            refine z_goto C 80 dX0_check_76 (by decide) ?_
            subst hf
            exact z_lv [1, 2, 3, 0] rfl hjj_14
        replace hf := ej_13
        refine z_icmp_ne C 68 dX0_check_61 (by decide) (fun c_17 => ?_) (fun c_17 => ?_)
        · replace hf := ifp_f c_17 hf
          refine z_iconst C 0 dX0_check_68 (by decide) ?_
          subst hf
          exact hjj_13
        · replace hf := ifp_t c_17 hf
          refine z_iconst C 1 dX0_check_64 (by decide) ?_
          refine z_goto C 69 dX0_check_65 (by decide) ?_
          subst hf
          exact hjj_13
set_option maxHeartbeats 4000000 in
set_option maxRecDepth 100000 in
theorem tX0_check (l : Launch) (w : ZW) {σ σ' : ZS} {r : Int32} (hf : fX0_check w σ = some (r, σ')) : zC l w zLx yX0_check (ws_ yX0_check cX0_check 4 (some .int)) 731 6156 [.ref (w.2.2 0)] σ (.returned (some (.int r))) σ' := by
  refine zC.of (plainFor_of_name (by decide)) (Nat.le_of_ble_eq_true rfl) ?_
  intro p e s m args below meth c C hnm
  show Z p l e _ s m args below meth c _ w _ _ 4 σ 0 [(0, .ref (w.2.2 0))] []
  unfold fX0_check at hf
  refine z_aload_n C 0 dX0_check_0 rfl rfl ?_
  refine z_getR C ly_x0 (Cn := RX0) (T := TX0) (N := 8) rfl in_X0 1 (by decide) q320 (Or.inl rfl) rfl dX0_check_1 ?_
  refine z_getIN C (ly_b0 zb100) (Cn := RX2) (T := TX2) (N := 20) rfl in_X2 18 (by decide) q250 (Or.inl rfl) rfl dX0_check_4 ?_
  obtain ⟨x1_1, ex1_1, hf⟩ := nmo_ hf
  refine z_top ex1_1 ?_
  refine z_istore_n C dX0_check_7 rfl (by decide) rfl (lv' := [(1, .int x1_1), (0, .ref (w.2.2 0))]) ?_
  refine z_aload_n C 1 dX0_check_8 rfl rfl ?_
  refine z_getR C ly_x0 (Cn := RX0) (T := TX0) (N := 8) rfl in_X0 1 (by decide) q320 (Or.inl rfl) rfl dX0_check_9 ?_
  refine z_iconst C 0 dX0_check_12 (by decide) ?_
  refine z_putI C (ly_b0 zb100) (k := 18) rfl (zPutN C (Cn := RX2) (T := TX2) (N := 20) rfl in_X2 tyX2 tyX2_ok nmX2 18 (by decide) q250 (Or.inl rfl) rfl rfl rfl (zFs_lt (Nat.le_of_ble_eq_true rfl)) dX0_check_13) ?_
  refine z_aload_n C 1 dX0_check_16 rfl rfl ?_
  refine z_getR C ly_x0 (Cn := RX0) (T := TX0) (N := 8) rfl in_X0 3 (by decide) q322 (Or.inl rfl) rfl dX0_check_17 ?_
  refine z_aload_n C 1 dX0_check_20 rfl rfl ?_
  refine z_getR C ly_x0 (Cn := RX0) (T := TX0) (N := 8) rfl in_X0 1 (by decide) q320 (Or.inl rfl) rfl dX0_check_21 ?_
  obtain ⟨⟨⟩, σ_4, e_3, hf⟩ := bd_ hf
  refine z_callr C (rest := []) (av := (.ref (w.2.2 300) :: [.ref (w.2.2 100)])) (zPay.of q972 q79) (fun H ls hH h2 => zInv_V C (As := [.ref (w.2.2 100)]) (rest := []) (ci := 2) (T := TX2) (N := 20) rfl (zSee.fix (ly_b0 zb300)) hH q969 q970 q971 (Or.inl rfl) q972 mh_X2 np_X2_become dX0_check_24) (tX2_become l w zb300 zb100 e_3) (Nat.le_of_ble_eq_true rfl) (Nat.le_of_ble_eq_true rfl) ?_
  refine z_pop C dX0_check_27 rfl ?_
  refine z_iconst C 0 dX0_check_28 (by decide) ?_
  refine z_istore_n C dX0_check_29 rfl (by decide) rfl (lv' := [(2, .int 0), (1, .int x1_1), (0, .ref (w.2.2 0))]) ?_
  refine z_iconst C 1 dX0_check_30 (by decide) ?_
  refine z_istore_n C dX0_check_31 rfl (by decide) rfl (lv' := [(3, .int 1), (2, .int 0), (1, .int x1_1), (0, .ref (w.2.2 0))]) ?_
  obtain ⟨⟨x2_18, x3_19⟩, σ_20, e_21, hf⟩ := bd_ hf
  try dsimp only at hf
  refine z_lv (lv' := [(0, .ref (w.2.2 0)), (1, .int x1_1), (2, .int 0), (3, .int 1)]) [3, 2, 1, 0] rfl ?_
  refine lfX0_check_L32 C (Nat.le_of_ble_eq_true rfl) (Nat.le_of_ble_eq_true rfl) x1_1 ?_ _ _ _ _ e_21
  refine z_iload_n C 3 dX0_check_85 rfl rfl ?_
  obtain ⟨j_22, ej_22, hf⟩ := nmo_ hf
  have hjj_22 : Z p l e (zRm 731 6156 σ) s m args below meth c (zQ below w zLx σ (.returned (some (.int r))) σ' args s) w zLx (zA w zLx σ) 4 σ_20 96 [(0, .ref (w.2.2 0)), (1, .int x1_1), (2, .int x2_18), (3, .int x3_19)] [.int j_22] := by
    obtain ⟨rfl, rfl⟩ := fin_ hf
    exact z_iret C rfl dX0_check_96
  replace hf := ej_22
  refine z_if_eq C 93 dX0_check_86 (by decide) (fun c_23 => ?_) (fun c_23 => ?_)
  · replace hf := ifp_t c_23 hf
    refine z_iconst C 1 dX0_check_93 (by decide) ?_
    refine z_iload_n C 2 dX0_check_94 rfl rfl ?_
    refine z_iadd C dX0_check_95 ?_
    subst hf
    exact hjj_22
  · replace hf := ifp_f c_23 hf
    refine z_iconst C 0 dX0_check_89 (by decide) ?_
    refine z_goto C 96 dX0_check_90 (by decide) ?_
    subst hf
    exact hjj_22
def fX0_setting_L41 (w : ZW) (y1 : Int32) (y2 : Int32) : Nat → Int32 → ZS → Option ((Int32) × ZS)
  | 0, _, _ => none
  | n + 1, y3, σ => if 99 < y3 then (some (y3, σ)) else (bd (fX0_areInBy w σ y1 y2 y3) (fun r_8 σ_10 => if r_8 = 0 then (nm (y3 + 1) (fun (x3_12 : Int32) => fX0_setting_L41 w y1 y2 n x3_12 σ_10)) else (some (y3, σ_10))))
def fX0_setting (w : ZW) (σ : ZS) (p1 : Int32) (p2 : Int32) : Option (Int32 × ZS) := nm (if (fX0_in p1 0 ((1 <<< ((σ.1 100 8) &&& 31)) - 1)) = 0 then 0 else (if (fX0_in p2 0 20) = 0 then 0 else 1)) (fun (j_1 : Int32) => bd (fX0_need σ j_1 1) (fun r_2 σ_4 => sc r_2 (fun _ => bd (fX0_setting_L41 w p1 p2 10000 0 σ_4) (fun x3_13 σ_14 => nm (if 99 < x3_13 then 0 else 1) (fun (j_16 : Int32) => bd (fX0_need σ_14 j_16 2) (fun r_17 σ_19 => sc r_17 (fun _ => some (x3_13, σ_19)) (fun _ => bd (fX0_finds σ_19) (fun r_22 σ_24 => some (r_22, σ_24))))))) (fun _ => bd (fX0_finds σ_4) (fun r_26 σ_28 => some (r_26, σ_28)))))
set_option maxHeartbeats 4000000 in
set_option maxRecDepth 100000 in
theorem lfX0_setting_L41 {p : Program} {l : Launch} {e : Env} {R : Room} {s : State} {m : MethodId} {args : Array Value} {below : List Frame} {meth : Method} {c : Code} {Q : State → Prop} {w : ZW} {A : Nat → Prop} {ret : Option FieldType} {hh : List (Nat × Nat × Nat × Nat)} (C : zCx p s m args meth c w zLx A 4 cX0_setting RX0 ret hh) (hfr : 732 ≤ R.frames) (hlo : 6170 ≤ R.locals) (y1 : Int32) (y2 : Int32) {z3 : Int32} {σ' : ZS} (hk : Z p l e R s m args below meth c Q w zLx A 4 σ' 63 [(0, .ref (w.2.2 0)), (1, .int y1), (2, .int y2), (3, .int z3)] []) : ∀ (n : Nat) (y3 : Int32) (σ : ZS), fX0_setting_L41 w y1 y2 n y3 σ = some (z3, σ') → Z p l e R s m args below meth c Q w zLx A 4 σ 41 [(0, .ref (w.2.2 0)), (1, .int y1), (2, .int y2), (3, .int y3)] [] := by
  intro n
  induction n with
  | zero => intro y3 σ hf; exact none_ hf
  | succ n ih =>
    intro y3 σ hf
    rw [fX0_setting_L41] at hf
    refine z_iload_n C 3 dX0_setting_41 rfl rfl ?_
    refine z_bipush C 99 dX0_setting_42 (by decide) ?_
    refine z_icmp_gt C 63 dX0_setting_44 (by decide) (fun c_7 => ?_) (fun c_7 => ?_)
    · replace hf := if_t c_7 hf
      obtain ⟨rfl, rfl⟩ := fin_ hf
      exact hk
    · replace hf := if_f c_7 hf
      refine z_aload_n C 0 dX0_setting_47 rfl rfl ?_
      refine z_iload_n C 1 dX0_setting_48 rfl rfl ?_
      refine z_iload_n C 2 dX0_setting_49 rfl rfl ?_
      refine z_iload_n C 3 dX0_setting_50 rfl rfl ?_
      obtain ⟨r_8, σ_10, e_9, hf⟩ := bd_ hf
      refine z_calli C (rest := []) (av := (.ref (w.2.2 0) :: [.int y1, .int y2, .int y3])) (zPay.of q996 q74) (fun H ls hH h2 => zInv_V C (As := [.int y1, .int y2, .int y3]) (rest := []) (ci := 0) (T := TX0) (N := 8) rfl (zSee.fix ly_x0) hH q993 q995 qs24 (Or.inl rfl) q996 mh_X0 np_X0_areInBy dX0_setting_51) (tX0_areInBy l w e_9) (Nat.le_trans (Nat.le_of_ble_eq_true rfl) hfr) (Nat.le_trans (Nat.le_of_ble_eq_true rfl) hlo) ?_
      refine z_if_ne C 63 dX0_setting_54 (by decide) (fun c_11 => ?_) (fun c_11 => ?_)
      · replace hf := if_f c_11 hf
        obtain ⟨rfl, rfl⟩ := fin_ hf
        exact hk
      · replace hf := if_t c_11 hf
        obtain ⟨x3_12, ex3_12, hf⟩ := nmo_ hf
        refine z_iinc C x3_12 3 dX0_setting_57 rfl (by rw [ex3_12]; rfl) (by decide) rfl (lv' := [(3, .int x3_12), (0, .ref (w.2.2 0)), (1, .int y1), (2, .int y2)]) ?_
        refine z_goto C 41 dX0_setting_60 (by decide) ?_
        exact z_lv [1, 2, 3, 0] rfl (ih _ _ hf)
set_option maxHeartbeats 4000000 in
set_option maxRecDepth 100000 in
theorem tX0_setting (l : Launch) (w : ZW) {σ σ' : ZS} {p1 : Int32} {p2 : Int32} {r : Int32} (hf : fX0_setting w σ p1 p2 = some (r, σ')) : zC l w zLx yX0_setting (wsW_ yX0_setting cX0_setting 4 (some .int) [(0, 80, 81, 8)]) 732 6170 [.ref (w.2.2 0), .int p1, .int p2] σ (.returned (some (.int r))) σ' := by
  refine zC.ofW (plainFor_of_name (by decide)) (Nat.le_of_ble_eq_true rfl) ?_
  intro p e s m args below meth c C hnm
  show Z p l e _ s m args below meth c _ w _ _ 4 σ 0 [(0, .ref (w.2.2 0)), (1, .int p1), (2, .int p2)] []
  unfold fX0_setting at hf
  refine z_aload_n C 0 dX0_setting_0 rfl rfl ?_
  refine z_iload_n C 1 dX0_setting_1 rfl rfl ?_
  refine z_iconst C 0 dX0_setting_2 (by decide) ?_
  refine z_iconst C 1 dX0_setting_3 (by decide) ?_
  refine z_aload_n C 0 dX0_setting_4 rfl rfl ?_
  refine z_getR C ly_x0 (Cn := RX0) (T := TX0) (N := 8) rfl in_X0 1 (by decide) q320 (Or.inl rfl) rfl dX0_setting_5 ?_
  refine z_getIN C (ly_b0 zb100) (Cn := RX2) (T := TX2) (N := 20) rfl in_X2 8 (by decide) q230 (Or.inl rfl) rfl dX0_setting_8 ?_
  refine z_ishl C dX0_setting_11 ?_
  refine z_iconst C 1 dX0_setting_12 (by decide) ?_
  refine z_isub C dX0_setting_13 ?_
  refine z_calli C (rest := [.ref (w.2.2 0)]) (av := [.int p1, .int 0, .int ((1 <<< ((σ.1 100 8) &&& 31)) - 1)]) (zPay.of q350 q74) (fun H ls hH h2 => zInv_S C (As := [.int p1, .int 0, .int ((1 <<< ((σ.1 100 8) &&& 31)) - 1)]) (rest := [.ref (w.2.2 0)]) q348 q349 q74 (Or.inl rfl) q350 mh_X0 np_X0_in dX0_setting_14) (tX0_in l w zLx σ p1 0 ((1 <<< ((σ.1 100 8) &&& 31)) - 1)) (Nat.le_of_ble_eq_true rfl) (Nat.le_of_ble_eq_true rfl) ?_
  obtain ⟨j_1, ej_1, hf⟩ := nmo_ hf
  have hj_1 : j_1 = 0 ∨ j_1 = 1 := by rw [ej_1]; (try dsimp only [nm]); (repeat' split) <;> first | exact Or.inl rfl | exact Or.inr rfl
  have hjj_1 : Z p l e (zRm 732 6170 σ) s m args below meth c (zQ below w zLx σ (.returned (some (.int r))) σ' args s) w zLx (zA w zLx σ) 4 σ 35 [(0, .ref (w.2.2 0)), (1, .int p1), (2, .int p2)] [.int j_1, .ref (w.2.2 0)] := by
    refine z_iconst C 1 dX0_setting_35 (by decide) ?_
    obtain ⟨r_2, σ_4, e_3, hf⟩ := bd_ hf
    rcases r_2 with ⟨⟩ | ⟨⟩
    · dsimp only [sc] at hf
      refine z_callv C (rest := []) (av := (.ref (w.2.2 0) :: [.int j_1, .int 1])) (zPay.of q354 q74) (fun H ls hH h2 => zInv_V C (As := [.int j_1, .int 1]) (rest := []) (ci := 0) (T := TX0) (N := 8) rfl (zSee.fix ly_x0) hH q351 q353 qs1 (Or.inl rfl) q354 mh_X0 np_X0_need dX0_setting_36) (tX0_need l w e_3) (Nat.le_of_ble_eq_true rfl) (Nat.le_of_ble_eq_true rfl) ?_
      refine z_iconst C 0 dX0_setting_39 (by decide) ?_
      refine z_istore_n C dX0_setting_40 rfl (by decide) rfl (lv' := [(3, .int 0), (0, .ref (w.2.2 0)), (1, .int p1), (2, .int p2)]) ?_
      obtain ⟨x3_13, σ_14, e_15, hf⟩ := bd_ hf
      refine z_lv (lv' := [(0, .ref (w.2.2 0)), (1, .int p1), (2, .int p2), (3, .int 0)]) [1, 2, 3, 0] rfl ?_
      refine lfX0_setting_L41 C (Nat.le_of_ble_eq_true rfl) (Nat.le_of_ble_eq_true rfl) p1 p2 ?_ _ _ _ e_15
      refine z_aload_n C 0 dX0_setting_63 rfl rfl ?_
      refine z_iload_n C 3 dX0_setting_64 rfl rfl ?_
      refine z_bipush C 99 dX0_setting_65 (by decide) ?_
      obtain ⟨j_16, ej_16, hf⟩ := nmo_ hf
      have hj_16 : j_16 = 0 ∨ j_16 = 1 := by rw [ej_16]; (try dsimp only [nm]); (repeat' split) <;> first | exact Or.inl rfl | exact Or.inr rfl
      have hjj_16 : Z p l e (zRm 732 6170 σ) s m args below meth c (zQ below w zLx σ (.returned (some (.int r))) σ' args s) w zLx (zA w zLx σ) 4 σ_14 75 [(0, .ref (w.2.2 0)), (1, .int p1), (2, .int p2), (3, .int x3_13)] [.int j_16, .ref (w.2.2 0)] := by
        refine z_iconst C 2 dX0_setting_75 (by decide) ?_
        obtain ⟨r_17, σ_19, e_18, hf⟩ := bd_ hf
        rcases r_17 with ⟨⟩ | ⟨⟩
        · dsimp only [sc] at hf
          refine z_callv C (rest := []) (av := (.ref (w.2.2 0) :: [.int j_16, .int 2])) (zPay.of q354 q74) (fun H ls hH h2 => zInv_V C (As := [.int j_16, .int 2]) (rest := []) (ci := 0) (T := TX0) (N := 8) rfl (zSee.fix ly_x0) hH q351 q353 qs1 (Or.inl rfl) q354 mh_X0 np_X0_need dX0_setting_76) (tX0_need l w e_18) (Nat.le_of_ble_eq_true rfl) (Nat.le_of_ble_eq_true rfl) ?_
          refine z_iload_n C 3 dX0_setting_79 rfl rfl ?_
          obtain ⟨rfl, rfl⟩ := fin_ hf
          exact z_iret C rfl dX0_setting_80
        · dsimp only [sc] at hf
          refine z_callt C (rest := []) (av := (.ref (w.2.2 0) :: [.int j_16, .int 2])) (zPay.of q354 q74) (fun H ls hH h2 => zInv_V C (As := [.int j_16, .int 2]) (rest := []) (ci := 0) (T := TX0) (N := 8) rfl (zSee.fix ly_x0) hH q351 q353 qs1 (Or.inl rfl) q354 mh_X0 np_X0_need dX0_setting_76) (tX0_need l w e_18) (Nat.le_of_ble_eq_true rfl) (Nat.le_of_ble_eq_true rfl) ?_
          refine z_catch C [] 0 80 81 8 [] rfl (by decide) (by decide) (by decide) (ci := 1) (Cn := RX1) (T0 := TX1) (N := 7) rfl (zSee.fix ly_x1) q118 ?_
          refine z_astore_n C dX0_setting_81 rfl (by decide) rfl (lv' := [(3, .ref (w.2.2 1)), (0, .ref (w.2.2 0)), (1, .int p1), (2, .int p2)]) ?_
          refine z_aload_n C 1 dX0_setting_82 rfl rfl ?_
          refine z_aload_n C 0 dX0_setting_83 rfl rfl ?_
          obtain ⟨r_22, σ_24, e_23, hf⟩ := bd_ hf
          refine z_calli C (rest := []) (av := (.ref (w.2.2 0) :: [.ref (w.2.2 1)])) (zPay.of q362 q74) (fun H ls hH h2 => zInv_V C (As := [.ref (w.2.2 1)]) (rest := []) (ci := 0) (T := TX0) (N := 8) rfl (zSee.fix ly_x0) hH q359 q361 qs2 (Or.inl rfl) q362 mh_X0 np_X0_finds dX0_setting_84) (tX0_finds l w e_23) (Nat.le_of_ble_eq_true rfl) (Nat.le_of_ble_eq_true rfl) ?_
          obtain ⟨rfl, rfl⟩ := fin_ hf
          exact z_iret C rfl dX0_setting_87
      replace hf := ej_16
      refine z_icmp_gt C 74 dX0_setting_67 (by decide) (fun c_25 => ?_) (fun c_25 => ?_)
      · replace hf := ifp_t c_25 hf
        refine z_iconst C 0 dX0_setting_74 (by decide) ?_
        subst hf
        exact hjj_16
      · replace hf := ifp_f c_25 hf
        refine z_iconst C 1 dX0_setting_70 (by decide) ?_
        refine z_goto C 75 dX0_setting_71 (by decide) ?_
        subst hf
        exact hjj_16
    · dsimp only [sc] at hf
      refine z_callt C (rest := []) (av := (.ref (w.2.2 0) :: [.int j_1, .int 1])) (zPay.of q354 q74) (fun H ls hH h2 => zInv_V C (As := [.int j_1, .int 1]) (rest := []) (ci := 0) (T := TX0) (N := 8) rfl (zSee.fix ly_x0) hH q351 q353 qs1 (Or.inl rfl) q354 mh_X0 np_X0_need dX0_setting_36) (tX0_need l w e_3) (Nat.le_of_ble_eq_true rfl) (Nat.le_of_ble_eq_true rfl) ?_
      refine z_catch C [] 0 80 81 8 [] rfl (by decide) (by decide) (by decide) (ci := 1) (Cn := RX1) (T0 := TX1) (N := 7) rfl (zSee.fix ly_x1) q118 ?_
      refine z_astore_n C dX0_setting_81 rfl (by decide) rfl (lv' := [(3, .ref (w.2.2 1)), (0, .ref (w.2.2 0)), (1, .int p1), (2, .int p2)]) ?_
      refine z_aload_n C 1 dX0_setting_82 rfl rfl ?_
      refine z_aload_n C 0 dX0_setting_83 rfl rfl ?_
      obtain ⟨r_26, σ_28, e_27, hf⟩ := bd_ hf
      refine z_calli C (rest := []) (av := (.ref (w.2.2 0) :: [.ref (w.2.2 1)])) (zPay.of q362 q74) (fun H ls hH h2 => zInv_V C (As := [.ref (w.2.2 1)]) (rest := []) (ci := 0) (T := TX0) (N := 8) rfl (zSee.fix ly_x0) hH q359 q361 qs2 (Or.inl rfl) q362 mh_X0 np_X0_finds dX0_setting_84) (tX0_finds l w e_27) (Nat.le_of_ble_eq_true rfl) (Nat.le_of_ble_eq_true rfl) ?_
      obtain ⟨rfl, rfl⟩ := fin_ hf
      exact z_iret C rfl dX0_setting_87
  replace hf := ej_1
  refine z_if_eq C 34 dX0_setting_17 (by decide) (fun c_29 => ?_) (fun c_29 => ?_)
  · replace hf := ifp_t c_29 hf
    refine z_iconst C 0 dX0_setting_34 (by decide) ?_
    subst hf
    exact hjj_1
  · replace hf := ifp_f c_29 hf
    refine z_iload_n C 2 dX0_setting_20 rfl rfl ?_
    refine z_iconst C 0 dX0_setting_21 (by decide) ?_
    refine z_bipush C 20 dX0_setting_22 (by decide) ?_
    refine z_calli C (rest := [.ref (w.2.2 0)]) (av := [.int p2, .int 0, .int 20]) (zPay.of q350 q74) (fun H ls hH h2 => zInv_S C (As := [.int p2, .int 0, .int 20]) (rest := [.ref (w.2.2 0)]) q348 q349 q74 (Or.inl rfl) q350 mh_X0 np_X0_in dX0_setting_24) (tX0_in l w zLx σ p2 0 20) (Nat.le_of_ble_eq_true rfl) (Nat.le_of_ble_eq_true rfl) ?_
    refine z_if_eq C 34 dX0_setting_27 (by decide) (fun c_30 => ?_) (fun c_30 => ?_)
    · replace hf := ifp_t c_30 hf
      refine z_iconst C 0 dX0_setting_34 (by decide) ?_
      subst hf
      exact hjj_1
    · replace hf := ifp_f c_30 hf
      refine z_iconst C 1 dX0_setting_30 (by decide) ?_
      refine z_goto C 35 dX0_setting_31 (by decide) ?_
      subst hf
      exact hjj_1
def fX0_dark_L16 (w : ZW) (y1 : Int32) : Nat → Int32 → Int32 → ZS → Option ((Int32 × Int32) × ZS)
  | 0, _, _, _ => none
  | n + 1, y2, y3, σ => if (σ.1 100 6) < y3 then (some ((y2, y3), σ)) else (nm (if y2 = (-1) then 1 else (if (fJ9_bitCount y2) ≤ (fJ9_bitCount y3) then 0 else 1)) (fun (j_7 : Int32) => bd (if (y3 &&& ((σ.1 100 6) ^^^ (-1))) = 0 then (if j_7 = 0 then (some (y2, σ)) else (bd (fX0_isSafeWithout w σ y3 y1) (fun r_14 σ_16 => if r_14 = 0 then (some (y2, σ_16)) else (some (y3, σ_16))))) else (some (y2, σ))) (fun (j_8 : Int32) σ_9 => nm (y3 + 1) (fun (x3_11 : Int32) => fX0_dark_L16 w y1 n j_8 x3_11 σ_9))))
def fX0_dark (w : ZW) (σ : ZS) (p1 : Int32) : Option (Int32 × ZS) := bd (fX0_need σ (fX0_in p1 0 20) 1) (fun r_1 σ_3 => sc r_1 (fun _ => bd (fX0_dark_L16 w p1 10000 (-1) 0 σ_3) (fun uu22 σ_22 => nm (if (uu22.1) = (-1) then 0 else 1) (fun (j_24 : Int32) => bd (fX0_need σ_22 j_24 2) (fun r_25 σ_27 => sc r_25 (fun _ => some ((uu22.1), σ_27)) (fun _ => bd (fX0_finds σ_27) (fun r_30 σ_32 => some (r_30, σ_32))))))) (fun _ => bd (fX0_finds σ_3) (fun r_34 σ_36 => some (r_34, σ_36))))
set_option maxHeartbeats 4000000 in
set_option maxRecDepth 100000 in
theorem lfX0_dark_L16 {p : Program} {l : Launch} {e : Env} {R : Room} {s : State} {m : MethodId} {args : Array Value} {below : List Frame} {meth : Method} {c : Code} {Q : State → Prop} {w : ZW} {A : Nat → Prop} {ret : Option FieldType} {hh : List (Nat × Nat × Nat × Nat)} (C : zCx p s m args meth c w zLx A 5 cX0_dark RX0 ret hh) (hfr : 732 ≤ R.frames) (hlo : 6169 ≤ R.locals) (y1 : Int32) {z2 : Int32} {z3 : Int32} {σ' : ZS} (hk : Z p l e R s m args below meth c Q w zLx A 5 σ' 90 [(0, .ref (w.2.2 0)), (1, .int y1), (2, .int z2), (3, .int z3)] []) : ∀ (n : Nat) (y2 : Int32) (y3 : Int32) (σ : ZS), fX0_dark_L16 w y1 n y2 y3 σ = some ((z2, z3), σ') → Z p l e R s m args below meth c Q w zLx A 5 σ 16 [(0, .ref (w.2.2 0)), (1, .int y1), (2, .int y2), (3, .int y3)] [] := by
  intro n
  induction n with
  | zero => intro y2 y3 σ hf; exact none_ hf
  | succ n ih =>
    intro y2 y3 σ hf
    rw [fX0_dark_L16] at hf
    refine z_iload_n C 3 dX0_dark_16 rfl rfl ?_
    refine z_aload_n C 0 dX0_dark_17 rfl rfl ?_
    refine z_getR C ly_x0 (Cn := RX0) (T := TX0) (N := 8) rfl in_X0 1 (by decide) q320 (Or.inl rfl) rfl dX0_dark_18 ?_
    refine z_getIN C (ly_b0 zb100) (Cn := RX2) (T := TX2) (N := 20) rfl in_X2 6 (by decide) q226 (Or.inl rfl) rfl dX0_dark_21 ?_
    refine z_icmp_gt C 90 dX0_dark_24 (by decide) (fun c_6 => ?_) (fun c_6 => ?_)
    · replace hf := if_t c_6 hf
      obtain ⟨hf1, rfl⟩ := fin_ hf
      simp only [Prod.mk.injEq] at hf1
      obtain ⟨rfl, rfl⟩ := hf1
      exact hk
    · replace hf := if_f c_6 hf
      refine z_iload_n C 2 dX0_dark_27 rfl rfl ?_
      refine z_iconst C (-1) dX0_dark_28 (by decide) ?_
      obtain ⟨j_7, ej_7, hf⟩ := nmo_ hf
      have hj_7 : j_7 = 0 ∨ j_7 = 1 := by rw [ej_7]; (try dsimp only [nm]); (repeat' split) <;> first | exact Or.inl rfl | exact Or.inr rfl
      have hjj_7 : Z p l e R s m args below meth c Q w zLx A 5 σ 48 [(0, .ref (w.2.2 0)), (1, .int y1), (2, .int y2), (3, .int y3)] [.int j_7] := by
        refine z_istore C dX0_dark_48 (by decide) rfl (lv' := [(4, .int j_7), (0, .ref (w.2.2 0)), (1, .int y1), (2, .int y2), (3, .int y3)]) ?_
        refine z_iload_n C 4 dX0_dark_50 rfl rfl ?_
        refine z_aload_n C 1 dX0_dark_51 rfl rfl ?_
        refine z_getR C ly_x0 (Cn := RX0) (T := TX0) (N := 8) rfl in_X0 1 (by decide) q320 (Or.inl rfl) rfl dX0_dark_52 ?_
        refine z_getIN C (ly_b0 zb100) (Cn := RX2) (T := TX2) (N := 20) rfl in_X2 6 (by decide) q226 (Or.inl rfl) rfl dX0_dark_55 ?_
        refine z_iconst C (-1) dX0_dark_58 (by decide) ?_
        refine z_ixor C dX0_dark_59 ?_
        refine z_iand C dX0_dark_60 ?_
        obtain ⟨j_8, σ_9, e_10, hf⟩ := bd_ hf
        have hje_10 : Z p l e R s m args below meth c Q w zLx A 5 σ_9 83 [(0, .ref (w.2.2 0)), (1, .int y1), (2, .int y2), (3, .int y3), (4, .int j_7)] [.int j_8] := by
          refine z_istore_n C dX0_dark_83 rfl (by decide) rfl (lv' := [(2, .int j_8), (0, .ref (w.2.2 0)), (1, .int y1), (3, .int y3), (4, .int j_7)]) ?_
          obtain ⟨x3_11, ex3_11, hf⟩ := nmo_ hf
          refine z_iinc C x3_11 3 dX0_dark_84 rfl (by rw [ex3_11]; rfl) (by decide) rfl (lv' := [(3, .int x3_11), (2, .int j_8), (0, .ref (w.2.2 0)), (1, .int y1), (4, .int j_7)]) ?_
          refine z_goto C 16 dX0_dark_87 (by decide) ?_
          exact z_lv [2, 3, 1, 0] rfl (ih _ _ _ hf)
        replace hf := e_10
        refine z_if_ne C 82 dX0_dark_61 (by decide) (fun c_12 => ?_) (fun c_12 => ?_)
        · replace hf := if_f c_12 hf
          refine z_iload_n C 3 dX0_dark_82 rfl rfl ?_
          obtain ⟨rfl, rfl⟩ := fin_ hf
          exact z_lv [1, 2, 3, 4, 0] rfl hje_10
        · replace hf := if_t c_12 hf
          refine z_iload C 0 dX0_dark_64 rfl ?_
          refine z_if_eq C 82 dX0_dark_66 (by decide) (fun c_13 => ?_) (fun c_13 => ?_)
          · replace hf := if_t c_13 hf
            refine z_iload_n C 3 dX0_dark_82 rfl rfl ?_
            obtain ⟨rfl, rfl⟩ := fin_ hf
            exact z_lv [1, 2, 3, 4, 0] rfl hje_10
          · replace hf := if_f c_13 hf
            refine z_aload_n C 1 dX0_dark_69 rfl rfl ?_
            refine z_iload_n C 4 dX0_dark_70 rfl rfl ?_
            refine z_iload_n C 2 dX0_dark_71 rfl rfl ?_
            obtain ⟨r_14, σ_16, e_15, hf⟩ := bd_ hf
            refine z_calli C (rest := []) (av := (.ref (w.2.2 0) :: [.int y3, .int y1])) (zPay.of q1059 q74) (fun H ls hH h2 => zInv_V C (As := [.int y3, .int y1]) (rest := []) (ci := 0) (T := TX0) (N := 8) rfl (zSee.fix ly_x0) hH q1056 q1058 qs27 (Or.inl rfl) q1059 mh_X0 np_X0_isSafeWithout dX0_dark_72) (tX0_isSafeWithout l w e_15) (Nat.le_trans (Nat.le_of_ble_eq_true rfl) hfr) (Nat.le_trans (Nat.le_of_ble_eq_true rfl) hlo) ?_
            refine z_if_eq C 82 dX0_dark_75 (by decide) (fun c_17 => ?_) (fun c_17 => ?_)
            · replace hf := if_t c_17 hf
              refine z_iload_n C 3 dX0_dark_82 rfl rfl ?_
              obtain ⟨rfl, rfl⟩ := fin_ hf
              exact z_lv [1, 2, 3, 4, 0] rfl hje_10
            · replace hf := if_f c_17 hf
              refine z_iload_n C 4 dX0_dark_78 rfl rfl ?_
              refine z_goto C 83 dX0_dark_79 (by decide) ?_
              obtain ⟨rfl, rfl⟩ := fin_ hf
              exact z_lv [1, 2, 3, 4, 0] rfl hje_10
      replace hf := ej_7
      refine z_icmp_eq C 43 dX0_dark_29 (by decide) (fun c_18 => ?_) (fun c_18 => ?_)
      · replace hf := ifp_t c_18 hf
        refine z_iconst C 1 dX0_dark_43 (by decide) ?_
        refine z_goto C 48 dX0_dark_44 (by decide) ?_
        subst hf
        exact hjj_7
      · replace hf := ifp_f c_18 hf
        refine z_iload_n C 3 dX0_dark_32 rfl rfl ?_
        refine z_calli C (rest := []) (av := [.int y3]) (zPay.of q1052 q105) (fun H ls hH h2 => zInv_S C (As := [.int y3]) (rest := []) q1050 q1051 q105 (Or.inl rfl) q1052 mh_J9 np_J9_bitCount dX0_dark_33) (tJ9_bitCount l w zLx σ y3) (Nat.le_trans (Nat.le_of_ble_eq_true rfl) hfr) (Nat.le_trans (Nat.le_of_ble_eq_true rfl) hlo) ?_
        refine z_iload_n C 2 dX0_dark_36 rfl rfl ?_
        refine z_calli C (rest := [.int (fJ9_bitCount y3)]) (av := [.int y2]) (zPay.of q1052 q105) (fun H ls hH h2 => zInv_S C (As := [.int y2]) (rest := [.int (fJ9_bitCount y3)]) q1050 q1051 q105 (Or.inl rfl) q1052 mh_J9 np_J9_bitCount dX0_dark_37) (tJ9_bitCount l w zLx σ y2) (Nat.le_trans (Nat.le_of_ble_eq_true rfl) hfr) (Nat.le_trans (Nat.le_of_ble_eq_true rfl) hlo) ?_
        refine z_icmp_ge C 47 dX0_dark_40 (by decide) (fun c_19 => ?_) (fun c_19 => ?_)
        · replace hf := ifp_t c_19 hf
          refine z_iconst C 0 dX0_dark_47 (by decide) ?_
          subst hf
          exact hjj_7
        · replace hf := ifp_f c_19 hf
          refine z_iconst C 1 dX0_dark_43 (by decide) ?_
          refine z_goto C 48 dX0_dark_44 (by decide) ?_
          subst hf
          exact hjj_7
set_option maxHeartbeats 4000000 in
set_option maxRecDepth 100000 in
theorem tX0_dark (l : Launch) (w : ZW) {σ σ' : ZS} {p1 : Int32} {r : Int32} (hf : fX0_dark w σ p1 = some (r, σ')) : zC l w zLx yX0_dark (wsW_ yX0_dark cX0_dark 5 (some .int) [(0, 106, 107, 8)]) 732 6169 [.ref (w.2.2 0), .int p1] σ (.returned (some (.int r))) σ' := by
  refine zC.ofW (plainFor_of_name (by decide)) (Nat.le_of_ble_eq_true rfl) ?_
  intro p e s m args below meth c C hnm
  show Z p l e _ s m args below meth c _ w _ _ 5 σ 0 [(0, .ref (w.2.2 0)), (1, .int p1)] []
  unfold fX0_dark at hf
  refine z_aload_n C 0 dX0_dark_0 rfl rfl ?_
  refine z_iload_n C 1 dX0_dark_1 rfl rfl ?_
  refine z_iconst C 0 dX0_dark_2 (by decide) ?_
  refine z_bipush C 20 dX0_dark_3 (by decide) ?_
  refine z_calli C (rest := [.ref (w.2.2 0)]) (av := [.int p1, .int 0, .int 20]) (zPay.of q350 q74) (fun H ls hH h2 => zInv_S C (As := [.int p1, .int 0, .int 20]) (rest := [.ref (w.2.2 0)]) q348 q349 q74 (Or.inl rfl) q350 mh_X0 np_X0_in dX0_dark_5) (tX0_in l w zLx σ p1 0 20) (Nat.le_of_ble_eq_true rfl) (Nat.le_of_ble_eq_true rfl) ?_
  refine z_iconst C 1 dX0_dark_8 (by decide) ?_
  obtain ⟨r_1, σ_3, e_2, hf⟩ := bd_ hf
  rcases r_1 with ⟨⟩ | ⟨⟩
  · dsimp only [sc] at hf
    refine z_callv C (rest := []) (av := (.ref (w.2.2 0) :: [.int (fX0_in p1 0 20), .int 1])) (zPay.of q354 q74) (fun H ls hH h2 => zInv_V C (As := [.int (fX0_in p1 0 20), .int 1]) (rest := []) (ci := 0) (T := TX0) (N := 8) rfl (zSee.fix ly_x0) hH q351 q353 qs1 (Or.inl rfl) q354 mh_X0 np_X0_need dX0_dark_9) (tX0_need l w e_2) (Nat.le_of_ble_eq_true rfl) (Nat.le_of_ble_eq_true rfl) ?_
    refine z_iconst C (-1) dX0_dark_12 (by decide) ?_
    refine z_istore_n C dX0_dark_13 rfl (by decide) rfl (lv' := [(2, .int (-1)), (0, .ref (w.2.2 0)), (1, .int p1)]) ?_
    refine z_iconst C 0 dX0_dark_14 (by decide) ?_
    refine z_istore_n C dX0_dark_15 rfl (by decide) rfl (lv' := [(3, .int 0), (2, .int (-1)), (0, .ref (w.2.2 0)), (1, .int p1)]) ?_
    obtain ⟨⟨x2_20, x3_21⟩, σ_22, e_23, hf⟩ := bd_ hf
    try dsimp only at hf
    refine z_lv (lv' := [(0, .ref (w.2.2 0)), (1, .int p1), (2, .int (-1)), (3, .int 0)]) [2, 3, 1, 0] rfl ?_
    refine lfX0_dark_L16 C (Nat.le_of_ble_eq_true rfl) (Nat.le_of_ble_eq_true rfl) p1 ?_ _ _ _ _ e_23
    refine z_aload_n C 0 dX0_dark_90 rfl rfl ?_
    refine z_iload_n C 2 dX0_dark_91 rfl rfl ?_
    refine z_iconst C (-1) dX0_dark_92 (by decide) ?_
    obtain ⟨j_24, ej_24, hf⟩ := nmo_ hf
    have hj_24 : j_24 = 0 ∨ j_24 = 1 := by rw [ej_24]; (try dsimp only [nm]); (repeat' split) <;> first | exact Or.inl rfl | exact Or.inr rfl
    have hjj_24 : Z p l e (zRm 732 6169 σ) s m args below meth c (zQ below w zLx σ (.returned (some (.int r))) σ' args s) w zLx (zA w zLx σ) 5 σ_22 101 [(0, .ref (w.2.2 0)), (1, .int p1), (2, .int x2_20), (3, .int x3_21)] [.int j_24, .ref (w.2.2 0)] := by
      refine z_iconst C 2 dX0_dark_101 (by decide) ?_
      obtain ⟨r_25, σ_27, e_26, hf⟩ := bd_ hf
      rcases r_25 with ⟨⟩ | ⟨⟩
      · dsimp only [sc] at hf
        refine z_callv C (rest := []) (av := (.ref (w.2.2 0) :: [.int j_24, .int 2])) (zPay.of q354 q74) (fun H ls hH h2 => zInv_V C (As := [.int j_24, .int 2]) (rest := []) (ci := 0) (T := TX0) (N := 8) rfl (zSee.fix ly_x0) hH q351 q353 qs1 (Or.inl rfl) q354 mh_X0 np_X0_need dX0_dark_102) (tX0_need l w e_26) (Nat.le_of_ble_eq_true rfl) (Nat.le_of_ble_eq_true rfl) ?_
        refine z_iload_n C 2 dX0_dark_105 rfl rfl ?_
        obtain ⟨rfl, rfl⟩ := fin_ hf
        exact z_iret C rfl dX0_dark_106
      · dsimp only [sc] at hf
        refine z_callt C (rest := []) (av := (.ref (w.2.2 0) :: [.int j_24, .int 2])) (zPay.of q354 q74) (fun H ls hH h2 => zInv_V C (As := [.int j_24, .int 2]) (rest := []) (ci := 0) (T := TX0) (N := 8) rfl (zSee.fix ly_x0) hH q351 q353 qs1 (Or.inl rfl) q354 mh_X0 np_X0_need dX0_dark_102) (tX0_need l w e_26) (Nat.le_of_ble_eq_true rfl) (Nat.le_of_ble_eq_true rfl) ?_
        refine z_catch C [] 0 106 107 8 [] rfl (by decide) (by decide) (by decide) (ci := 1) (Cn := RX1) (T0 := TX1) (N := 7) rfl (zSee.fix ly_x1) q118 ?_
        refine z_astore_n C dX0_dark_107 rfl (by decide) rfl (lv' := [(2, .ref (w.2.2 1)), (0, .ref (w.2.2 0)), (1, .int p1), (3, .int x3_21)]) ?_
        refine z_aload_n C 1 dX0_dark_108 rfl rfl ?_
        refine z_aload_n C 0 dX0_dark_109 rfl rfl ?_
        obtain ⟨r_30, σ_32, e_31, hf⟩ := bd_ hf
        refine z_calli C (rest := []) (av := (.ref (w.2.2 0) :: [.ref (w.2.2 1)])) (zPay.of q362 q74) (fun H ls hH h2 => zInv_V C (As := [.ref (w.2.2 1)]) (rest := []) (ci := 0) (T := TX0) (N := 8) rfl (zSee.fix ly_x0) hH q359 q361 qs2 (Or.inl rfl) q362 mh_X0 np_X0_finds dX0_dark_110) (tX0_finds l w e_31) (Nat.le_of_ble_eq_true rfl) (Nat.le_of_ble_eq_true rfl) ?_
        obtain ⟨rfl, rfl⟩ := fin_ hf
        exact z_iret C rfl dX0_dark_113
    replace hf := ej_24
    refine z_icmp_eq C 100 dX0_dark_93 (by decide) (fun c_33 => ?_) (fun c_33 => ?_)
    · replace hf := ifp_t c_33 hf
      refine z_iconst C 0 dX0_dark_100 (by decide) ?_
      subst hf
      exact hjj_24
    · replace hf := ifp_f c_33 hf
      refine z_iconst C 1 dX0_dark_96 (by decide) ?_
      refine z_goto C 101 dX0_dark_97 (by decide) ?_
      subst hf
      exact hjj_24
  · dsimp only [sc] at hf
    refine z_callt C (rest := []) (av := (.ref (w.2.2 0) :: [.int (fX0_in p1 0 20), .int 1])) (zPay.of q354 q74) (fun H ls hH h2 => zInv_V C (As := [.int (fX0_in p1 0 20), .int 1]) (rest := []) (ci := 0) (T := TX0) (N := 8) rfl (zSee.fix ly_x0) hH q351 q353 qs1 (Or.inl rfl) q354 mh_X0 np_X0_need dX0_dark_9) (tX0_need l w e_2) (Nat.le_of_ble_eq_true rfl) (Nat.le_of_ble_eq_true rfl) ?_
    refine z_catch C [] 0 106 107 8 [] rfl (by decide) (by decide) (by decide) (ci := 1) (Cn := RX1) (T0 := TX1) (N := 7) rfl (zSee.fix ly_x1) q118 ?_
    refine z_astore_n C dX0_dark_107 rfl (by decide) rfl (lv' := [(2, .ref (w.2.2 1)), (0, .ref (w.2.2 0)), (1, .int p1)]) ?_
    refine z_aload_n C 1 dX0_dark_108 rfl rfl ?_
    refine z_aload_n C 0 dX0_dark_109 rfl rfl ?_
    obtain ⟨r_34, σ_36, e_35, hf⟩ := bd_ hf
    refine z_calli C (rest := []) (av := (.ref (w.2.2 0) :: [.ref (w.2.2 1)])) (zPay.of q362 q74) (fun H ls hH h2 => zInv_V C (As := [.ref (w.2.2 1)]) (rest := []) (ci := 0) (T := TX0) (N := 8) rfl (zSee.fix ly_x0) hH q359 q361 qs2 (Or.inl rfl) q362 mh_X0 np_X0_finds dX0_dark_110) (tX0_finds l w e_35) (Nat.le_of_ble_eq_true rfl) (Nat.le_of_ble_eq_true rfl) ?_
    obtain ⟨rfl, rfl⟩ := fin_ hf
    exact z_iret C rfl dX0_dark_113
