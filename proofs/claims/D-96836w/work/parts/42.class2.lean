/-! the class, walked (written by gen/main_x.py) -/
def fX0_sheetAt (σ : ZS) (p1 : Int32) : Option ((Nat ⊕ Unit) × ZS) := gd (¬ (p1 < 0 ∨ 4 ≤ p1.toNatClampNeg)) (bo (σ.2.1 7 (p1.toNatClampNeg)) (fun (a_2 : Nat) => bo (oShelf (σ.2.2.1 a_2)) (fun (o_4 : Option Nat) => bo (mo (o_4) (some 0) (fun (a_27 : Nat) => some 1)) (fun (j_7 : Int32) => bd (fX0_need σ j_7 2) (fun r_10 σ_12 => sc r_10 (fun _ => bo (σ_12.2.1 7 (p1.toNatClampNeg)) (fun (a_15 : Nat) => bo (oShelf (σ_12.2.2.1 a_15)) (fun (o_17 : Option Nat) => bo o_17 (fun (a_20 : Nat) => bo (oSheet (σ_12.2.2.1 a_20)) (fun sh22 => some (.inl a_20, σ_12)))))) (fun _ => some (.inr (), σ_12)))))))
set_option maxHeartbeats 4000000 in
set_option maxRecDepth 100000 in
theorem tX0_sheetAt (l : Launch) (w : ZW) {σ σ' : ZS} {p1 : Int32} {r : Nat ⊕ Unit} (hf : fX0_sheetAt σ p1 = some (r, σ')) : zC l w zLx yX0_sheetAt (ws_ yX0_sheetAt cX0_sheetAt 2 (some (.object "OldLight$Sheet"))) 2 27 [.ref (w.2.2 0), .int p1] σ (ocA w r) σ' := by
  refine zC.of (plainFor_of_name (by decide)) (Nat.le_of_ble_eq_true rfl) ?_
  intro p e s m args below meth c C hnm
  show Z p l e _ s m args below meth c _ w _ _ 2 σ 0 [(0, .ref (w.2.2 0)), (1, .int p1)] []
  unfold fX0_sheetAt at hf
  refine z_aload_n C 0 dX0_sheetAt_0 rfl rfl ?_
  refine z_aload_n C 0 dX0_sheetAt_1 rfl rfl ?_
  refine z_getR C ly_x0 (Cn := RX0) (T := TX0) (N := 8) rfl in_X0 7 (by decide) q326 (Or.inl rfl) rfl dX0_sheetAt_2 ?_
  refine z_iload_n C 1 dX0_sheetAt_5 rfl rfl ?_
  obtain ⟨g_1, hf⟩ := gd_ hf
  refine z_aaloadF C ly_x7 rfl g_1 dX0_sheetAt_6 ?_
  obtain ⟨a_2, e_3, hf⟩ := bo_ hf
  refine z_eq (rf_s e_3) ?_
  obtain ⟨o_4, e_5, hf⟩ := bo_ hf
  have hP_6 := oShelf_ e_5
  refine z_getHeld C hP_6 q315 dX0_sheetAt_7 ?_
  obtain ⟨j_7, e_9, hf⟩ := bo_ hf
  have hje_9 : Z p l e (zRm 2 27 σ) s m args below meth c (zQ below w zLx σ (ocA w r) σ' args s) w zLx (zA w zLx σ) 2 σ 18 [(0, .ref (w.2.2 0)), (1, .int p1)] [.int j_7, .ref (w.2.2 0)] := by
    refine z_iconst C 2 dX0_sheetAt_18 (by decide) ?_
    obtain ⟨r_10, σ_12, e_11, hf⟩ := bd_ hf
    rcases r_10 with ⟨⟩ | ⟨⟩
    · dsimp only [sc] at hf
      refine z_callv C (rest := []) (av := (.ref (w.2.2 0) :: [.int j_7, .int 2])) (zPay.of q354 q74) (fun H ls hH h2 => zInv_V C (As := [.int j_7, .int 2]) (rest := []) (ci := 0) (T := TX0) (N := 8) rfl (zSee.fix ly_x0) hH q351 q353 qs1 (Or.inl rfl) q354 mh_X0 np_X0_need dX0_sheetAt_19) (tX0_need l w e_11) (Nat.le_of_ble_eq_true rfl) (Nat.le_of_ble_eq_true rfl) ?_
      refine z_aload_n C 0 dX0_sheetAt_22 rfl rfl ?_
      refine z_getR C ly_x0 (Cn := RX0) (T := TX0) (N := 8) rfl in_X0 7 (by decide) q326 (Or.inl rfl) rfl dX0_sheetAt_23 ?_
      refine z_iload_n C 1 dX0_sheetAt_26 rfl rfl ?_
      refine z_aaloadF C ly_x7 rfl g_1 dX0_sheetAt_27 ?_
      obtain ⟨a_15, e_16, hf⟩ := bo_ hf
      refine z_eq (rf_s e_16) ?_
      obtain ⟨o_17, e_18, hf⟩ := bo_ hf
      have hP_19 := oShelf_ e_18
      refine z_getHeld C hP_19 q315 dX0_sheetAt_28 ?_
      obtain ⟨a_20, e_21, hf⟩ := bo_ hf
      refine z_eq (rf_s e_21) ?_
      obtain ⟨⟨ci_22, r_23⟩, e_24, hf⟩ := bo_ hf
      try dsimp only at hf
      obtain ⟨hP_25, hci_26⟩ := oSheet_ e_24
      refine z_castSheet C hci_26 hP_25 q1013 dX0_sheetAt_31 ?_
      obtain ⟨rfl, rfl⟩ := fin_ hf
      exact z_aret C (Or.inl ⟨_, rfl⟩) (Or.inr ⟨_, rfl⟩) dX0_sheetAt_34
    · dsimp only [sc] at hf
      refine z_callt C (rest := []) (av := (.ref (w.2.2 0) :: [.int j_7, .int 2])) (zPay.of q354 q74) (fun H ls hH h2 => zInv_V C (As := [.int j_7, .int 2]) (rest := []) (ci := 0) (T := TX0) (N := 8) rfl (zSee.fix ly_x0) hH q351 q353 qs1 (Or.inl rfl) q354 mh_X0 np_X0_need dX0_sheetAt_19) (tX0_need l w e_11) (Nat.le_of_ble_eq_true rfl) (Nat.le_of_ble_eq_true rfl) ?_
      obtain ⟨rfl, rfl⟩ := fin_ hf
      exact z_tout C (by decide)
  replace hf := e_9
  rcases oz (o_4) with e_28 | ⟨a_27, e_28⟩
  · replace hf := mo_n e_28 hf
    refine z_eq (rf_n e_28) ?_
    refine z_ifnullN C 17 dX0_sheetAt_10 (by decide) ?_
    refine z_iconst C 0 dX0_sheetAt_17 (by decide) ?_
    obtain rfl := fino_ hf
    exact hje_9
  · replace hf := mo_s e_28 hf
    refine z_eq (rf_s e_28) ?_
    refine z_ifnull C dX0_sheetAt_10 ?_
    refine z_iconst C 1 dX0_sheetAt_13 (by decide) ?_
    refine z_goto C 18 dX0_sheetAt_14 (by decide) ?_
    obtain rfl := fino_ hf
    exact hje_9
def fX0_trace (σ : ZS) (p1 : Int32) : Option (Int32 × ZS) := bd (fX0_need σ (fX0_in p1 0 ((σ.1 4 1) - 1)) 2) (fun r_1 σ_3 => sc r_1 (fun _ => gd (¬ (p1 < 0 ∨ 40 ≤ p1.toNatClampNeg)) (some (σ_3.1 5 p1.toNatClampNeg, σ_3))) (fun _ => bd (fX0_finds σ_3) (fun r_7 σ_9 => some (r_7, σ_9))))
set_option maxHeartbeats 4000000 in
set_option maxRecDepth 100000 in
theorem tX0_trace (l : Launch) (w : ZW) {σ σ' : ZS} {p1 : Int32} {r : Int32} (hf : fX0_trace σ p1 = some (r, σ')) : zC l w zLx yX0_trace (wsW_ yX0_trace cX0_trace 3 (some .int) [(0, 28, 29, 8)]) 2 27 [.ref (w.2.2 0), .int p1] σ (.returned (some (.int r))) σ' := by
  refine zC.ofW (plainFor_of_name (by decide)) (Nat.le_of_ble_eq_true rfl) ?_
  intro p e s m args below meth c C hnm
  show Z p l e _ s m args below meth c _ w _ _ 3 σ 0 [(0, .ref (w.2.2 0)), (1, .int p1)] []
  unfold fX0_trace at hf
  refine z_aload_n C 0 dX0_trace_0 rfl rfl ?_
  refine z_iload_n C 1 dX0_trace_1 rfl rfl ?_
  refine z_iconst C 0 dX0_trace_2 (by decide) ?_
  refine z_aload_n C 0 dX0_trace_3 rfl rfl ?_
  refine z_getR C ly_x0 (Cn := RX0) (T := TX0) (N := 8) rfl in_X0 5 (by decide) q324 (Or.inl rfl) rfl dX0_trace_4 ?_
  refine z_getIN C ly_x4 (Cn := RX4) (T := TX4) (N := 2) rfl in_X4 1 (by decide) q302 (Or.inl rfl) rfl dX0_trace_7 ?_
  refine z_iconst C 1 dX0_trace_10 (by decide) ?_
  refine z_isub C dX0_trace_11 ?_
  refine z_calli C (rest := [.ref (w.2.2 0)]) (av := [.int p1, .int 0, .int ((σ.1 4 1) - 1)]) (zPay.of q350 q74) (fun H ls hH h2 => zInv_S C (As := [.int p1, .int 0, .int ((σ.1 4 1) - 1)]) (rest := [.ref (w.2.2 0)]) q348 q349 q74 (Or.inl rfl) q350 mh_X0 np_X0_in dX0_trace_12) (tX0_in l w zLx σ p1 0 ((σ.1 4 1) - 1)) (Nat.le_of_ble_eq_true rfl) (Nat.le_of_ble_eq_true rfl) ?_
  refine z_iconst C 2 dX0_trace_15 (by decide) ?_
  obtain ⟨r_1, σ_3, e_2, hf⟩ := bd_ hf
  rcases r_1 with ⟨⟩ | ⟨⟩
  · dsimp only [sc] at hf
    refine z_callv C (rest := []) (av := (.ref (w.2.2 0) :: [.int (fX0_in p1 0 ((σ.1 4 1) - 1)), .int 2])) (zPay.of q354 q74) (fun H ls hH h2 => zInv_V C (As := [.int (fX0_in p1 0 ((σ.1 4 1) - 1)), .int 2]) (rest := []) (ci := 0) (T := TX0) (N := 8) rfl (zSee.fix ly_x0) hH q351 q353 qs1 (Or.inl rfl) q354 mh_X0 np_X0_need dX0_trace_16) (tX0_need l w e_2) (Nat.le_of_ble_eq_true rfl) (Nat.le_of_ble_eq_true rfl) ?_
    refine z_aload_n C 0 dX0_trace_19 rfl rfl ?_
    refine z_getR C ly_x0 (Cn := RX0) (T := TX0) (N := 8) rfl in_X0 5 (by decide) q324 (Or.inl rfl) rfl dX0_trace_20 ?_
    refine z_getRN C ly_x4 (Cn := RX4) (T := TX4) (N := 2) rfl in_X4 0 (by decide) q300 (Or.inl rfl) rfl dX0_trace_23 ?_
    refine z_iload_n C 1 dX0_trace_26 rfl rfl ?_
    obtain ⟨g_6, hf⟩ := gd_ hf
    refine z_ialoadF C ly_x5 g_6 dX0_trace_27 ?_
    obtain ⟨rfl, rfl⟩ := fin_ hf
    exact z_iret C rfl dX0_trace_28
  · dsimp only [sc] at hf
    refine z_callt C (rest := []) (av := (.ref (w.2.2 0) :: [.int (fX0_in p1 0 ((σ.1 4 1) - 1)), .int 2])) (zPay.of q354 q74) (fun H ls hH h2 => zInv_V C (As := [.int (fX0_in p1 0 ((σ.1 4 1) - 1)), .int 2]) (rest := []) (ci := 0) (T := TX0) (N := 8) rfl (zSee.fix ly_x0) hH q351 q353 qs1 (Or.inl rfl) q354 mh_X0 np_X0_need dX0_trace_16) (tX0_need l w e_2) (Nat.le_of_ble_eq_true rfl) (Nat.le_of_ble_eq_true rfl) ?_
    refine z_catch C [] 0 28 29 8 [] rfl (by decide) (by decide) (by decide) (ci := 1) (Cn := RX1) (T0 := TX1) (N := 7) rfl (zSee.fix ly_x1) q118 ?_
    refine z_astore_n C dX0_trace_29 rfl (by decide) rfl (lv' := [(2, .ref (w.2.2 1)), (0, .ref (w.2.2 0)), (1, .int p1)]) ?_
    refine z_aload_n C 1 dX0_trace_30 rfl rfl ?_
    refine z_aload_n C 0 dX0_trace_31 rfl rfl ?_
    obtain ⟨r_7, σ_9, e_8, hf⟩ := bd_ hf
    refine z_calli C (rest := []) (av := (.ref (w.2.2 0) :: [.ref (w.2.2 1)])) (zPay.of q362 q74) (fun H ls hH h2 => zInv_V C (As := [.ref (w.2.2 1)]) (rest := []) (ci := 0) (T := TX0) (N := 8) rfl (zSee.fix ly_x0) hH q359 q361 qs2 (Or.inl rfl) q362 mh_X0 np_X0_finds dX0_trace_32) (tX0_finds l w e_8) (Nat.le_of_ble_eq_true rfl) (Nat.le_of_ble_eq_true rfl) ?_
    obtain ⟨rfl, rfl⟩ := fin_ hf
    exact z_iret C rfl dX0_trace_35
def fX0_beds_L17 (w : ZW) (r_9 : Nat) (y1 : Int32) : Nat → Int32 → ZS → Option ((Int32) × ZS)
  | 0, _, _ => none
  | n + 1, y3, σ => bo (oSheet (σ.2.2.1 r_9)) (fun sh11 => bo (fS_Sheet_size w σ r_9 (sh11.1) (sh11.2) ) (fun r_16 => if r_16 ≤ y3 then (some (y3, σ)) else (if (fX0_isCell σ y3) = 0 then (some (y3, σ)) else (bo (fS_Sheet_get w σ r_9 (sh11.1) (sh11.2) y3) (fun r_20 => if (fX0_in r_20 0 9) = 0 then (some (y3, σ)) else (bo (fS_Sheet_get w σ r_9 (sh11.1) (sh11.2) y3) (fun r_23 => gd (¬ (y3 < 0 ∨ 8 ≤ y3.toNatClampNeg)) (nm (y3 + 1) (fun (x3_26 : Int32) => fX0_beds_L17 w r_9 y1 n x3_26 (sI σ (100 + 2) (y3.toNatClampNeg) r_23))))))))))
def fX0_beds (w : ZW) (σ : ZS) (p1 : Int32) : Option (Int32 × ZS) := bd (fX0_need σ (fX0_isSheet p1) 1) (fun r_1 σ_3 => sc r_1 (fun _ => bd (fX0_sheetAt σ_3 p1) (fun r_6 σ_8 => sc r_6 (fun (r_9 : Nat) => bd (fX0_beds_L17 w r_9 p1 10000 0 σ_8) (fun x3_27 σ_28 => some (x3_27, σ_28))) (fun _ => bd (fX0_finds σ_8) (fun r_30 σ_32 => some (r_30, σ_32))))) (fun _ => bd (fX0_finds σ_3) (fun r_33 σ_35 => some (r_33, σ_35))))
set_option maxHeartbeats 4000000 in
set_option maxRecDepth 100000 in
theorem lfX0_beds_L17 {p : Program} {l : Launch} {e : Env} {R : Room} {s : State} {m : MethodId} {args : Array Value} {below : List Frame} {meth : Method} {c : Code} {Q : State → Prop} {w : ZW} {A : Nat → Prop} {ret : Option FieldType} {hh : List (Nat × Nat × Nat × Nat)} (C : zCx p s m args meth c w zLx A 4 cX0_beds RX0 ret hh) (hfr : 2 ≤ R.frames) (hlo : 27 ≤ R.locals) {r_9 : Nat} (y1 : Int32) {z3 : Int32} {σ' : ZS} (hk : Z p l e R s m args below meth c Q w zLx A 4 σ' 67 [(0, .ref (w.2.2 0)), (1, .int y1), (2, .ref r_9), (3, .int z3)] []) : ∀ (n : Nat) (y3 : Int32) (σ : ZS), fX0_beds_L17 w r_9 y1 n y3 σ = some (z3, σ') → Z p l e R s m args below meth c Q w zLx A 4 σ 17 [(0, .ref (w.2.2 0)), (1, .int y1), (2, .ref r_9), (3, .int y3)] [] := by
  intro n
  induction n with
  | zero => intro y3 σ hf; exact none_ hf
  | succ n ih =>
    intro y3 σ hf
    rw [fX0_beds_L17] at hf
    refine z_iload_n C 3 dX0_beds_17 rfl rfl ?_
    refine z_aload_n C 2 dX0_beds_18 rfl rfl ?_
    obtain ⟨⟨ci_11, r_12⟩, e_13, hf⟩ := bo_ hf
    try dsimp only at hf
    obtain ⟨hP_14, hci_15⟩ := oSheet_ e_13
    obtain ⟨r_16, e_17, hf⟩ := bo_ hf
    refine z_Sh_size C hci_15 hP_14 q1014 e_17 dX0_beds_19 (Nat.le_trans (Nat.le_of_ble_eq_true rfl) hfr) (Nat.le_trans (Nat.le_of_ble_eq_true rfl) hlo) ?_
    refine z_icmp_ge C 67 dX0_beds_22 (by decide) (fun c_18 => ?_) (fun c_18 => ?_)
    · replace hf := if_t c_18 hf
      obtain ⟨rfl, rfl⟩ := fin_ hf
      exact hk
    · replace hf := if_f c_18 hf
      refine z_aload_n C 0 dX0_beds_25 rfl rfl ?_
      refine z_iload_n C 3 dX0_beds_26 rfl rfl ?_
      refine z_calli C (rest := []) (av := (.ref (w.2.2 0) :: [.int y3])) (zPay.of q371 q74) (fun H ls hH h2 => zInv_V C (As := [.int y3]) (rest := []) (ci := 0) (T := TX0) (N := 8) rfl (zSee.fix ly_x0) hH q368 q370 qs3 (Or.inl rfl) q371 mh_X0 np_X0_isCell dX0_beds_27) (tX0_isCell l w σ y3) (Nat.le_trans (Nat.le_of_ble_eq_true rfl) hfr) (Nat.le_trans (Nat.le_of_ble_eq_true rfl) hlo) ?_
      refine z_if_eq C 67 dX0_beds_30 (by decide) (fun c_19 => ?_) (fun c_19 => ?_)
      · replace hf := if_t c_19 hf
        obtain ⟨rfl, rfl⟩ := fin_ hf
        exact hk
      · replace hf := if_f c_19 hf
        refine z_aload_n C 2 dX0_beds_33 rfl rfl ?_
        refine z_iload_n C 3 dX0_beds_34 rfl rfl ?_
        obtain ⟨r_20, e_21, hf⟩ := bo_ hf
        refine z_Sh_get C hci_15 hP_14 q1030 e_21 dX0_beds_35 (Nat.le_trans (Nat.le_of_ble_eq_true rfl) hfr) (Nat.le_trans (Nat.le_of_ble_eq_true rfl) hlo) ?_
        refine z_iconst C 0 dX0_beds_38 (by decide) ?_
        refine z_bipush C 9 dX0_beds_39 (by decide) ?_
        refine z_calli C (rest := []) (av := [.int r_20, .int 0, .int 9]) (zPay.of q350 q74) (fun H ls hH h2 => zInv_S C (As := [.int r_20, .int 0, .int 9]) (rest := []) q348 q349 q74 (Or.inl rfl) q350 mh_X0 np_X0_in dX0_beds_41) (tX0_in l w zLx σ r_20 0 9) (Nat.le_trans (Nat.le_of_ble_eq_true rfl) hfr) (Nat.le_trans (Nat.le_of_ble_eq_true rfl) hlo) ?_
        refine z_if_eq C 67 dX0_beds_44 (by decide) (fun c_22 => ?_) (fun c_22 => ?_)
        · replace hf := if_t c_22 hf
          obtain ⟨rfl, rfl⟩ := fin_ hf
          exact hk
        · replace hf := if_f c_22 hf
          refine z_aload_n C 0 dX0_beds_47 rfl rfl ?_
          refine z_getR C ly_x0 (Cn := RX0) (T := TX0) (N := 8) rfl in_X0 1 (by decide) q320 (Or.inl rfl) rfl dX0_beds_48 ?_
          refine z_getRN C (ly_b0 zb100) (Cn := RX2) (T := TX2) (N := 20) rfl in_X2 1 (by decide) q213 (Or.inl rfl) rfl dX0_beds_51 ?_
          refine z_iload_n C 3 dX0_beds_54 rfl rfl ?_
          refine z_aload_n C 2 dX0_beds_55 rfl rfl ?_
          refine z_iload_n C 3 dX0_beds_56 rfl rfl ?_
          obtain ⟨r_23, e_24, hf⟩ := bo_ hf
          refine z_Sh_get C hci_15 hP_14 q1030 e_24 dX0_beds_57 (Nat.le_trans (Nat.le_of_ble_eq_true rfl) hfr) (Nat.le_trans (Nat.le_of_ble_eq_true rfl) hlo) ?_
          obtain ⟨g_25, hf⟩ := gd_ hf
          refine z_iastore C (ly_b2 zb100) g_25 dX0_beds_60 ?_
          obtain ⟨x3_26, ex3_26, hf⟩ := nmo_ hf
          refine z_iinc C x3_26 3 dX0_beds_61 rfl (by rw [ex3_26]; rfl) (by decide) rfl (lv' := [(3, .int x3_26), (0, .ref (w.2.2 0)), (1, .int y1), (2, .ref r_9)]) ?_
          refine z_goto C 17 dX0_beds_64 (by decide) ?_
          exact z_lv [1, 2, 3, 0] rfl (ih _ _ hf)
set_option maxHeartbeats 4000000 in
set_option maxRecDepth 100000 in
theorem tX0_beds (l : Launch) (w : ZW) {σ σ' : ZS} {p1 : Int32} {r : Int32} (hf : fX0_beds w σ p1 = some (r, σ')) : zC l w zLx yX0_beds (wsW_ yX0_beds cX0_beds 4 (some .int) [(0, 68, 69, 8)]) 3 40 [.ref (w.2.2 0), .int p1] σ (.returned (some (.int r))) σ' := by
  refine zC.ofW (plainFor_of_name (by decide)) (Nat.le_of_ble_eq_true rfl) ?_
  intro p e s m args below meth c C hnm
  show Z p l e _ s m args below meth c _ w _ _ 4 σ 0 [(0, .ref (w.2.2 0)), (1, .int p1)] []
  unfold fX0_beds at hf
  refine z_aload_n C 0 dX0_beds_0 rfl rfl ?_
  refine z_iload_n C 1 dX0_beds_1 rfl rfl ?_
  refine z_calli C (rest := [.ref (w.2.2 0)]) (av := [.int p1]) (zPay.of q1008 q74) (fun H ls hH h2 => zInv_S C (As := [.int p1]) (rest := [.ref (w.2.2 0)]) q1006 q1007 q74 (Or.inl rfl) q1008 mh_X0 np_X0_isSheet dX0_beds_2) (tX0_isSheet l w zLx σ p1) (Nat.le_of_ble_eq_true rfl) (Nat.le_of_ble_eq_true rfl) ?_
  refine z_iconst C 1 dX0_beds_5 (by decide) ?_
  obtain ⟨r_1, σ_3, e_2, hf⟩ := bd_ hf
  rcases r_1 with ⟨⟩ | ⟨⟩
  · dsimp only [sc] at hf
    refine z_callv C (rest := []) (av := (.ref (w.2.2 0) :: [.int (fX0_isSheet p1), .int 1])) (zPay.of q354 q74) (fun H ls hH h2 => zInv_V C (As := [.int (fX0_isSheet p1), .int 1]) (rest := []) (ci := 0) (T := TX0) (N := 8) rfl (zSee.fix ly_x0) hH q351 q353 qs1 (Or.inl rfl) q354 mh_X0 np_X0_need dX0_beds_6) (tX0_need l w e_2) (Nat.le_of_ble_eq_true rfl) (Nat.le_of_ble_eq_true rfl) ?_
    refine z_aload_n C 0 dX0_beds_9 rfl rfl ?_
    refine z_iload_n C 1 dX0_beds_10 rfl rfl ?_
    obtain ⟨r_6, σ_8, e_7, hf⟩ := bd_ hf
    rcases r_6 with r_9 | ⟨⟩
    · dsimp only [sc] at hf
      refine z_callr C (rest := []) (av := (.ref (w.2.2 0) :: [.int p1])) (zPay.of q1012 q74) (fun H ls hH h2 => zInv_V C (As := [.int p1]) (rest := []) (ci := 0) (T := TX0) (N := 8) rfl (zSee.fix ly_x0) hH q1009 q1011 qs25 (Or.inl rfl) q1012 mh_X0 np_X0_sheetAt dX0_beds_11) (tX0_sheetAt l w e_7) (Nat.le_of_ble_eq_true rfl) (Nat.le_of_ble_eq_true rfl) ?_
      refine z_astore_n C dX0_beds_14 rfl (by decide) rfl (lv' := [(2, .ref r_9), (0, .ref (w.2.2 0)), (1, .int p1)]) ?_
      refine z_iconst C 0 dX0_beds_15 (by decide) ?_
      refine z_istore_n C dX0_beds_16 rfl (by decide) rfl (lv' := [(3, .int 0), (2, .ref r_9), (0, .ref (w.2.2 0)), (1, .int p1)]) ?_
      obtain ⟨x3_27, σ_28, e_29, hf⟩ := bd_ hf
      refine z_lv (lv' := [(0, .ref (w.2.2 0)), (1, .int p1), (2, .ref r_9), (3, .int 0)]) [2, 3, 1, 0] rfl ?_
      refine lfX0_beds_L17 C (Nat.le_of_ble_eq_true rfl) (Nat.le_of_ble_eq_true rfl) p1 ?_ _ _ _ e_29
      refine z_iload_n C 3 dX0_beds_67 rfl rfl ?_
      obtain ⟨rfl, rfl⟩ := fin_ hf
      exact z_iret C rfl dX0_beds_68
    · dsimp only [sc] at hf
      refine z_callt C (rest := []) (av := (.ref (w.2.2 0) :: [.int p1])) (zPay.of q1012 q74) (fun H ls hH h2 => zInv_V C (As := [.int p1]) (rest := []) (ci := 0) (T := TX0) (N := 8) rfl (zSee.fix ly_x0) hH q1009 q1011 qs25 (Or.inl rfl) q1012 mh_X0 np_X0_sheetAt dX0_beds_11) (tX0_sheetAt l w e_7) (Nat.le_of_ble_eq_true rfl) (Nat.le_of_ble_eq_true rfl) ?_
      refine z_catch C [] 0 68 69 8 [] rfl (by decide) (by decide) (by decide) (ci := 1) (Cn := RX1) (T0 := TX1) (N := 7) rfl (zSee.fix ly_x1) q118 ?_
      refine z_astore_n C dX0_beds_69 rfl (by decide) rfl (lv' := [(2, .ref (w.2.2 1)), (0, .ref (w.2.2 0)), (1, .int p1)]) ?_
      refine z_aload_n C 1 dX0_beds_70 rfl rfl ?_
      refine z_aload_n C 0 dX0_beds_71 rfl rfl ?_
      obtain ⟨r_30, σ_32, e_31, hf⟩ := bd_ hf
      refine z_calli C (rest := []) (av := (.ref (w.2.2 0) :: [.ref (w.2.2 1)])) (zPay.of q362 q74) (fun H ls hH h2 => zInv_V C (As := [.ref (w.2.2 1)]) (rest := []) (ci := 0) (T := TX0) (N := 8) rfl (zSee.fix ly_x0) hH q359 q361 qs2 (Or.inl rfl) q362 mh_X0 np_X0_finds dX0_beds_72) (tX0_finds l w e_31) (Nat.le_of_ble_eq_true rfl) (Nat.le_of_ble_eq_true rfl) ?_
      obtain ⟨rfl, rfl⟩ := fin_ hf
      exact z_iret C rfl dX0_beds_75
  · dsimp only [sc] at hf
    refine z_callt C (rest := []) (av := (.ref (w.2.2 0) :: [.int (fX0_isSheet p1), .int 1])) (zPay.of q354 q74) (fun H ls hH h2 => zInv_V C (As := [.int (fX0_isSheet p1), .int 1]) (rest := []) (ci := 0) (T := TX0) (N := 8) rfl (zSee.fix ly_x0) hH q351 q353 qs1 (Or.inl rfl) q354 mh_X0 np_X0_need dX0_beds_6) (tX0_need l w e_2) (Nat.le_of_ble_eq_true rfl) (Nat.le_of_ble_eq_true rfl) ?_
    refine z_catch C [] 0 68 69 8 [] rfl (by decide) (by decide) (by decide) (ci := 1) (Cn := RX1) (T0 := TX1) (N := 7) rfl (zSee.fix ly_x1) q118 ?_
    refine z_astore_n C dX0_beds_69 rfl (by decide) rfl (lv' := [(2, .ref (w.2.2 1)), (0, .ref (w.2.2 0)), (1, .int p1)]) ?_
    refine z_aload_n C 1 dX0_beds_70 rfl rfl ?_
    refine z_aload_n C 0 dX0_beds_71 rfl rfl ?_
    obtain ⟨r_33, σ_35, e_34, hf⟩ := bd_ hf
    refine z_calli C (rest := []) (av := (.ref (w.2.2 0) :: [.ref (w.2.2 1)])) (zPay.of q362 q74) (fun H ls hH h2 => zInv_V C (As := [.ref (w.2.2 1)]) (rest := []) (ci := 0) (T := TX0) (N := 8) rfl (zSee.fix ly_x0) hH q359 q361 qs2 (Or.inl rfl) q362 mh_X0 np_X0_finds dX0_beds_72) (tX0_finds l w e_34) (Nat.le_of_ble_eq_true rfl) (Nat.le_of_ble_eq_true rfl) ?_
    obtain ⟨rfl, rfl⟩ := fin_ hf
    exact z_iret C rfl dX0_beds_75
def fX0_judge_L17 (σ : ZS) (w : ZW) (r_9 : Nat) (y1 : Int32) : Nat → Int32 → Option (Int32)
  | 0, _ => none
  | n + 1, y3 => bo (oSheet (σ.2.2.1 r_9)) (fun sh25 => bo (fS_Sheet_size w σ r_9 (sh25.1) (sh25.2) ) (fun r_30 => if r_30 ≤ y3 then (some y3) else (if (fX0_isShip σ y3) = 0 then (some y3) else (bo (fS_Sheet_get w σ r_9 (sh25.1) (sh25.2) y3) (fun r_34 => gd (¬ (y3 < 0 ∨ 7 ≤ y3.toNatClampNeg)) (if r_34 = (σ.1 (100 + 12) y3.toNatClampNeg) then (nm (y3 + 1) (fun (x3_38 : Int32) => fX0_judge_L17 σ w r_9 y1 n x3_38)) else (some y3)))))))
def fX0_judge (w : ZW) (σ : ZS) (p1 : Int32) : Option (Int32 × ZS) := bd (fX0_need σ (fX0_isSheet p1) 1) (fun r_1 σ_3 => sc r_1 (fun _ => bd (fX0_sheetAt σ_3 p1) (fun r_6 σ_8 => sc r_6 (fun (r_9 : Nat) => bo (fX0_judge_L17 σ_8 w r_9 p1 10000 0) (fun x3_39 => bo (oSheet (σ_8.2.2.1 r_9)) (fun sh42 => bo (fS_Sheet_size w σ_8 r_9 (sh42.1) (sh42.2) ) (fun r_47 => nm (if x3_39 = r_47 then (if x3_39 = (σ_8.1 100 8) then (-1) else x3_39) else x3_39) (fun (j_49 : Int32) => some (j_49, σ_8)))))) (fun _ => bd (fX0_finds σ_8) (fun r_52 σ_54 => some (r_52, σ_54))))) (fun _ => bd (fX0_finds σ_3) (fun r_55 σ_57 => some (r_55, σ_57))))
set_option maxHeartbeats 4000000 in
set_option maxRecDepth 100000 in
theorem lfX0_judge_L17 {p : Program} {l : Launch} {e : Env} {R : Room} {s : State} {m : MethodId} {args : Array Value} {below : List Frame} {meth : Method} {c : Code} {Q : State → Prop} {w : ZW} {A : Nat → Prop} {ret : Option FieldType} {hh : List (Nat × Nat × Nat × Nat)} (C : zCx p s m args meth c w zLx A 4 cX0_judge RX0 ret hh) (hfr : 2 ≤ R.frames) (hlo : 27 ≤ R.locals) (σ : ZS) {r_9 : Nat} (y1 : Int32) {z3 : Int32} (hk : Z p l e R s m args below meth c Q w zLx A 4 σ 56 [(0, .ref (w.2.2 0)), (1, .int y1), (2, .ref r_9), (3, .int z3)] []) : ∀ (n : Nat) (y3 : Int32), fX0_judge_L17 σ w r_9 y1 n y3 = some z3 → Z p l e R s m args below meth c Q w zLx A 4 σ 17 [(0, .ref (w.2.2 0)), (1, .int y1), (2, .ref r_9), (3, .int y3)] [] := by
  intro n
  induction n with
  | zero => intro y3 hf; exact none_ hf
  | succ n ih =>
    intro y3 hf
    rw [fX0_judge_L17] at hf
    refine z_iload_n C 3 dX0_judge_17 rfl rfl ?_
    refine z_aload_n C 2 dX0_judge_18 rfl rfl ?_
    obtain ⟨⟨ci_25, r_26⟩, e_27, hf⟩ := bo_ hf
    try dsimp only at hf
    obtain ⟨hP_28, hci_29⟩ := oSheet_ e_27
    obtain ⟨r_30, e_31, hf⟩ := bo_ hf
    refine z_Sh_size C hci_29 hP_28 q1014 e_31 dX0_judge_19 (Nat.le_trans (Nat.le_of_ble_eq_true rfl) hfr) (Nat.le_trans (Nat.le_of_ble_eq_true rfl) hlo) ?_
    refine z_icmp_ge C 56 dX0_judge_22 (by decide) (fun c_32 => ?_) (fun c_32 => ?_)
    · replace hf := if_t c_32 hf
      obtain rfl := fino_ hf
      exact hk
    · replace hf := if_f c_32 hf
      refine z_aload_n C 0 dX0_judge_25 rfl rfl ?_
      refine z_iload_n C 3 dX0_judge_26 rfl rfl ?_
      refine z_calli C (rest := []) (av := (.ref (w.2.2 0) :: [.int y3])) (zPay.of q561 q74) (fun H ls hH h2 => zInv_V C (As := [.int y3]) (rest := []) (ci := 0) (T := TX0) (N := 8) rfl (zSee.fix ly_x0) hH q558 q560 qs8 (Or.inl rfl) q561 mh_X0 np_X0_isShip dX0_judge_27) (tX0_isShip l w σ y3) (Nat.le_trans (Nat.le_of_ble_eq_true rfl) hfr) (Nat.le_trans (Nat.le_of_ble_eq_true rfl) hlo) ?_
      refine z_if_eq C 56 dX0_judge_30 (by decide) (fun c_33 => ?_) (fun c_33 => ?_)
      · replace hf := if_t c_33 hf
        obtain rfl := fino_ hf
        exact hk
      · replace hf := if_f c_33 hf
        refine z_aload_n C 2 dX0_judge_33 rfl rfl ?_
        refine z_iload_n C 3 dX0_judge_34 rfl rfl ?_
        obtain ⟨r_34, e_35, hf⟩ := bo_ hf
        refine z_Sh_get C hci_29 hP_28 q1030 e_35 dX0_judge_35 (Nat.le_trans (Nat.le_of_ble_eq_true rfl) hfr) (Nat.le_trans (Nat.le_of_ble_eq_true rfl) hlo) ?_
        refine z_aload_n C 0 dX0_judge_38 rfl rfl ?_
        refine z_getR C ly_x0 (Cn := RX0) (T := TX0) (N := 8) rfl in_X0 1 (by decide) q320 (Or.inl rfl) rfl dX0_judge_39 ?_
        refine z_getRN C (ly_b0 zb100) (Cn := RX2) (T := TX2) (N := 20) rfl in_X2 11 (by decide) q236 (Or.inl rfl) rfl dX0_judge_42 ?_
        refine z_iload_n C 3 dX0_judge_45 rfl rfl ?_
        obtain ⟨g_36, hf⟩ := gd_ hf
        refine z_ialoadF C (ly_b12 zb100) g_36 dX0_judge_46 ?_
        refine z_icmp_ne C 56 dX0_judge_47 (by decide) (fun c_37 => ?_) (fun c_37 => ?_)
        · replace hf := if_f c_37 hf
          obtain rfl := fino_ hf
          exact hk
        · replace hf := if_t c_37 hf
          obtain ⟨x3_38, ex3_38, hf⟩ := nmo_ hf
          refine z_iinc C x3_38 3 dX0_judge_50 rfl (by rw [ex3_38]; rfl) (by decide) rfl (lv' := [(3, .int x3_38), (0, .ref (w.2.2 0)), (1, .int y1), (2, .ref r_9)]) ?_
          refine z_goto C 17 dX0_judge_53 (by decide) ?_
          exact z_lv [1, 2, 3, 0] rfl (ih _ hf)
set_option maxHeartbeats 4000000 in
set_option maxRecDepth 100000 in
theorem tX0_judge (l : Launch) (w : ZW) {σ σ' : ZS} {p1 : Int32} {r : Int32} (hf : fX0_judge w σ p1 = some (r, σ')) : zC l w zLx yX0_judge (wsW_ yX0_judge cX0_judge 4 (some .int) [(0, 80, 81, 8)]) 3 40 [.ref (w.2.2 0), .int p1] σ (.returned (some (.int r))) σ' := by
  refine zC.ofW (plainFor_of_name (by decide)) (Nat.le_of_ble_eq_true rfl) ?_
  intro p e s m args below meth c C hnm
  show Z p l e _ s m args below meth c _ w _ _ 4 σ 0 [(0, .ref (w.2.2 0)), (1, .int p1)] []
  unfold fX0_judge at hf
  refine z_aload_n C 0 dX0_judge_0 rfl rfl ?_
  refine z_iload_n C 1 dX0_judge_1 rfl rfl ?_
  refine z_calli C (rest := [.ref (w.2.2 0)]) (av := [.int p1]) (zPay.of q1008 q74) (fun H ls hH h2 => zInv_S C (As := [.int p1]) (rest := [.ref (w.2.2 0)]) q1006 q1007 q74 (Or.inl rfl) q1008 mh_X0 np_X0_isSheet dX0_judge_2) (tX0_isSheet l w zLx σ p1) (Nat.le_of_ble_eq_true rfl) (Nat.le_of_ble_eq_true rfl) ?_
  refine z_iconst C 1 dX0_judge_5 (by decide) ?_
  obtain ⟨r_1, σ_3, e_2, hf⟩ := bd_ hf
  rcases r_1 with ⟨⟩ | ⟨⟩
  · dsimp only [sc] at hf
    refine z_callv C (rest := []) (av := (.ref (w.2.2 0) :: [.int (fX0_isSheet p1), .int 1])) (zPay.of q354 q74) (fun H ls hH h2 => zInv_V C (As := [.int (fX0_isSheet p1), .int 1]) (rest := []) (ci := 0) (T := TX0) (N := 8) rfl (zSee.fix ly_x0) hH q351 q353 qs1 (Or.inl rfl) q354 mh_X0 np_X0_need dX0_judge_6) (tX0_need l w e_2) (Nat.le_of_ble_eq_true rfl) (Nat.le_of_ble_eq_true rfl) ?_
    refine z_aload_n C 0 dX0_judge_9 rfl rfl ?_
    refine z_iload_n C 1 dX0_judge_10 rfl rfl ?_
    obtain ⟨r_6, σ_8, e_7, hf⟩ := bd_ hf
    rcases r_6 with r_9 | ⟨⟩
    · dsimp only [sc] at hf
      refine z_callr C (rest := []) (av := (.ref (w.2.2 0) :: [.int p1])) (zPay.of q1012 q74) (fun H ls hH h2 => zInv_V C (As := [.int p1]) (rest := []) (ci := 0) (T := TX0) (N := 8) rfl (zSee.fix ly_x0) hH q1009 q1011 qs25 (Or.inl rfl) q1012 mh_X0 np_X0_sheetAt dX0_judge_11) (tX0_sheetAt l w e_7) (Nat.le_of_ble_eq_true rfl) (Nat.le_of_ble_eq_true rfl) ?_
      refine z_astore_n C dX0_judge_14 rfl (by decide) rfl (lv' := [(2, .ref r_9), (0, .ref (w.2.2 0)), (1, .int p1)]) ?_
      refine z_iconst C 0 dX0_judge_15 (by decide) ?_
      refine z_istore_n C dX0_judge_16 rfl (by decide) rfl (lv' := [(3, .int 0), (2, .ref r_9), (0, .ref (w.2.2 0)), (1, .int p1)]) ?_
      obtain ⟨x3_39, e_41, hf⟩ := bo_ hf
      refine z_lv (lv' := [(0, .ref (w.2.2 0)), (1, .int p1), (2, .ref r_9), (3, .int 0)]) [2, 3, 1, 0] rfl ?_
      refine lfX0_judge_L17 C (Nat.le_of_ble_eq_true rfl) (Nat.le_of_ble_eq_true rfl) σ_8 p1 ?_ _ _ e_41
      refine z_iload_n C 3 dX0_judge_56 rfl rfl ?_
      refine z_aload_n C 2 dX0_judge_57 rfl rfl ?_
      obtain ⟨⟨ci_42, r_43⟩, e_44, hf⟩ := bo_ hf
      try dsimp only at hf
      obtain ⟨hP_45, hci_46⟩ := oSheet_ e_44
      obtain ⟨r_47, e_48, hf⟩ := bo_ hf
      refine z_Sh_size C hci_46 hP_45 q1014 e_48 dX0_judge_58 (Nat.le_of_ble_eq_true rfl) (Nat.le_of_ble_eq_true rfl) ?_
      obtain ⟨j_49, ej_49, hf⟩ := nmo_ hf
      have hjj_49 : Z p l e (zRm 3 40 σ) s m args below meth c (zQ below w zLx σ (.returned (some (.int r))) σ' args s) w zLx (zA w zLx σ) 4 σ_8 80 [(0, .ref (w.2.2 0)), (1, .int p1), (2, .ref r_9), (3, .int x3_39)] [.int j_49] := by
        obtain ⟨rfl, rfl⟩ := fin_ hf
        exact z_iret C rfl dX0_judge_80
      replace hf := ej_49
      refine z_icmp_ne C 79 dX0_judge_61 (by decide) (fun c_50 => ?_) (fun c_50 => ?_)
      · replace hf := ifp_f c_50 hf
        refine z_iload_n C 3 dX0_judge_79 rfl rfl ?_
        subst hf
        exact hjj_49
      · replace hf := ifp_t c_50 hf
        refine z_iload_n C 3 dX0_judge_64 rfl rfl ?_
        refine z_aload_n C 0 dX0_judge_65 rfl rfl ?_
        refine z_getR C ly_x0 (Cn := RX0) (T := TX0) (N := 8) rfl in_X0 1 (by decide) q320 (Or.inl rfl) rfl dX0_judge_66 ?_
        refine z_getIN C (ly_b0 zb100) (Cn := RX2) (T := TX2) (N := 20) rfl in_X2 8 (by decide) q230 (Or.inl rfl) rfl dX0_judge_69 ?_
        refine z_icmp_ne C 79 dX0_judge_72 (by decide) (fun c_51 => ?_) (fun c_51 => ?_)
        · replace hf := ifp_f c_51 hf
          refine z_iload_n C 3 dX0_judge_79 rfl rfl ?_
          subst hf
          exact hjj_49
        · replace hf := ifp_t c_51 hf
          refine z_iconst C (-1) dX0_judge_75 (by decide) ?_
          refine z_goto C 80 dX0_judge_76 (by decide) ?_
          subst hf
          exact hjj_49
    · dsimp only [sc] at hf
      refine z_callt C (rest := []) (av := (.ref (w.2.2 0) :: [.int p1])) (zPay.of q1012 q74) (fun H ls hH h2 => zInv_V C (As := [.int p1]) (rest := []) (ci := 0) (T := TX0) (N := 8) rfl (zSee.fix ly_x0) hH q1009 q1011 qs25 (Or.inl rfl) q1012 mh_X0 np_X0_sheetAt dX0_judge_11) (tX0_sheetAt l w e_7) (Nat.le_of_ble_eq_true rfl) (Nat.le_of_ble_eq_true rfl) ?_
      refine z_catch C [] 0 80 81 8 [] rfl (by decide) (by decide) (by decide) (ci := 1) (Cn := RX1) (T0 := TX1) (N := 7) rfl (zSee.fix ly_x1) q118 ?_
      refine z_astore_n C dX0_judge_81 rfl (by decide) rfl (lv' := [(2, .ref (w.2.2 1)), (0, .ref (w.2.2 0)), (1, .int p1)]) ?_
      refine z_aload_n C 1 dX0_judge_82 rfl rfl ?_
      refine z_aload_n C 0 dX0_judge_83 rfl rfl ?_
      obtain ⟨r_52, σ_54, e_53, hf⟩ := bd_ hf
      refine z_calli C (rest := []) (av := (.ref (w.2.2 0) :: [.ref (w.2.2 1)])) (zPay.of q362 q74) (fun H ls hH h2 => zInv_V C (As := [.ref (w.2.2 1)]) (rest := []) (ci := 0) (T := TX0) (N := 8) rfl (zSee.fix ly_x0) hH q359 q361 qs2 (Or.inl rfl) q362 mh_X0 np_X0_finds dX0_judge_84) (tX0_finds l w e_53) (Nat.le_of_ble_eq_true rfl) (Nat.le_of_ble_eq_true rfl) ?_
      obtain ⟨rfl, rfl⟩ := fin_ hf
      exact z_iret C rfl dX0_judge_87
  · dsimp only [sc] at hf
    refine z_callt C (rest := []) (av := (.ref (w.2.2 0) :: [.int (fX0_isSheet p1), .int 1])) (zPay.of q354 q74) (fun H ls hH h2 => zInv_V C (As := [.int (fX0_isSheet p1), .int 1]) (rest := []) (ci := 0) (T := TX0) (N := 8) rfl (zSee.fix ly_x0) hH q351 q353 qs1 (Or.inl rfl) q354 mh_X0 np_X0_need dX0_judge_6) (tX0_need l w e_2) (Nat.le_of_ble_eq_true rfl) (Nat.le_of_ble_eq_true rfl) ?_
    refine z_catch C [] 0 80 81 8 [] rfl (by decide) (by decide) (by decide) (ci := 1) (Cn := RX1) (T0 := TX1) (N := 7) rfl (zSee.fix ly_x1) q118 ?_
    refine z_astore_n C dX0_judge_81 rfl (by decide) rfl (lv' := [(2, .ref (w.2.2 1)), (0, .ref (w.2.2 0)), (1, .int p1)]) ?_
    refine z_aload_n C 1 dX0_judge_82 rfl rfl ?_
    refine z_aload_n C 0 dX0_judge_83 rfl rfl ?_
    obtain ⟨r_55, σ_57, e_56, hf⟩ := bd_ hf
    refine z_calli C (rest := []) (av := (.ref (w.2.2 0) :: [.ref (w.2.2 1)])) (zPay.of q362 q74) (fun H ls hH h2 => zInv_V C (As := [.ref (w.2.2 1)]) (rest := []) (ci := 0) (T := TX0) (N := 8) rfl (zSee.fix ly_x0) hH q359 q361 qs2 (Or.inl rfl) q362 mh_X0 np_X0_finds dX0_judge_84) (tX0_finds l w e_56) (Nat.le_of_ble_eq_true rfl) (Nat.le_of_ble_eq_true rfl) ?_
    obtain ⟨rfl, rfl⟩ := fin_ hf
    exact z_iret C rfl dX0_judge_87
def fX0_sheet (w : ZW) (σ : ZS) (p1 : Int32) (p2 : Int32) (p3 : Int32) : Option (Int32 × ZS) := nm (if (fX0_isSheet p1) = 0 then 0 else (if p2 = 0 then 1 else (if (fX0_isWidth p2) = 0 then 0 else 1))) (fun (j_1 : Int32) => bd (fX0_need σ j_1 1) (fun r_2 σ_4 => sc r_2 (fun _ => if p2 = 0 then (gd (¬ (p1 < 0 ∨ 4 ≤ p1.toNatClampNeg)) (bo (σ_4.2.1 7 (p1.toNatClampNeg)) (fun (a_70 : Nat) => bo (oShelf (σ_4.2.2.1 a_70)) (fun (o_72 : Option Nat) => nm (sP σ_4 a_70 (.inr (5, [.null]))) (fun (σ_75 : ZS) => some (1, σ_75)))))) else (nm (if p3 < 0 then 0 else 1) (fun (j_8 : Int32) => bd (fX0_need σ_4 j_8 3) (fun r_9 σ_11 => sc r_9 (fun _ => nm (if 40 < p3 then 0 else 1) (fun (j_14 : Int32) => bd (fX0_need σ_11 j_14 1) (fun r_15 σ_17 => sc r_15 (fun _ => gd (¬ (p1 < 0 ∨ 4 ≤ p1.toNatClampNeg)) (bo (σ_17.2.1 7 (p1.toNatClampNeg)) (fun (a_21 : Nat) => if p2 = 8 then (gd (1 ≤ σ_17.2.2.2.2.1) (gd (1 ≤ σ_17.2.2.2.2.2) (nm (σ_17.2.2.2.1) (fun (a_52 : Nat) => nm (sN σ_17 (.inr (20, [.null])) 1) (fun (σ_51 : ZS) => bd (fX22_init w σ_51 a_52 p3) (fun _ σ_56 => bo (oShelf (σ_56.2.2.1 a_21)) (fun (o_57 : Option Nat) => nm (sP σ_56 a_21 (.inr (5, [.ref a_52]))) (fun (σ_60 : ZS) => some (1, σ_60))))))))) else (if p2 = 16 then (gd (1 ≤ σ_17.2.2.2.2.1) (gd (1 ≤ σ_17.2.2.2.2.2) (nm (σ_17.2.2.2.1) (fun (a_40 : Nat) => nm (sN σ_17 (.inr (21, [.null])) 1) (fun (σ_39 : ZS) => bd (fX23_init w σ_39 a_40 p3) (fun _ σ_44 => bo (oShelf (σ_44.2.2.1 a_21)) (fun (o_45 : Option Nat) => nm (sP σ_44 a_21 (.inr (5, [.ref a_40]))) (fun (σ_48 : ZS) => some (1, σ_48))))))))) else (gd (1 ≤ σ_17.2.2.2.2.1) (gd (1 ≤ σ_17.2.2.2.2.2) (nm (σ_17.2.2.2.1) (fun (a_28 : Nat) => nm (sN σ_17 (.inr (22, [.null])) 1) (fun (σ_27 : ZS) => bd (fX24_init w σ_27 a_28 p3) (fun _ σ_32 => bo (oShelf (σ_32.2.2.1 a_21)) (fun (o_33 : Option Nat) => nm (sP σ_32 a_21 (.inr (5, [.ref a_28]))) (fun (σ_36 : ZS) => some (1, σ_36))))))))))))) (fun _ => bd (fX0_finds σ_17) (fun r_61 σ_63 => some (r_61, σ_63)))))) (fun _ => bd (fX0_finds σ_11) (fun r_65 σ_67 => some (r_65, σ_67))))))) (fun _ => bd (fX0_finds σ_4) (fun r_76 σ_78 => some (r_76, σ_78)))))
set_option maxHeartbeats 4000000 in
set_option maxRecDepth 100000 in
theorem tX0_sheet (l : Launch) (w : ZW) {σ σ' : ZS} {p1 : Int32} {p2 : Int32} {p3 : Int32} {r : Int32} (hf : fX0_sheet w σ p1 p2 p3 = some (r, σ')) : zC l w zLx yX0_sheet (wsW_ yX0_sheet cX0_sheet 5 (some .int) [(0, 43, 127, 8), (44, 126, 127, 8)]) 3 39 [.ref (w.2.2 0), .int p1, .int p2, .int p3] σ (.returned (some (.int r))) σ' := by
  refine zC.ofW (plainFor_of_name (by decide)) (Nat.le_of_ble_eq_true rfl) ?_
  intro p e s m args below meth c C hnm
  show Z p l e _ s m args below meth c _ w _ _ 5 σ 0 [(0, .ref (w.2.2 0)), (1, .int p1), (2, .int p2), (3, .int p3)] []
  unfold fX0_sheet at hf
  refine z_aload_n C 0 dX0_sheet_0 rfl rfl ?_
  refine z_iload_n C 1 dX0_sheet_1 rfl rfl ?_
  refine z_calli C (rest := [.ref (w.2.2 0)]) (av := [.int p1]) (zPay.of q1008 q74) (fun H ls hH h2 => zInv_S C (As := [.int p1]) (rest := [.ref (w.2.2 0)]) q1006 q1007 q74 (Or.inl rfl) q1008 mh_X0 np_X0_isSheet dX0_sheet_2) (tX0_isSheet l w zLx σ p1) (Nat.le_of_ble_eq_true rfl) (Nat.le_of_ble_eq_true rfl) ?_
  obtain ⟨j_1, ej_1, hf⟩ := nmo_ hf
  have hj_1 : j_1 = 0 ∨ j_1 = 1 := by rw [ej_1]; (try dsimp only [nm]); (repeat' split) <;> first | exact Or.inl rfl | exact Or.inr rfl
  have hjj_1 : Z p l e (zRm 3 39 σ) s m args below meth c (zQ below w zLx σ (.returned (some (.int r))) σ' args s) w zLx (zA w zLx σ) 5 σ 24 [(0, .ref (w.2.2 0)), (1, .int p1), (2, .int p2), (3, .int p3)] [.int j_1, .ref (w.2.2 0)] := by
    refine z_iconst C 1 dX0_sheet_24 (by decide) ?_
    obtain ⟨r_2, σ_4, e_3, hf⟩ := bd_ hf
    rcases r_2 with ⟨⟩ | ⟨⟩
    · dsimp only [sc] at hf
      refine z_callv C (rest := []) (av := (.ref (w.2.2 0) :: [.int j_1, .int 1])) (zPay.of q354 q74) (fun H ls hH h2 => zInv_V C (As := [.int j_1, .int 1]) (rest := []) (ci := 0) (T := TX0) (N := 8) rfl (zSee.fix ly_x0) hH q351 q353 qs1 (Or.inl rfl) q354 mh_X0 np_X0_need dX0_sheet_25) (tX0_need l w e_3) (Nat.le_of_ble_eq_true rfl) (Nat.le_of_ble_eq_true rfl) ?_
      refine z_iload_n C 2 dX0_sheet_28 rfl rfl ?_
      refine z_if_ne C 44 dX0_sheet_29 (by decide) (fun c_7 => ?_) (fun c_7 => ?_)
      · replace hf := if_f c_7 hf
        refine z_aload_n C 0 dX0_sheet_44 rfl rfl ?_
        refine z_iload_n C 3 dX0_sheet_45 rfl rfl ?_
        obtain ⟨j_8, ej_8, hf⟩ := nmo_ hf
        have hj_8 : j_8 = 0 ∨ j_8 = 1 := by rw [ej_8]; (try dsimp only [nm]); (repeat' split) <;> first | exact Or.inl rfl | exact Or.inr rfl
        have hjj_8 : Z p l e (zRm 3 39 σ) s m args below meth c (zQ below w zLx σ (.returned (some (.int r))) σ' args s) w zLx (zA w zLx σ) 5 σ_4 54 [(0, .ref (w.2.2 0)), (1, .int p1), (2, .int p2), (3, .int p3)] [.int j_8, .ref (w.2.2 0)] := by
          refine z_iconst C 3 dX0_sheet_54 (by decide) ?_
          obtain ⟨r_9, σ_11, e_10, hf⟩ := bd_ hf
          rcases r_9 with ⟨⟩ | ⟨⟩
          · dsimp only [sc] at hf
            refine z_callv C (rest := []) (av := (.ref (w.2.2 0) :: [.int j_8, .int 3])) (zPay.of q354 q74) (fun H ls hH h2 => zInv_V C (As := [.int j_8, .int 3]) (rest := []) (ci := 0) (T := TX0) (N := 8) rfl (zSee.fix ly_x0) hH q351 q353 qs1 (Or.inl rfl) q354 mh_X0 np_X0_need dX0_sheet_55) (tX0_need l w e_10) (Nat.le_of_ble_eq_true rfl) (Nat.le_of_ble_eq_true rfl) ?_
            refine z_aload_n C 0 dX0_sheet_58 rfl rfl ?_
            refine z_iload_n C 3 dX0_sheet_59 rfl rfl ?_
            refine z_bipush C 40 dX0_sheet_60 (by decide) ?_
            obtain ⟨j_14, ej_14, hf⟩ := nmo_ hf
            have hj_14 : j_14 = 0 ∨ j_14 = 1 := by rw [ej_14]; (try dsimp only [nm]); (repeat' split) <;> first | exact Or.inl rfl | exact Or.inr rfl
            have hjj_14 : Z p l e (zRm 3 39 σ) s m args below meth c (zQ below w zLx σ (.returned (some (.int r))) σ' args s) w zLx (zA w zLx σ) 5 σ_11 70 [(0, .ref (w.2.2 0)), (1, .int p1), (2, .int p2), (3, .int p3)] [.int j_14, .ref (w.2.2 0)] := by
              refine z_iconst C 1 dX0_sheet_70 (by decide) ?_
              obtain ⟨r_15, σ_17, e_16, hf⟩ := bd_ hf
              rcases r_15 with ⟨⟩ | ⟨⟩
              · dsimp only [sc] at hf
                refine z_callv C (rest := []) (av := (.ref (w.2.2 0) :: [.int j_14, .int 1])) (zPay.of q354 q74) (fun H ls hH h2 => zInv_V C (As := [.int j_14, .int 1]) (rest := []) (ci := 0) (T := TX0) (N := 8) rfl (zSee.fix ly_x0) hH q351 q353 qs1 (Or.inl rfl) q354 mh_X0 np_X0_need dX0_sheet_71) (tX0_need l w e_16) (Nat.le_of_ble_eq_true rfl) (Nat.le_of_ble_eq_true rfl) ?_
                refine z_aload_n C 0 dX0_sheet_74 rfl rfl ?_
                refine z_getR C ly_x0 (Cn := RX0) (T := TX0) (N := 8) rfl in_X0 7 (by decide) q326 (Or.inl rfl) rfl dX0_sheet_75 ?_
                refine z_iload_n C 1 dX0_sheet_78 rfl rfl ?_
                obtain ⟨g_20, hf⟩ := gd_ hf
                refine z_aaloadF C ly_x7 rfl g_20 dX0_sheet_79 ?_
                obtain ⟨a_21, e_22, hf⟩ := bo_ hf
                refine z_eq (rf_s e_22) ?_
                refine z_iload_n C 2 dX0_sheet_80 rfl rfl ?_
                refine z_bipush C 8 dX0_sheet_81 (by decide) ?_
                refine z_icmp_ne C 97 dX0_sheet_83 (by decide) (fun c_23 => ?_) (fun c_23 => ?_)
                · replace hf := if_f c_23 hf
                  refine z_iload_n C 2 dX0_sheet_97 rfl rfl ?_
                  refine z_bipush C 16 dX0_sheet_98 (by decide) ?_
                  refine z_icmp_ne C 114 dX0_sheet_100 (by decide) (fun c_24 => ?_) (fun c_24 => ?_)
                  · replace hf := if_f c_24 hf
                    obtain ⟨g_25, hf⟩ := gd_ hf
                    obtain ⟨g_26, hf⟩ := gd_ hf
                    refine z_new C (ci := 22) (Cn := RX24) (T := TX24) (N := 1) rfl in_X24 tyX24 tyX24_ok q1304 q1305 q109 [.null] (fun j hj => by rcases (show j = 0 by omega) with rfl <;> rfl) g_25 g_26 dX0_sheet_114 ?_
                    obtain ⟨a_28, ea_28, hf⟩ := nmo_ hf
                    refine z_eq (congrArg Value.ref ea_28.symm) ?_
                    obtain ⟨σ_27, eσ_27, hf⟩ := nmo_ hf
                    refine z_w eσ_27.symm ?_
                    refine z_dup C dX0_sheet_117 rfl ?_
                    refine z_iload_n C 3 dX0_sheet_118 rfl rfl ?_
                    obtain ⟨⟨⟩, σ_32, e_31, hf⟩ := bd_ hf
                    refine z_callv C (rest := [.ref a_28, .ref a_21]) (av := (.ref a_28 :: [.int p3])) (zPay.of q1308 q109) (fun H ls hH h2 => zInv_I C (As := [.int p3]) (rest := [.ref a_28, .ref a_21]) q1306 q1307 q1308 rfl mh_X24 np_X24_init dX0_sheet_119) (tX24_init l w e_31) (Nat.le_of_ble_eq_true rfl) (Nat.le_of_ble_eq_true rfl) ?_
                    obtain ⟨o_33, e_34, hf⟩ := bo_ hf
                    have hP_35 := oShelf_ e_34
                    refine z_putP C hP_35 (zPutN C (T := TX5) (N := 1) rfl in_X5 tyX5 tyX5_ok nmX5 0 (by decide) q315 (Or.inl rfl) rfl rfl rfl (Nat.le_of_ble_eq_true rfl) dX0_sheet_122) ?_
                    obtain ⟨σ_36, eσ_36, hf⟩ := nmo_ hf
                    refine z_w eσ_36.symm ?_
                    refine z_iconst C 1 dX0_sheet_125 (by decide) ?_
                    obtain ⟨rfl, rfl⟩ := fin_ hf
                    exact z_iret C rfl dX0_sheet_126
                  · replace hf := if_t c_24 hf
                    obtain ⟨g_37, hf⟩ := gd_ hf
                    obtain ⟨g_38, hf⟩ := gd_ hf
                    refine z_new C (ci := 21) (Cn := RX23) (T := TX23) (N := 1) rfl in_X23 tyX23 tyX23_ok q1293 q1294 q108 [.null] (fun j hj => by rcases (show j = 0 by omega) with rfl <;> rfl) g_37 g_38 dX0_sheet_103 ?_
                    obtain ⟨a_40, ea_40, hf⟩ := nmo_ hf
                    refine z_eq (congrArg Value.ref ea_40.symm) ?_
                    obtain ⟨σ_39, eσ_39, hf⟩ := nmo_ hf
                    refine z_w eσ_39.symm ?_
                    refine z_dup C dX0_sheet_106 rfl ?_
                    refine z_iload_n C 3 dX0_sheet_107 rfl rfl ?_
                    obtain ⟨⟨⟩, σ_44, e_43, hf⟩ := bd_ hf
                    refine z_callv C (rest := [.ref a_40, .ref a_21]) (av := (.ref a_40 :: [.int p3])) (zPay.of q1297 q108) (fun H ls hH h2 => zInv_I C (As := [.int p3]) (rest := [.ref a_40, .ref a_21]) q1295 q1296 q1297 rfl mh_X23 np_X23_init dX0_sheet_108) (tX23_init l w e_43) (Nat.le_of_ble_eq_true rfl) (Nat.le_of_ble_eq_true rfl) ?_
                    refine z_goto C 122 dX0_sheet_111 (by decide) ?_
                    obtain ⟨o_45, e_46, hf⟩ := bo_ hf
                    have hP_47 := oShelf_ e_46
                    refine z_putP C hP_47 (zPutN C (T := TX5) (N := 1) rfl in_X5 tyX5 tyX5_ok nmX5 0 (by decide) q315 (Or.inl rfl) rfl rfl rfl (Nat.le_of_ble_eq_true rfl) dX0_sheet_122) ?_
                    obtain ⟨σ_48, eσ_48, hf⟩ := nmo_ hf
                    refine z_w eσ_48.symm ?_
                    refine z_iconst C 1 dX0_sheet_125 (by decide) ?_
                    obtain ⟨rfl, rfl⟩ := fin_ hf
                    exact z_iret C rfl dX0_sheet_126
                · replace hf := if_t c_23 hf
                  obtain ⟨g_49, hf⟩ := gd_ hf
                  obtain ⟨g_50, hf⟩ := gd_ hf
                  refine z_new C (ci := 20) (Cn := RX22) (T := TX22) (N := 1) rfl in_X22 tyX22 tyX22_ok q1280 q1281 q107 [.null] (fun j hj => by rcases (show j = 0 by omega) with rfl <;> rfl) g_49 g_50 dX0_sheet_86 ?_
                  obtain ⟨a_52, ea_52, hf⟩ := nmo_ hf
                  refine z_eq (congrArg Value.ref ea_52.symm) ?_
                  obtain ⟨σ_51, eσ_51, hf⟩ := nmo_ hf
                  refine z_w eσ_51.symm ?_
                  refine z_dup C dX0_sheet_89 rfl ?_
                  refine z_iload_n C 3 dX0_sheet_90 rfl rfl ?_
                  obtain ⟨⟨⟩, σ_56, e_55, hf⟩ := bd_ hf
                  refine z_callv C (rest := [.ref a_52, .ref a_21]) (av := (.ref a_52 :: [.int p3])) (zPay.of q1284 q107) (fun H ls hH h2 => zInv_I C (As := [.int p3]) (rest := [.ref a_52, .ref a_21]) q1282 q1283 q1284 rfl mh_X22 np_X22_init dX0_sheet_91) (tX22_init l w e_55) (Nat.le_of_ble_eq_true rfl) (Nat.le_of_ble_eq_true rfl) ?_
                  refine z_goto C 122 dX0_sheet_94 (by decide) ?_
                  obtain ⟨o_57, e_58, hf⟩ := bo_ hf
                  have hP_59 := oShelf_ e_58
                  refine z_putP C hP_59 (zPutN C (T := TX5) (N := 1) rfl in_X5 tyX5 tyX5_ok nmX5 0 (by decide) q315 (Or.inl rfl) rfl rfl rfl (Nat.le_of_ble_eq_true rfl) dX0_sheet_122) ?_
                  obtain ⟨σ_60, eσ_60, hf⟩ := nmo_ hf
                  refine z_w eσ_60.symm ?_
                  refine z_iconst C 1 dX0_sheet_125 (by decide) ?_
                  obtain ⟨rfl, rfl⟩ := fin_ hf
                  exact z_iret C rfl dX0_sheet_126
              · dsimp only [sc] at hf
                refine z_callt C (rest := []) (av := (.ref (w.2.2 0) :: [.int j_14, .int 1])) (zPay.of q354 q74) (fun H ls hH h2 => zInv_V C (As := [.int j_14, .int 1]) (rest := []) (ci := 0) (T := TX0) (N := 8) rfl (zSee.fix ly_x0) hH q351 q353 qs1 (Or.inl rfl) q354 mh_X0 np_X0_need dX0_sheet_71) (tX0_need l w e_16) (Nat.le_of_ble_eq_true rfl) (Nat.le_of_ble_eq_true rfl) ?_
                refine z_catch C [(0, 43, 127, 8)] 44 126 127 8 [] rfl (by decide) (by decide) (by decide) (ci := 1) (Cn := RX1) (T0 := TX1) (N := 7) rfl (zSee.fix ly_x1) q118 ?_
                refine z_astore C dX0_sheet_127 (by decide) rfl (lv' := [(4, .ref (w.2.2 1)), (0, .ref (w.2.2 0)), (1, .int p1), (2, .int p2), (3, .int p3)]) ?_
                refine z_aload_n C 1 dX0_sheet_129 rfl rfl ?_
                refine z_aload C 0 dX0_sheet_130 rfl ?_
                obtain ⟨r_61, σ_63, e_62, hf⟩ := bd_ hf
                refine z_calli C (rest := []) (av := (.ref (w.2.2 0) :: [.ref (w.2.2 1)])) (zPay.of q362 q74) (fun H ls hH h2 => zInv_V C (As := [.ref (w.2.2 1)]) (rest := []) (ci := 0) (T := TX0) (N := 8) rfl (zSee.fix ly_x0) hH q359 q361 qs2 (Or.inl rfl) q362 mh_X0 np_X0_finds dX0_sheet_132) (tX0_finds l w e_62) (Nat.le_of_ble_eq_true rfl) (Nat.le_of_ble_eq_true rfl) ?_
                obtain ⟨rfl, rfl⟩ := fin_ hf
                exact z_iret C rfl dX0_sheet_135
            replace hf := ej_14
            refine z_icmp_gt C 69 dX0_sheet_62 (by decide) (fun c_64 => ?_) (fun c_64 => ?_)
            · replace hf := ifp_t c_64 hf
              refine z_iconst C 0 dX0_sheet_69 (by decide) ?_
              subst hf
              exact hjj_14
            · replace hf := ifp_f c_64 hf
              refine z_iconst C 1 dX0_sheet_65 (by decide) ?_
              refine z_goto C 70 dX0_sheet_66 (by decide) ?_
              subst hf
              exact hjj_14
          · dsimp only [sc] at hf
            refine z_callt C (rest := []) (av := (.ref (w.2.2 0) :: [.int j_8, .int 3])) (zPay.of q354 q74) (fun H ls hH h2 => zInv_V C (As := [.int j_8, .int 3]) (rest := []) (ci := 0) (T := TX0) (N := 8) rfl (zSee.fix ly_x0) hH q351 q353 qs1 (Or.inl rfl) q354 mh_X0 np_X0_need dX0_sheet_55) (tX0_need l w e_10) (Nat.le_of_ble_eq_true rfl) (Nat.le_of_ble_eq_true rfl) ?_
            refine z_catch C [(0, 43, 127, 8)] 44 126 127 8 [] rfl (by decide) (by decide) (by decide) (ci := 1) (Cn := RX1) (T0 := TX1) (N := 7) rfl (zSee.fix ly_x1) q118 ?_
            refine z_astore C dX0_sheet_127 (by decide) rfl (lv' := [(4, .ref (w.2.2 1)), (0, .ref (w.2.2 0)), (1, .int p1), (2, .int p2), (3, .int p3)]) ?_
            refine z_aload_n C 1 dX0_sheet_129 rfl rfl ?_
            refine z_aload C 0 dX0_sheet_130 rfl ?_
            obtain ⟨r_65, σ_67, e_66, hf⟩ := bd_ hf
            refine z_calli C (rest := []) (av := (.ref (w.2.2 0) :: [.ref (w.2.2 1)])) (zPay.of q362 q74) (fun H ls hH h2 => zInv_V C (As := [.ref (w.2.2 1)]) (rest := []) (ci := 0) (T := TX0) (N := 8) rfl (zSee.fix ly_x0) hH q359 q361 qs2 (Or.inl rfl) q362 mh_X0 np_X0_finds dX0_sheet_132) (tX0_finds l w e_66) (Nat.le_of_ble_eq_true rfl) (Nat.le_of_ble_eq_true rfl) ?_
            obtain ⟨rfl, rfl⟩ := fin_ hf
            exact z_iret C rfl dX0_sheet_135
        replace hf := ej_8
        refine z_if_lt C 53 dX0_sheet_46 (by decide) (fun c_68 => ?_) (fun c_68 => ?_)
        · replace hf := ifp_t c_68 hf
          refine z_iconst C 0 dX0_sheet_53 (by decide) ?_
          subst hf
          exact hjj_8
        · replace hf := ifp_f c_68 hf
          refine z_iconst C 1 dX0_sheet_49 (by decide) ?_
          refine z_goto C 54 dX0_sheet_50 (by decide) ?_
          subst hf
          exact hjj_8
      · replace hf := if_t c_7 hf
        refine z_aload_n C 0 dX0_sheet_32 rfl rfl ?_
        refine z_getR C ly_x0 (Cn := RX0) (T := TX0) (N := 8) rfl in_X0 7 (by decide) q326 (Or.inl rfl) rfl dX0_sheet_33 ?_
        refine z_iload_n C 1 dX0_sheet_36 rfl rfl ?_
        obtain ⟨g_69, hf⟩ := gd_ hf
        refine z_aaloadF C ly_x7 rfl g_69 dX0_sheet_37 ?_
        obtain ⟨a_70, e_71, hf⟩ := bo_ hf
        refine z_eq (rf_s e_71) ?_
        refine z_null C dX0_sheet_38 ?_
        obtain ⟨o_72, e_73, hf⟩ := bo_ hf
        have hP_74 := oShelf_ e_73
        refine z_putP C hP_74 (zPutN C (T := TX5) (N := 1) rfl in_X5 tyX5 tyX5_ok nmX5 0 (by decide) q315 (Or.inl rfl) rfl rfl rfl (Nat.le_of_ble_eq_true rfl) dX0_sheet_39) ?_
        obtain ⟨σ_75, eσ_75, hf⟩ := nmo_ hf
        refine z_w eσ_75.symm ?_
        refine z_iconst C 1 dX0_sheet_42 (by decide) ?_
        obtain ⟨rfl, rfl⟩ := fin_ hf
        exact z_iret C rfl dX0_sheet_43
    · dsimp only [sc] at hf
      refine z_callt C (rest := []) (av := (.ref (w.2.2 0) :: [.int j_1, .int 1])) (zPay.of q354 q74) (fun H ls hH h2 => zInv_V C (As := [.int j_1, .int 1]) (rest := []) (ci := 0) (T := TX0) (N := 8) rfl (zSee.fix ly_x0) hH q351 q353 qs1 (Or.inl rfl) q354 mh_X0 np_X0_need dX0_sheet_25) (tX0_need l w e_3) (Nat.le_of_ble_eq_true rfl) (Nat.le_of_ble_eq_true rfl) ?_
      refine z_catch C [] 0 43 127 8 [(44, 126, 127, 8)] rfl (by decide) (by decide) (by decide) (ci := 1) (Cn := RX1) (T0 := TX1) (N := 7) rfl (zSee.fix ly_x1) q118 ?_
      refine z_astore C dX0_sheet_127 (by decide) rfl (lv' := [(4, .ref (w.2.2 1)), (0, .ref (w.2.2 0)), (1, .int p1), (2, .int p2), (3, .int p3)]) ?_
      refine z_aload_n C 1 dX0_sheet_129 rfl rfl ?_
      refine z_aload C 0 dX0_sheet_130 rfl ?_
      obtain ⟨r_76, σ_78, e_77, hf⟩ := bd_ hf
      refine z_calli C (rest := []) (av := (.ref (w.2.2 0) :: [.ref (w.2.2 1)])) (zPay.of q362 q74) (fun H ls hH h2 => zInv_V C (As := [.ref (w.2.2 1)]) (rest := []) (ci := 0) (T := TX0) (N := 8) rfl (zSee.fix ly_x0) hH q359 q361 qs2 (Or.inl rfl) q362 mh_X0 np_X0_finds dX0_sheet_132) (tX0_finds l w e_77) (Nat.le_of_ble_eq_true rfl) (Nat.le_of_ble_eq_true rfl) ?_
      obtain ⟨rfl, rfl⟩ := fin_ hf
      exact z_iret C rfl dX0_sheet_135
  replace hf := ej_1
  refine z_if_eq C 23 dX0_sheet_5 (by decide) (fun c_79 => ?_) (fun c_79 => ?_)
  · replace hf := ifp_t c_79 hf
    refine z_iconst C 0 dX0_sheet_23 (by decide) ?_
    subst hf
    exact hjj_1
  · replace hf := ifp_f c_79 hf
    refine z_iload_n C 2 dX0_sheet_8 rfl rfl ?_
    refine z_if_eq C 19 dX0_sheet_9 (by decide) (fun c_80 => ?_) (fun c_80 => ?_)
    · replace hf := ifp_t c_80 hf
      refine z_iconst C 1 dX0_sheet_19 (by decide) ?_
      refine z_goto C 24 dX0_sheet_20 (by decide) ?_
      subst hf
      exact hjj_1
    · replace hf := ifp_f c_80 hf
      refine z_iload_n C 2 dX0_sheet_12 rfl rfl ?_
      refine z_calli C (rest := [.ref (w.2.2 0)]) (av := [.int p2]) (zPay.of q1279 q74) (fun H ls hH h2 => zInv_S C (As := [.int p2]) (rest := [.ref (w.2.2 0)]) q1277 q1278 q74 (Or.inl rfl) q1279 mh_X0 np_X0_isWidth dX0_sheet_13) (tX0_isWidth l w zLx σ p2) (Nat.le_of_ble_eq_true rfl) (Nat.le_of_ble_eq_true rfl) ?_
      refine z_if_eq C 23 dX0_sheet_16 (by decide) (fun c_81 => ?_) (fun c_81 => ?_)
      · replace hf := ifp_t c_81 hf
        refine z_iconst C 0 dX0_sheet_23 (by decide) ?_
        subst hf
        exact hjj_1
      · replace hf := ifp_f c_81 hf
        refine z_iconst C 1 dX0_sheet_19 (by decide) ?_
        refine z_goto C 24 dX0_sheet_20 (by decide) ?_
        subst hf
        exact hjj_1
def fX0_put (w : ZW) (σ : ZS) (p1 : Int32) (p2 : Int32) (p3 : Int32) : Option (Int32 × ZS) := bd (fX0_need σ (fX0_isSheet p1) 1) (fun r_1 σ_3 => sc r_1 (fun _ => bd (fX0_sheetAt σ_3 p1) (fun r_6 σ_8 => sc r_6 (fun (r_9 : Nat) => bo (oSheet (σ_8.2.2.1 r_9)) (fun sh11 => bo (fS_Sheet_size w σ_8 r_9 (sh11.1) (sh11.2) ) (fun r_16 => bd (fX0_need σ_8 (fX0_in p2 0 (r_16 - 1)) 1) (fun r_18 σ_20 => sc r_18 (fun _ => gd (oSheet (σ_20.2.2.1 r_9) = some ((sh11.1), (sh11.2))) (bd (fS_Sheet_put w σ_20 r_9 (sh11.1) (sh11.2) p2 p3) (fun _ σ_27 => some (1, σ_27)))) (fun _ => bd (fX0_finds σ_20) (fun r_28 σ_30 => some (r_28, σ_30))))))) (fun _ => bd (fX0_finds σ_8) (fun r_31 σ_33 => some (r_31, σ_33))))) (fun _ => bd (fX0_finds σ_3) (fun r_34 σ_36 => some (r_34, σ_36))))
set_option maxHeartbeats 4000000 in
set_option maxRecDepth 100000 in
theorem tX0_put (l : Launch) (w : ZW) {σ σ' : ZS} {p1 : Int32} {p2 : Int32} {p3 : Int32} {r : Int32} (hf : fX0_put w σ p1 p2 p3 = some (r, σ')) : zC l w zLx yX0_put (wsW_ yX0_put cX0_put 5 (some .int) [(0, 41, 42, 8)]) 3 40 [.ref (w.2.2 0), .int p1, .int p2, .int p3] σ (.returned (some (.int r))) σ' := by
  refine zC.ofW (plainFor_of_name (by decide)) (Nat.le_of_ble_eq_true rfl) ?_
  intro p e s m args below meth c C hnm
  show Z p l e _ s m args below meth c _ w _ _ 5 σ 0 [(0, .ref (w.2.2 0)), (1, .int p1), (2, .int p2), (3, .int p3)] []
  unfold fX0_put at hf
  refine z_aload_n C 0 dX0_put_0 rfl rfl ?_
  refine z_iload_n C 1 dX0_put_1 rfl rfl ?_
  refine z_calli C (rest := [.ref (w.2.2 0)]) (av := [.int p1]) (zPay.of q1008 q74) (fun H ls hH h2 => zInv_S C (As := [.int p1]) (rest := [.ref (w.2.2 0)]) q1006 q1007 q74 (Or.inl rfl) q1008 mh_X0 np_X0_isSheet dX0_put_2) (tX0_isSheet l w zLx σ p1) (Nat.le_of_ble_eq_true rfl) (Nat.le_of_ble_eq_true rfl) ?_
  refine z_iconst C 1 dX0_put_5 (by decide) ?_
  obtain ⟨r_1, σ_3, e_2, hf⟩ := bd_ hf
  rcases r_1 with ⟨⟩ | ⟨⟩
  · dsimp only [sc] at hf
    refine z_callv C (rest := []) (av := (.ref (w.2.2 0) :: [.int (fX0_isSheet p1), .int 1])) (zPay.of q354 q74) (fun H ls hH h2 => zInv_V C (As := [.int (fX0_isSheet p1), .int 1]) (rest := []) (ci := 0) (T := TX0) (N := 8) rfl (zSee.fix ly_x0) hH q351 q353 qs1 (Or.inl rfl) q354 mh_X0 np_X0_need dX0_put_6) (tX0_need l w e_2) (Nat.le_of_ble_eq_true rfl) (Nat.le_of_ble_eq_true rfl) ?_
    refine z_aload_n C 0 dX0_put_9 rfl rfl ?_
    refine z_iload_n C 1 dX0_put_10 rfl rfl ?_
    obtain ⟨r_6, σ_8, e_7, hf⟩ := bd_ hf
    rcases r_6 with r_9 | ⟨⟩
    · dsimp only [sc] at hf
      refine z_callr C (rest := []) (av := (.ref (w.2.2 0) :: [.int p1])) (zPay.of q1012 q74) (fun H ls hH h2 => zInv_V C (As := [.int p1]) (rest := []) (ci := 0) (T := TX0) (N := 8) rfl (zSee.fix ly_x0) hH q1009 q1011 qs25 (Or.inl rfl) q1012 mh_X0 np_X0_sheetAt dX0_put_11) (tX0_sheetAt l w e_7) (Nat.le_of_ble_eq_true rfl) (Nat.le_of_ble_eq_true rfl) ?_
      refine z_astore C dX0_put_14 (by decide) rfl (lv' := [(4, .ref r_9), (0, .ref (w.2.2 0)), (1, .int p1), (2, .int p2), (3, .int p3)]) ?_
      refine z_aload_n C 1 dX0_put_16 rfl rfl ?_
      refine z_iload_n C 3 dX0_put_17 rfl rfl ?_
      refine z_iconst C 0 dX0_put_18 (by decide) ?_
      refine z_aload C 0 dX0_put_19 rfl ?_
      obtain ⟨⟨ci_11, r_12⟩, e_13, hf⟩ := bo_ hf
      try dsimp only at hf
      obtain ⟨hP_14, hci_15⟩ := oSheet_ e_13
      obtain ⟨r_16, e_17, hf⟩ := bo_ hf
      refine z_Sh_size C hci_15 hP_14 q1014 e_17 dX0_put_21 (Nat.le_of_ble_eq_true rfl) (Nat.le_of_ble_eq_true rfl) ?_
      refine z_iconst C 1 dX0_put_24 (by decide) ?_
      refine z_isub C dX0_put_25 ?_
      refine z_calli C (rest := [.ref (w.2.2 0)]) (av := [.int p2, .int 0, .int (r_16 - 1)]) (zPay.of q350 q74) (fun H ls hH h2 => zInv_S C (As := [.int p2, .int 0, .int (r_16 - 1)]) (rest := [.ref (w.2.2 0)]) q348 q349 q74 (Or.inl rfl) q350 mh_X0 np_X0_in dX0_put_26) (tX0_in l w zLx σ_8 p2 0 (r_16 - 1)) (Nat.le_of_ble_eq_true rfl) (Nat.le_of_ble_eq_true rfl) ?_
      refine z_iconst C 1 dX0_put_29 (by decide) ?_
      obtain ⟨r_18, σ_20, e_19, hf⟩ := bd_ hf
      rcases r_18 with ⟨⟩ | ⟨⟩
      · dsimp only [sc] at hf
        refine z_callv C (rest := []) (av := (.ref (w.2.2 0) :: [.int (fX0_in p2 0 (r_16 - 1)), .int 1])) (zPay.of q354 q74) (fun H ls hH h2 => zInv_V C (As := [.int (fX0_in p2 0 (r_16 - 1)), .int 1]) (rest := []) (ci := 0) (T := TX0) (N := 8) rfl (zSee.fix ly_x0) hH q351 q353 qs1 (Or.inl rfl) q354 mh_X0 np_X0_need dX0_put_30) (tX0_need l w e_19) (Nat.le_of_ble_eq_true rfl) (Nat.le_of_ble_eq_true rfl) ?_
        refine z_aload C 0 dX0_put_33 rfl ?_
        refine z_iload_n C 3 dX0_put_35 rfl rfl ?_
        refine z_iload_n C 4 dX0_put_36 rfl rfl ?_
        obtain ⟨g_23, hf⟩ := gd_ hf
        have hP_24 := (oSheet_ g_23).1
        obtain ⟨⟨⟩, σ_27, e_26, hf⟩ := bd_ hf
        refine z_Sh_put C hci_15 hP_24 q1318 e_26 dX0_put_37 (Nat.le_of_ble_eq_true rfl) (Nat.le_of_ble_eq_true rfl) ?_
        refine z_iconst C 1 dX0_put_40 (by decide) ?_
        obtain ⟨rfl, rfl⟩ := fin_ hf
        exact z_iret C rfl dX0_put_41
      · dsimp only [sc] at hf
        refine z_callt C (rest := []) (av := (.ref (w.2.2 0) :: [.int (fX0_in p2 0 (r_16 - 1)), .int 1])) (zPay.of q354 q74) (fun H ls hH h2 => zInv_V C (As := [.int (fX0_in p2 0 (r_16 - 1)), .int 1]) (rest := []) (ci := 0) (T := TX0) (N := 8) rfl (zSee.fix ly_x0) hH q351 q353 qs1 (Or.inl rfl) q354 mh_X0 np_X0_need dX0_put_30) (tX0_need l w e_19) (Nat.le_of_ble_eq_true rfl) (Nat.le_of_ble_eq_true rfl) ?_
        refine z_catch C [] 0 41 42 8 [] rfl (by decide) (by decide) (by decide) (ci := 1) (Cn := RX1) (T0 := TX1) (N := 7) rfl (zSee.fix ly_x1) q118 ?_
        refine z_astore C dX0_put_42 (by decide) rfl (lv' := [(4, .ref (w.2.2 1)), (0, .ref (w.2.2 0)), (1, .int p1), (2, .int p2), (3, .int p3)]) ?_
        refine z_aload_n C 1 dX0_put_44 rfl rfl ?_
        refine z_aload C 0 dX0_put_45 rfl ?_
        obtain ⟨r_28, σ_30, e_29, hf⟩ := bd_ hf
        refine z_calli C (rest := []) (av := (.ref (w.2.2 0) :: [.ref (w.2.2 1)])) (zPay.of q362 q74) (fun H ls hH h2 => zInv_V C (As := [.ref (w.2.2 1)]) (rest := []) (ci := 0) (T := TX0) (N := 8) rfl (zSee.fix ly_x0) hH q359 q361 qs2 (Or.inl rfl) q362 mh_X0 np_X0_finds dX0_put_47) (tX0_finds l w e_29) (Nat.le_of_ble_eq_true rfl) (Nat.le_of_ble_eq_true rfl) ?_
        obtain ⟨rfl, rfl⟩ := fin_ hf
        exact z_iret C rfl dX0_put_50
    · dsimp only [sc] at hf
      refine z_callt C (rest := []) (av := (.ref (w.2.2 0) :: [.int p1])) (zPay.of q1012 q74) (fun H ls hH h2 => zInv_V C (As := [.int p1]) (rest := []) (ci := 0) (T := TX0) (N := 8) rfl (zSee.fix ly_x0) hH q1009 q1011 qs25 (Or.inl rfl) q1012 mh_X0 np_X0_sheetAt dX0_put_11) (tX0_sheetAt l w e_7) (Nat.le_of_ble_eq_true rfl) (Nat.le_of_ble_eq_true rfl) ?_
      refine z_catch C [] 0 41 42 8 [] rfl (by decide) (by decide) (by decide) (ci := 1) (Cn := RX1) (T0 := TX1) (N := 7) rfl (zSee.fix ly_x1) q118 ?_
      refine z_astore C dX0_put_42 (by decide) rfl (lv' := [(4, .ref (w.2.2 1)), (0, .ref (w.2.2 0)), (1, .int p1), (2, .int p2), (3, .int p3)]) ?_
      refine z_aload_n C 1 dX0_put_44 rfl rfl ?_
      refine z_aload C 0 dX0_put_45 rfl ?_
      obtain ⟨r_31, σ_33, e_32, hf⟩ := bd_ hf
      refine z_calli C (rest := []) (av := (.ref (w.2.2 0) :: [.ref (w.2.2 1)])) (zPay.of q362 q74) (fun H ls hH h2 => zInv_V C (As := [.ref (w.2.2 1)]) (rest := []) (ci := 0) (T := TX0) (N := 8) rfl (zSee.fix ly_x0) hH q359 q361 qs2 (Or.inl rfl) q362 mh_X0 np_X0_finds dX0_put_47) (tX0_finds l w e_32) (Nat.le_of_ble_eq_true rfl) (Nat.le_of_ble_eq_true rfl) ?_
      obtain ⟨rfl, rfl⟩ := fin_ hf
      exact z_iret C rfl dX0_put_50
  · dsimp only [sc] at hf
    refine z_callt C (rest := []) (av := (.ref (w.2.2 0) :: [.int (fX0_isSheet p1), .int 1])) (zPay.of q354 q74) (fun H ls hH h2 => zInv_V C (As := [.int (fX0_isSheet p1), .int 1]) (rest := []) (ci := 0) (T := TX0) (N := 8) rfl (zSee.fix ly_x0) hH q351 q353 qs1 (Or.inl rfl) q354 mh_X0 np_X0_need dX0_put_6) (tX0_need l w e_2) (Nat.le_of_ble_eq_true rfl) (Nat.le_of_ble_eq_true rfl) ?_
    refine z_catch C [] 0 41 42 8 [] rfl (by decide) (by decide) (by decide) (ci := 1) (Cn := RX1) (T0 := TX1) (N := 7) rfl (zSee.fix ly_x1) q118 ?_
    refine z_astore C dX0_put_42 (by decide) rfl (lv' := [(4, .ref (w.2.2 1)), (0, .ref (w.2.2 0)), (1, .int p1), (2, .int p2), (3, .int p3)]) ?_
    refine z_aload_n C 1 dX0_put_44 rfl rfl ?_
    refine z_aload C 0 dX0_put_45 rfl ?_
    obtain ⟨r_34, σ_36, e_35, hf⟩ := bd_ hf
    refine z_calli C (rest := []) (av := (.ref (w.2.2 0) :: [.ref (w.2.2 1)])) (zPay.of q362 q74) (fun H ls hH h2 => zInv_V C (As := [.ref (w.2.2 1)]) (rest := []) (ci := 0) (T := TX0) (N := 8) rfl (zSee.fix ly_x0) hH q359 q361 qs2 (Or.inl rfl) q362 mh_X0 np_X0_finds dX0_put_47) (tX0_finds l w e_35) (Nat.le_of_ble_eq_true rfl) (Nat.le_of_ble_eq_true rfl) ?_
    obtain ⟨rfl, rfl⟩ := fin_ hf
    exact z_iret C rfl dX0_put_50
def fX0_image (σ : ZS) : Option (Int32 × ZS) := bd (fX2_become σ 200 100) (fun _ σ_3 => nm ((σ_3.1 0 4) + 1) (fun (f_4 : Int32) => some ((sI σ_3 0 4 f_4).1 0 4, sI σ_3 0 4 f_4)))
set_option maxHeartbeats 4000000 in
set_option maxRecDepth 100000 in
theorem tX0_image (l : Launch) (w : ZW) {σ σ' : ZS} {r : Int32} (hf : fX0_image σ = some (r, σ')) : zC l w zLx yX0_image (ws_ yX0_image cX0_image 2 (some .int)) 2 324 [.ref (w.2.2 0)] σ (.returned (some (.int r))) σ' := by
  refine zC.of (plainFor_of_name (by decide)) (Nat.le_of_ble_eq_true rfl) ?_
  intro p e s m args below meth c C hnm
  show Z p l e _ s m args below meth c _ w _ _ 2 σ 0 [(0, .ref (w.2.2 0))] []
  unfold fX0_image at hf
  refine z_aload_n C 0 dX0_image_0 rfl rfl ?_
  refine z_getR C ly_x0 (Cn := RX0) (T := TX0) (N := 8) rfl in_X0 2 (by decide) q321 (Or.inl rfl) rfl dX0_image_1 ?_
  refine z_aload_n C 0 dX0_image_4 rfl rfl ?_
  refine z_getR C ly_x0 (Cn := RX0) (T := TX0) (N := 8) rfl in_X0 1 (by decide) q320 (Or.inl rfl) rfl dX0_image_5 ?_
  obtain ⟨⟨⟩, σ_3, e_2, hf⟩ := bd_ hf
  refine z_callr C (rest := []) (av := (.ref (w.2.2 200) :: [.ref (w.2.2 100)])) (zPay.of q972 q79) (fun H ls hH h2 => zInv_V C (As := [.ref (w.2.2 100)]) (rest := []) (ci := 2) (T := TX2) (N := 20) rfl (zSee.fix (ly_b0 zb200)) hH q969 q970 q971 (Or.inl rfl) q972 mh_X2 np_X2_become dX0_image_8) (tX2_become l w zb200 zb100 e_2) (Nat.le_of_ble_eq_true rfl) (Nat.le_of_ble_eq_true rfl) ?_
  refine z_astore_n C dX0_image_11 rfl (by decide) rfl (lv' := [(1, .ref (w.2.2 200)), (0, .ref (w.2.2 0))]) ?_
  refine z_aload_n C 1 dX0_image_12 rfl rfl ?_
  refine z_dup C dX0_image_13 rfl ?_
  refine z_getI C ly_x0 (Cn := RX0) (T := TX0) (N := 8) rfl in_X0 4 (by decide) q323 (Or.inl rfl) rfl dX0_image_14 ?_
  refine z_iconst C 1 dX0_image_17 (by decide) ?_
  refine z_iadd C dX0_image_18 ?_
  obtain ⟨f_4, ef_4, hf⟩ := nmo_ hf
  refine z_top ef_4 ?_
  refine z_putI C ly_x0 (k := 4) rfl (zPut C (Cn := RX0) (T := TX0) (N := 8) rfl in_X0 tyX0 tyX0_ok nmX0 4 (by decide) q323 (Or.inl rfl) rfl rfl rfl (zFs_lt (Nat.le_of_ble_eq_true rfl)) dX0_image_19) ?_
  refine z_aload_n C 1 dX0_image_22 rfl rfl ?_
  refine z_getI C ly_x0 (Cn := RX0) (T := TX0) (N := 8) rfl in_X0 4 (by decide) q323 (Or.inl rfl) rfl dX0_image_23 ?_
  obtain ⟨rfl, rfl⟩ := fin_ hf
  exact z_iret C rfl dX0_image_26
def fX0_restore (σ : ZS) : Option (Int32 × ZS) := nm (if (σ.1 0 4) ≤ 0 then 0 else 1) (fun (j_1 : Int32) => bd (fX0_need σ j_1 2) (fun r_2 σ_4 => sc r_2 (fun _ => bd (fX2_become σ_4 100 200) (fun _ σ_9 => some (σ_9.1 100 7, σ_9))) (fun _ => bd (fX0_finds σ_4) (fun r_10 σ_12 => some (r_10, σ_12)))))
set_option maxHeartbeats 4000000 in
set_option maxRecDepth 100000 in
theorem tX0_restore (l : Launch) (w : ZW) {σ σ' : ZS} {r : Int32} (hf : fX0_restore σ = some (r, σ')) : zC l w zLx yX0_restore (wsW_ yX0_restore cX0_restore 2 (some .int) [(0, 31, 32, 8)]) 2 324 [.ref (w.2.2 0)] σ (.returned (some (.int r))) σ' := by
  refine zC.ofW (plainFor_of_name (by decide)) (Nat.le_of_ble_eq_true rfl) ?_
  intro p e s m args below meth c C hnm
  show Z p l e _ s m args below meth c _ w _ _ 2 σ 0 [(0, .ref (w.2.2 0))] []
  unfold fX0_restore at hf
  refine z_aload_n C 0 dX0_restore_0 rfl rfl ?_
  refine z_aload_n C 0 dX0_restore_1 rfl rfl ?_
  refine z_getI C ly_x0 (Cn := RX0) (T := TX0) (N := 8) rfl in_X0 4 (by decide) q323 (Or.inl rfl) rfl dX0_restore_2 ?_
  obtain ⟨j_1, ej_1, hf⟩ := nmo_ hf
  have hj_1 : j_1 = 0 ∨ j_1 = 1 := by rw [ej_1]; (try dsimp only [nm]); (repeat' split) <;> first | exact Or.inl rfl | exact Or.inr rfl
  have hjj_1 : Z p l e (zRm 2 324 σ) s m args below meth c (zQ below w zLx σ (.returned (some (.int r))) σ' args s) w zLx (zA w zLx σ) 2 σ 13 [(0, .ref (w.2.2 0))] [.int j_1, .ref (w.2.2 0)] := by
    refine z_iconst C 2 dX0_restore_13 (by decide) ?_
    obtain ⟨r_2, σ_4, e_3, hf⟩ := bd_ hf
    rcases r_2 with ⟨⟩ | ⟨⟩
    · dsimp only [sc] at hf
      refine z_callv C (rest := []) (av := (.ref (w.2.2 0) :: [.int j_1, .int 2])) (zPay.of q354 q74) (fun H ls hH h2 => zInv_V C (As := [.int j_1, .int 2]) (rest := []) (ci := 0) (T := TX0) (N := 8) rfl (zSee.fix ly_x0) hH q351 q353 qs1 (Or.inl rfl) q354 mh_X0 np_X0_need dX0_restore_14) (tX0_need l w e_3) (Nat.le_of_ble_eq_true rfl) (Nat.le_of_ble_eq_true rfl) ?_
      refine z_aload_n C 0 dX0_restore_17 rfl rfl ?_
      refine z_getR C ly_x0 (Cn := RX0) (T := TX0) (N := 8) rfl in_X0 1 (by decide) q320 (Or.inl rfl) rfl dX0_restore_18 ?_
      refine z_aload_n C 0 dX0_restore_21 rfl rfl ?_
      refine z_getR C ly_x0 (Cn := RX0) (T := TX0) (N := 8) rfl in_X0 2 (by decide) q321 (Or.inl rfl) rfl dX0_restore_22 ?_
      obtain ⟨⟨⟩, σ_9, e_8, hf⟩ := bd_ hf
      refine z_callr C (rest := []) (av := (.ref (w.2.2 100) :: [.ref (w.2.2 200)])) (zPay.of q972 q79) (fun H ls hH h2 => zInv_V C (As := [.ref (w.2.2 200)]) (rest := []) (ci := 2) (T := TX2) (N := 20) rfl (zSee.fix (ly_b0 zb100)) hH q969 q970 q971 (Or.inl rfl) q972 mh_X2 np_X2_become dX0_restore_25) (tX2_become l w zb100 zb200 e_8) (Nat.le_of_ble_eq_true rfl) (Nat.le_of_ble_eq_true rfl) ?_
      refine z_getIN C (ly_b0 zb100) (Cn := RX2) (T := TX2) (N := 20) rfl in_X2 7 (by decide) q228 (Or.inl rfl) rfl dX0_restore_28 ?_
      obtain ⟨rfl, rfl⟩ := fin_ hf
      exact z_iret C rfl dX0_restore_31
    · dsimp only [sc] at hf
      refine z_callt C (rest := []) (av := (.ref (w.2.2 0) :: [.int j_1, .int 2])) (zPay.of q354 q74) (fun H ls hH h2 => zInv_V C (As := [.int j_1, .int 2]) (rest := []) (ci := 0) (T := TX0) (N := 8) rfl (zSee.fix ly_x0) hH q351 q353 qs1 (Or.inl rfl) q354 mh_X0 np_X0_need dX0_restore_14) (tX0_need l w e_3) (Nat.le_of_ble_eq_true rfl) (Nat.le_of_ble_eq_true rfl) ?_
      refine z_catch C [] 0 31 32 8 [] rfl (by decide) (by decide) (by decide) (ci := 1) (Cn := RX1) (T0 := TX1) (N := 7) rfl (zSee.fix ly_x1) q118 ?_
      refine z_astore_n C dX0_restore_32 rfl (by decide) rfl (lv' := [(1, .ref (w.2.2 1)), (0, .ref (w.2.2 0))]) ?_
      refine z_aload_n C 1 dX0_restore_33 rfl rfl ?_
      refine z_aload_n C 0 dX0_restore_34 rfl rfl ?_
      obtain ⟨r_10, σ_12, e_11, hf⟩ := bd_ hf
      refine z_calli C (rest := []) (av := (.ref (w.2.2 0) :: [.ref (w.2.2 1)])) (zPay.of q362 q74) (fun H ls hH h2 => zInv_V C (As := [.ref (w.2.2 1)]) (rest := []) (ci := 0) (T := TX0) (N := 8) rfl (zSee.fix ly_x0) hH q359 q361 qs2 (Or.inl rfl) q362 mh_X0 np_X0_finds dX0_restore_35) (tX0_finds l w e_11) (Nat.le_of_ble_eq_true rfl) (Nat.le_of_ble_eq_true rfl) ?_
      obtain ⟨rfl, rfl⟩ := fin_ hf
      exact z_iret C rfl dX0_restore_38
  replace hf := ej_1
  refine z_if_le C 12 dX0_restore_5 (by decide) (fun c_13 => ?_) (fun c_13 => ?_)
  · replace hf := ifp_t c_13 hf
    refine z_iconst C 0 dX0_restore_12 (by decide) ?_
    subst hf
    exact hjj_1
  · replace hf := ifp_f c_13 hf
    refine z_iconst C 1 dX0_restore_8 (by decide) ?_
    refine z_goto C 13 dX0_restore_9 (by decide) ?_
    subst hf
    exact hjj_1
def fX0_tell (σ : ZS) (p1 : Int32) : Option (Int32 × ZS) := nm (if 20 ≤ (σ.1 100 18) then 0 else 1) (fun (j_1 : Int32) => bd (fX0_need σ j_1 4) (fun r_2 σ_4 => sc r_2 (fun _ => gd (¬ ((σ_4.1 100 18) < 0 ∨ 20 ≤ (σ_4.1 100 18).toNatClampNeg)) (nm (((sI σ_4 (100 + 18) ((σ_4.1 100 18).toNatClampNeg) p1).1 100 18) + 1) (fun (f_8 : Int32) => some ((sI (sI σ_4 (100 + 18) ((σ_4.1 100 18).toNatClampNeg) p1) 100 18 f_8).1 100 18, sI (sI σ_4 (100 + 18) ((σ_4.1 100 18).toNatClampNeg) p1) 100 18 f_8)))) (fun _ => bd (fX0_finds σ_4) (fun r_9 σ_11 => some (r_9, σ_11)))))
set_option maxHeartbeats 4000000 in
set_option maxRecDepth 100000 in
theorem tX0_tell (l : Launch) (w : ZW) {σ σ' : ZS} {p1 : Int32} {r : Int32} (hf : fX0_tell σ p1 = some (r, σ')) : zC l w zLx yX0_tell (wsW_ yX0_tell cX0_tell 3 (some .int) [(0, 58, 59, 8)]) 2 27 [.ref (w.2.2 0), .int p1] σ (.returned (some (.int r))) σ' := by
  refine zC.ofW (plainFor_of_name (by decide)) (Nat.le_of_ble_eq_true rfl) ?_
  intro p e s m args below meth c C hnm
  show Z p l e _ s m args below meth c _ w _ _ 3 σ 0 [(0, .ref (w.2.2 0)), (1, .int p1)] []
  unfold fX0_tell at hf
  refine z_aload_n C 0 dX0_tell_0 rfl rfl ?_
  refine z_aload_n C 0 dX0_tell_1 rfl rfl ?_
  refine z_getR C ly_x0 (Cn := RX0) (T := TX0) (N := 8) rfl in_X0 1 (by decide) q320 (Or.inl rfl) rfl dX0_tell_2 ?_
  refine z_getIN C (ly_b0 zb100) (Cn := RX2) (T := TX2) (N := 20) rfl in_X2 18 (by decide) q250 (Or.inl rfl) rfl dX0_tell_5 ?_
  refine z_bipush C 20 dX0_tell_8 (by decide) ?_
  obtain ⟨j_1, ej_1, hf⟩ := nmo_ hf
  have hj_1 : j_1 = 0 ∨ j_1 = 1 := by rw [ej_1]; (try dsimp only [nm]); (repeat' split) <;> first | exact Or.inl rfl | exact Or.inr rfl
  have hjj_1 : Z p l e (zRm 2 27 σ) s m args below meth c (zQ below w zLx σ (.returned (some (.int r))) σ' args s) w zLx (zA w zLx σ) 3 σ 18 [(0, .ref (w.2.2 0)), (1, .int p1)] [.int j_1, .ref (w.2.2 0)] := by
    refine z_iconst C 4 dX0_tell_18 (by decide) ?_
    obtain ⟨r_2, σ_4, e_3, hf⟩ := bd_ hf
    rcases r_2 with ⟨⟩ | ⟨⟩
    · dsimp only [sc] at hf
      refine z_callv C (rest := []) (av := (.ref (w.2.2 0) :: [.int j_1, .int 4])) (zPay.of q354 q74) (fun H ls hH h2 => zInv_V C (As := [.int j_1, .int 4]) (rest := []) (ci := 0) (T := TX0) (N := 8) rfl (zSee.fix ly_x0) hH q351 q353 qs1 (Or.inl rfl) q354 mh_X0 np_X0_need dX0_tell_19) (tX0_need l w e_3) (Nat.le_of_ble_eq_true rfl) (Nat.le_of_ble_eq_true rfl) ?_
      refine z_aload_n C 0 dX0_tell_22 rfl rfl ?_
      refine z_getR C ly_x0 (Cn := RX0) (T := TX0) (N := 8) rfl in_X0 1 (by decide) q320 (Or.inl rfl) rfl dX0_tell_23 ?_
      refine z_getRN C (ly_b0 zb100) (Cn := RX2) (T := TX2) (N := 20) rfl in_X2 17 (by decide) q248 (Or.inl rfl) rfl dX0_tell_26 ?_
      refine z_aload_n C 0 dX0_tell_29 rfl rfl ?_
      refine z_getR C ly_x0 (Cn := RX0) (T := TX0) (N := 8) rfl in_X0 1 (by decide) q320 (Or.inl rfl) rfl dX0_tell_30 ?_
      refine z_getIN C (ly_b0 zb100) (Cn := RX2) (T := TX2) (N := 20) rfl in_X2 18 (by decide) q250 (Or.inl rfl) rfl dX0_tell_33 ?_
      refine z_iload_n C 1 dX0_tell_36 rfl rfl ?_
      obtain ⟨g_7, hf⟩ := gd_ hf
      refine z_iastore C (ly_b18 zb100) g_7 dX0_tell_37 ?_
      refine z_aload_n C 0 dX0_tell_38 rfl rfl ?_
      refine z_getR C ly_x0 (Cn := RX0) (T := TX0) (N := 8) rfl in_X0 1 (by decide) q320 (Or.inl rfl) rfl dX0_tell_39 ?_
      refine z_dup C dX0_tell_42 rfl ?_
      refine z_getIN C (ly_b0 zb100) (Cn := RX2) (T := TX2) (N := 20) rfl in_X2 18 (by decide) q250 (Or.inl rfl) rfl dX0_tell_43 ?_
      refine z_iconst C 1 dX0_tell_46 (by decide) ?_
      refine z_iadd C dX0_tell_47 ?_
      obtain ⟨f_8, ef_8, hf⟩ := nmo_ hf
      refine z_top ef_8 ?_
      refine z_putI C (ly_b0 zb100) (k := 18) rfl (zPutN C (Cn := RX2) (T := TX2) (N := 20) rfl in_X2 tyX2 tyX2_ok nmX2 18 (by decide) q250 (Or.inl rfl) rfl rfl rfl (zFs_lt (Nat.le_of_ble_eq_true rfl)) dX0_tell_48) ?_
      refine z_aload_n C 0 dX0_tell_51 rfl rfl ?_
      refine z_getR C ly_x0 (Cn := RX0) (T := TX0) (N := 8) rfl in_X0 1 (by decide) q320 (Or.inl rfl) rfl dX0_tell_52 ?_
      refine z_getIN C (ly_b0 zb100) (Cn := RX2) (T := TX2) (N := 20) rfl in_X2 18 (by decide) q250 (Or.inl rfl) rfl dX0_tell_55 ?_
      obtain ⟨rfl, rfl⟩ := fin_ hf
      exact z_iret C rfl dX0_tell_58
    · dsimp only [sc] at hf
      refine z_callt C (rest := []) (av := (.ref (w.2.2 0) :: [.int j_1, .int 4])) (zPay.of q354 q74) (fun H ls hH h2 => zInv_V C (As := [.int j_1, .int 4]) (rest := []) (ci := 0) (T := TX0) (N := 8) rfl (zSee.fix ly_x0) hH q351 q353 qs1 (Or.inl rfl) q354 mh_X0 np_X0_need dX0_tell_19) (tX0_need l w e_3) (Nat.le_of_ble_eq_true rfl) (Nat.le_of_ble_eq_true rfl) ?_
      refine z_catch C [] 0 58 59 8 [] rfl (by decide) (by decide) (by decide) (ci := 1) (Cn := RX1) (T0 := TX1) (N := 7) rfl (zSee.fix ly_x1) q118 ?_
      refine z_astore_n C dX0_tell_59 rfl (by decide) rfl (lv' := [(2, .ref (w.2.2 1)), (0, .ref (w.2.2 0)), (1, .int p1)]) ?_
      refine z_aload_n C 1 dX0_tell_60 rfl rfl ?_
      refine z_aload_n C 0 dX0_tell_61 rfl rfl ?_
      obtain ⟨r_9, σ_11, e_10, hf⟩ := bd_ hf
      refine z_calli C (rest := []) (av := (.ref (w.2.2 0) :: [.ref (w.2.2 1)])) (zPay.of q362 q74) (fun H ls hH h2 => zInv_V C (As := [.ref (w.2.2 1)]) (rest := []) (ci := 0) (T := TX0) (N := 8) rfl (zSee.fix ly_x0) hH q359 q361 qs2 (Or.inl rfl) q362 mh_X0 np_X0_finds dX0_tell_62) (tX0_finds l w e_10) (Nat.le_of_ble_eq_true rfl) (Nat.le_of_ble_eq_true rfl) ?_
      obtain ⟨rfl, rfl⟩ := fin_ hf
      exact z_iret C rfl dX0_tell_65
  replace hf := ej_1
  refine z_icmp_ge C 17 dX0_tell_10 (by decide) (fun c_12 => ?_) (fun c_12 => ?_)
  · replace hf := ifp_t c_12 hf
    refine z_iconst C 0 dX0_tell_17 (by decide) ?_
    subst hf
    exact hjj_1
  · replace hf := ifp_f c_12 hf
    refine z_iconst C 1 dX0_tell_13 (by decide) ?_
    refine z_goto C 18 dX0_tell_14 (by decide) ?_
    subst hf
    exact hjj_1
def fX0_count (σ : ZS) (p1 : Int32) : Option (Int32 × ZS) := bd (fX0_need σ (fX0_in p1 0 11) 1) (fun r_1 σ_3 => sc r_1 (fun _ => if p1 = 0 then (some (σ_3.1 100 0, σ_3)) else (if p1 = 1 then (some (σ_3.1 100 8, σ_3)) else (if p1 = 2 then (some (σ_3.1 100 7, σ_3)) else (if p1 = 3 then (some (σ_3.1 100 4, σ_3)) else (if p1 = 4 then (some (σ_3.1 100 5, σ_3)) else (if p1 = 5 then (some (σ_3.1 100 6, σ_3)) else (if p1 = 6 then (bo (fX2_atHome σ_3 100) (fun r_13 => some (r_13, σ_3))) else (if p1 = 7 then (bo (fX2_whoAreLost σ_3 100) (fun r_16 => some (fJ9_bitCount r_16, σ_3))) else (if p1 = 8 then (some (σ_3.1 100 16, σ_3)) else (if p1 = 9 then (some (σ_3.1 100 18, σ_3)) else (if p1 = 10 then (some (σ_3.1 4 1, σ_3)) else (gd (p1.toInt < 0 ∨ 10 < p1.toInt) (some (σ_3.1 100 14, σ_3)))))))))))))) (fun _ => bd (fX0_finds σ_3) (fun r_22 σ_24 => some (r_22, σ_24))))
set_option maxHeartbeats 4000000 in
set_option maxRecDepth 100000 in
theorem tX0_count (l : Launch) (w : ZW) {σ σ' : ZS} {p1 : Int32} {r : Int32} (hf : fX0_count σ p1 = some (r, σ')) : zC l w zLx yX0_count (wsW_ yX0_count cX0_count 3 (some .int) [(0, 79, 171, 8), (80, 87, 171, 8), (88, 95, 171, 8), (96, 103, 171, 8), (104, 111, 171, 8), (112, 119, 171, 8), (120, 127, 171, 8), (128, 138, 171, 8), (139, 146, 171, 8), (147, 154, 171, 8), (155, 162, 171, 8), (163, 170, 171, 8)]) 2 27 [.ref (w.2.2 0), .int p1] σ (.returned (some (.int r))) σ' := by
  refine zC.ofW (plainFor_of_name (by decide)) (Nat.le_of_ble_eq_true rfl) ?_
  intro p e s m args below meth c C hnm
  show Z p l e _ s m args below meth c _ w _ _ 3 σ 0 [(0, .ref (w.2.2 0)), (1, .int p1)] []
  unfold fX0_count at hf
  refine z_aload_n C 0 dX0_count_0 rfl rfl ?_
  refine z_iload_n C 1 dX0_count_1 rfl rfl ?_
  refine z_iconst C 0 dX0_count_2 (by decide) ?_
  refine z_bipush C 11 dX0_count_3 (by decide) ?_
  refine z_calli C (rest := [.ref (w.2.2 0)]) (av := [.int p1, .int 0, .int 11]) (zPay.of q350 q74) (fun H ls hH h2 => zInv_S C (As := [.int p1, .int 0, .int 11]) (rest := [.ref (w.2.2 0)]) q348 q349 q74 (Or.inl rfl) q350 mh_X0 np_X0_in dX0_count_5) (tX0_in l w zLx σ p1 0 11) (Nat.le_of_ble_eq_true rfl) (Nat.le_of_ble_eq_true rfl) ?_
  refine z_iconst C 1 dX0_count_8 (by decide) ?_
  obtain ⟨r_1, σ_3, e_2, hf⟩ := bd_ hf
  rcases r_1 with ⟨⟩ | ⟨⟩
  · dsimp only [sc] at hf
    refine z_callv C (rest := []) (av := (.ref (w.2.2 0) :: [.int (fX0_in p1 0 11), .int 1])) (zPay.of q354 q74) (fun H ls hH h2 => zInv_V C (As := [.int (fX0_in p1 0 11), .int 1]) (rest := []) (ci := 0) (T := TX0) (N := 8) rfl (zSee.fix ly_x0) hH q351 q353 qs1 (Or.inl rfl) q354 mh_X0 np_X0_need dX0_count_9) (tX0_need l w e_2) (Nat.le_of_ble_eq_true rfl) (Nat.le_of_ble_eq_true rfl) ?_
    refine z_iload_n C 1 dX0_count_12 rfl rfl ?_
    by_cases c_6 : p1 = 0
    · replace hf := if_t c_6 hf
      refine z_top c_6.symm ?_
      refine z_tableIn (off := 59) C 72 dX0_count_13 (by decide) (by decide) (by decide) (by decide) ?_
      refine z_aload_n C 0 dX0_count_72 rfl rfl ?_
      refine z_getR C ly_x0 (Cn := RX0) (T := TX0) (N := 8) rfl in_X0 1 (by decide) q320 (Or.inl rfl) rfl dX0_count_73 ?_
      refine z_getIN C (ly_b0 zb100) (Cn := RX2) (T := TX2) (N := 20) rfl in_X2 0 (by decide) q211 (Or.inl rfl) rfl dX0_count_76 ?_
      obtain ⟨rfl, rfl⟩ := fin_ hf
      exact z_iret C rfl dX0_count_79
    replace hf := if_f c_6 hf
    by_cases c_7 : p1 = 1
    · replace hf := if_t c_7 hf
      refine z_top c_7.symm ?_
      refine z_tableIn (off := 67) C 80 dX0_count_13 (by decide) (by decide) (by decide) (by decide) ?_
      refine z_aload_n C 0 dX0_count_80 rfl rfl ?_
      refine z_getR C ly_x0 (Cn := RX0) (T := TX0) (N := 8) rfl in_X0 1 (by decide) q320 (Or.inl rfl) rfl dX0_count_81 ?_
      refine z_getIN C (ly_b0 zb100) (Cn := RX2) (T := TX2) (N := 20) rfl in_X2 8 (by decide) q230 (Or.inl rfl) rfl dX0_count_84 ?_
      obtain ⟨rfl, rfl⟩ := fin_ hf
      exact z_iret C rfl dX0_count_87
    replace hf := if_f c_7 hf
    by_cases c_8 : p1 = 2
    · replace hf := if_t c_8 hf
      refine z_top c_8.symm ?_
      refine z_tableIn (off := 75) C 88 dX0_count_13 (by decide) (by decide) (by decide) (by decide) ?_
      refine z_aload_n C 0 dX0_count_88 rfl rfl ?_
      refine z_getR C ly_x0 (Cn := RX0) (T := TX0) (N := 8) rfl in_X0 1 (by decide) q320 (Or.inl rfl) rfl dX0_count_89 ?_
      refine z_getIN C (ly_b0 zb100) (Cn := RX2) (T := TX2) (N := 20) rfl in_X2 7 (by decide) q228 (Or.inl rfl) rfl dX0_count_92 ?_
      obtain ⟨rfl, rfl⟩ := fin_ hf
      exact z_iret C rfl dX0_count_95
    replace hf := if_f c_8 hf
    by_cases c_9 : p1 = 3
    · replace hf := if_t c_9 hf
      refine z_top c_9.symm ?_
      refine z_tableIn (off := 83) C 96 dX0_count_13 (by decide) (by decide) (by decide) (by decide) ?_
      refine z_aload_n C 0 dX0_count_96 rfl rfl ?_
      refine z_getR C ly_x0 (Cn := RX0) (T := TX0) (N := 8) rfl in_X0 1 (by decide) q320 (Or.inl rfl) rfl dX0_count_97 ?_
      refine z_getIN C (ly_b0 zb100) (Cn := RX2) (T := TX2) (N := 20) rfl in_X2 4 (by decide) q219 (Or.inl rfl) rfl dX0_count_100 ?_
      obtain ⟨rfl, rfl⟩ := fin_ hf
      exact z_iret C rfl dX0_count_103
    replace hf := if_f c_9 hf
    by_cases c_10 : p1 = 4
    · replace hf := if_t c_10 hf
      refine z_top c_10.symm ?_
      refine z_tableIn (off := 91) C 104 dX0_count_13 (by decide) (by decide) (by decide) (by decide) ?_
      refine z_aload_n C 0 dX0_count_104 rfl rfl ?_
      refine z_getR C ly_x0 (Cn := RX0) (T := TX0) (N := 8) rfl in_X0 1 (by decide) q320 (Or.inl rfl) rfl dX0_count_105 ?_
      refine z_getIN C (ly_b0 zb100) (Cn := RX2) (T := TX2) (N := 20) rfl in_X2 5 (by decide) q224 (Or.inl rfl) rfl dX0_count_108 ?_
      obtain ⟨rfl, rfl⟩ := fin_ hf
      exact z_iret C rfl dX0_count_111
    replace hf := if_f c_10 hf
    by_cases c_11 : p1 = 5
    · replace hf := if_t c_11 hf
      refine z_top c_11.symm ?_
      refine z_tableIn (off := 99) C 112 dX0_count_13 (by decide) (by decide) (by decide) (by decide) ?_
      refine z_aload_n C 0 dX0_count_112 rfl rfl ?_
      refine z_getR C ly_x0 (Cn := RX0) (T := TX0) (N := 8) rfl in_X0 1 (by decide) q320 (Or.inl rfl) rfl dX0_count_113 ?_
      refine z_getIN C (ly_b0 zb100) (Cn := RX2) (T := TX2) (N := 20) rfl in_X2 6 (by decide) q226 (Or.inl rfl) rfl dX0_count_116 ?_
      obtain ⟨rfl, rfl⟩ := fin_ hf
      exact z_iret C rfl dX0_count_119
    replace hf := if_f c_11 hf
    by_cases c_12 : p1 = 6
    · replace hf := if_t c_12 hf
      refine z_top c_12.symm ?_
      refine z_tableIn (off := 107) C 120 dX0_count_13 (by decide) (by decide) (by decide) (by decide) ?_
      refine z_aload_n C 0 dX0_count_120 rfl rfl ?_
      refine z_getR C ly_x0 (Cn := RX0) (T := TX0) (N := 8) rfl in_X0 1 (by decide) q320 (Or.inl rfl) rfl dX0_count_121 ?_
      obtain ⟨r_13, e_14, hf⟩ := bo_ hf
      refine z_calli C (rest := []) (av := (.ref (w.2.2 100) :: [])) (zPay.of q943 q79) (fun H ls hH h2 => zInv_V C (As := []) (rest := []) (ci := 2) (T := TX2) (N := 20) rfl (zSee.fix (ly_b0 zb100)) hH q940 q941 q942 (Or.inl rfl) q943 mh_X2 np_X2_atHome dX0_count_124) (tX2_atHome l w zb100 e_14) (Nat.le_of_ble_eq_true rfl) (Nat.le_of_ble_eq_true rfl) ?_
      obtain ⟨rfl, rfl⟩ := fin_ hf
      exact z_iret C rfl dX0_count_127
    replace hf := if_f c_12 hf
    by_cases c_15 : p1 = 7
    · replace hf := if_t c_15 hf
      refine z_top c_15.symm ?_
      refine z_tableIn (off := 115) C 128 dX0_count_13 (by decide) (by decide) (by decide) (by decide) ?_
      refine z_aload_n C 0 dX0_count_128 rfl rfl ?_
      refine z_getR C ly_x0 (Cn := RX0) (T := TX0) (N := 8) rfl in_X0 1 (by decide) q320 (Or.inl rfl) rfl dX0_count_129 ?_
      obtain ⟨r_16, e_17, hf⟩ := bo_ hf
      refine z_calli C (rest := []) (av := (.ref (w.2.2 100) :: [])) (zPay.of q983 q79) (fun H ls hH h2 => zInv_V C (As := []) (rest := []) (ci := 2) (T := TX2) (N := 20) rfl (zSee.fix (ly_b0 zb100)) hH q980 q981 q982 (Or.inl rfl) q983 mh_X2 np_X2_whoAreLost dX0_count_132) (tX2_whoAreLost l w zb100 e_17) (Nat.le_of_ble_eq_true rfl) (Nat.le_of_ble_eq_true rfl) ?_
      refine z_calli C (rest := []) (av := [.int r_16]) (zPay.of q1052 q105) (fun H ls hH h2 => zInv_S C (As := [.int r_16]) (rest := []) q1050 q1051 q105 (Or.inl rfl) q1052 mh_J9 np_J9_bitCount dX0_count_135) (tJ9_bitCount l w zLx σ_3 r_16) (Nat.le_of_ble_eq_true rfl) (Nat.le_of_ble_eq_true rfl) ?_
      obtain ⟨rfl, rfl⟩ := fin_ hf
      exact z_iret C rfl dX0_count_138
    replace hf := if_f c_15 hf
    by_cases c_18 : p1 = 8
    · replace hf := if_t c_18 hf
      refine z_top c_18.symm ?_
      refine z_tableIn (off := 126) C 139 dX0_count_13 (by decide) (by decide) (by decide) (by decide) ?_
      refine z_aload_n C 0 dX0_count_139 rfl rfl ?_
      refine z_getR C ly_x0 (Cn := RX0) (T := TX0) (N := 8) rfl in_X0 1 (by decide) q320 (Or.inl rfl) rfl dX0_count_140 ?_
      refine z_getIN C (ly_b0 zb100) (Cn := RX2) (T := TX2) (N := 20) rfl in_X2 16 (by decide) q246 (Or.inl rfl) rfl dX0_count_143 ?_
      obtain ⟨rfl, rfl⟩ := fin_ hf
      exact z_iret C rfl dX0_count_146
    replace hf := if_f c_18 hf
    by_cases c_19 : p1 = 9
    · replace hf := if_t c_19 hf
      refine z_top c_19.symm ?_
      refine z_tableIn (off := 134) C 147 dX0_count_13 (by decide) (by decide) (by decide) (by decide) ?_
      refine z_aload_n C 0 dX0_count_147 rfl rfl ?_
      refine z_getR C ly_x0 (Cn := RX0) (T := TX0) (N := 8) rfl in_X0 1 (by decide) q320 (Or.inl rfl) rfl dX0_count_148 ?_
      refine z_getIN C (ly_b0 zb100) (Cn := RX2) (T := TX2) (N := 20) rfl in_X2 18 (by decide) q250 (Or.inl rfl) rfl dX0_count_151 ?_
      obtain ⟨rfl, rfl⟩ := fin_ hf
      exact z_iret C rfl dX0_count_154
    replace hf := if_f c_19 hf
    by_cases c_20 : p1 = 10
    · replace hf := if_t c_20 hf
      refine z_top c_20.symm ?_
      refine z_tableIn (off := 142) C 155 dX0_count_13 (by decide) (by decide) (by decide) (by decide) ?_
      refine z_aload_n C 0 dX0_count_155 rfl rfl ?_
      refine z_getR C ly_x0 (Cn := RX0) (T := TX0) (N := 8) rfl in_X0 5 (by decide) q324 (Or.inl rfl) rfl dX0_count_156 ?_
      refine z_getIN C ly_x4 (Cn := RX4) (T := TX4) (N := 2) rfl in_X4 1 (by decide) q302 (Or.inl rfl) rfl dX0_count_159 ?_
      obtain ⟨rfl, rfl⟩ := fin_ hf
      exact z_iret C rfl dX0_count_162
    replace hf := if_f c_20 hf
    obtain ⟨g_21, hf⟩ := gd_ hf
    refine z_tableOut C 163 dX0_count_13 g_21 (by decide) ?_
    refine z_aload_n C 0 dX0_count_163 rfl rfl ?_
    refine z_getR C ly_x0 (Cn := RX0) (T := TX0) (N := 8) rfl in_X0 1 (by decide) q320 (Or.inl rfl) rfl dX0_count_164 ?_
    refine z_getIN C (ly_b0 zb100) (Cn := RX2) (T := TX2) (N := 20) rfl in_X2 14 (by decide) q242 (Or.inl rfl) rfl dX0_count_167 ?_
    obtain ⟨rfl, rfl⟩ := fin_ hf
    exact z_iret C rfl dX0_count_170
  · dsimp only [sc] at hf
    refine z_callt C (rest := []) (av := (.ref (w.2.2 0) :: [.int (fX0_in p1 0 11), .int 1])) (zPay.of q354 q74) (fun H ls hH h2 => zInv_V C (As := [.int (fX0_in p1 0 11), .int 1]) (rest := []) (ci := 0) (T := TX0) (N := 8) rfl (zSee.fix ly_x0) hH q351 q353 qs1 (Or.inl rfl) q354 mh_X0 np_X0_need dX0_count_9) (tX0_need l w e_2) (Nat.le_of_ble_eq_true rfl) (Nat.le_of_ble_eq_true rfl) ?_
    refine z_catch C [] 0 79 171 8 [(80, 87, 171, 8), (88, 95, 171, 8), (96, 103, 171, 8), (104, 111, 171, 8), (112, 119, 171, 8), (120, 127, 171, 8), (128, 138, 171, 8), (139, 146, 171, 8), (147, 154, 171, 8), (155, 162, 171, 8), (163, 170, 171, 8)] rfl (by decide) (by decide) (by decide) (ci := 1) (Cn := RX1) (T0 := TX1) (N := 7) rfl (zSee.fix ly_x1) q118 ?_
    refine z_astore_n C dX0_count_171 rfl (by decide) rfl (lv' := [(2, .ref (w.2.2 1)), (0, .ref (w.2.2 0)), (1, .int p1)]) ?_
    refine z_aload_n C 1 dX0_count_172 rfl rfl ?_
    refine z_aload_n C 0 dX0_count_173 rfl rfl ?_
    obtain ⟨r_22, σ_24, e_23, hf⟩ := bd_ hf
    refine z_calli C (rest := []) (av := (.ref (w.2.2 0) :: [.ref (w.2.2 1)])) (zPay.of q362 q74) (fun H ls hH h2 => zInv_V C (As := [.ref (w.2.2 1)]) (rest := []) (ci := 0) (T := TX0) (N := 8) rfl (zSee.fix ly_x0) hH q359 q361 qs2 (Or.inl rfl) q362 mh_X0 np_X0_finds dX0_count_174) (tX0_finds l w e_23) (Nat.le_of_ble_eq_true rfl) (Nat.le_of_ble_eq_true rfl) ?_
    obtain ⟨rfl, rfl⟩ := fin_ hf
    exact z_iret C rfl dX0_count_177
def fX0_told (σ : ZS) (p1 : Int32) : Option (Int32 × ZS) := bd (fX0_need σ (fX0_in p1 1 5) 1) (fun r_1 σ_3 => sc r_1 (fun _ => gd (¬ (p1 < 0 ∨ 6 ≤ p1.toNatClampNeg)) (some (σ_3.1 6 p1.toNatClampNeg, σ_3))) (fun _ => bd (fX0_finds σ_3) (fun r_7 σ_9 => some (r_7, σ_9))))
set_option maxHeartbeats 4000000 in
set_option maxRecDepth 100000 in
theorem tX0_told (l : Launch) (w : ZW) {σ σ' : ZS} {p1 : Int32} {r : Int32} (hf : fX0_told σ p1 = some (r, σ')) : zC l w zLx yX0_told (wsW_ yX0_told cX0_told 3 (some .int) [(0, 17, 18, 8)]) 2 27 [.ref (w.2.2 0), .int p1] σ (.returned (some (.int r))) σ' := by
  refine zC.ofW (plainFor_of_name (by decide)) (Nat.le_of_ble_eq_true rfl) ?_
  intro p e s m args below meth c C hnm
  show Z p l e _ s m args below meth c _ w _ _ 3 σ 0 [(0, .ref (w.2.2 0)), (1, .int p1)] []
  unfold fX0_told at hf
  refine z_aload_n C 0 dX0_told_0 rfl rfl ?_
  refine z_iload_n C 1 dX0_told_1 rfl rfl ?_
  refine z_iconst C 1 dX0_told_2 (by decide) ?_
  refine z_iconst C 5 dX0_told_3 (by decide) ?_
  refine z_calli C (rest := [.ref (w.2.2 0)]) (av := [.int p1, .int 1, .int 5]) (zPay.of q350 q74) (fun H ls hH h2 => zInv_S C (As := [.int p1, .int 1, .int 5]) (rest := [.ref (w.2.2 0)]) q348 q349 q74 (Or.inl rfl) q350 mh_X0 np_X0_in dX0_told_4) (tX0_in l w zLx σ p1 1 5) (Nat.le_of_ble_eq_true rfl) (Nat.le_of_ble_eq_true rfl) ?_
  refine z_iconst C 1 dX0_told_7 (by decide) ?_
  obtain ⟨r_1, σ_3, e_2, hf⟩ := bd_ hf
  rcases r_1 with ⟨⟩ | ⟨⟩
  · dsimp only [sc] at hf
    refine z_callv C (rest := []) (av := (.ref (w.2.2 0) :: [.int (fX0_in p1 1 5), .int 1])) (zPay.of q354 q74) (fun H ls hH h2 => zInv_V C (As := [.int (fX0_in p1 1 5), .int 1]) (rest := []) (ci := 0) (T := TX0) (N := 8) rfl (zSee.fix ly_x0) hH q351 q353 qs1 (Or.inl rfl) q354 mh_X0 np_X0_need dX0_told_8) (tX0_need l w e_2) (Nat.le_of_ble_eq_true rfl) (Nat.le_of_ble_eq_true rfl) ?_
    refine z_aload_n C 0 dX0_told_11 rfl rfl ?_
    refine z_getR C ly_x0 (Cn := RX0) (T := TX0) (N := 8) rfl in_X0 6 (by decide) q325 (Or.inl rfl) rfl dX0_told_12 ?_
    refine z_iload_n C 1 dX0_told_15 rfl rfl ?_
    obtain ⟨g_6, hf⟩ := gd_ hf
    refine z_ialoadF C ly_x6 g_6 dX0_told_16 ?_
    obtain ⟨rfl, rfl⟩ := fin_ hf
    exact z_iret C rfl dX0_told_17
  · dsimp only [sc] at hf
    refine z_callt C (rest := []) (av := (.ref (w.2.2 0) :: [.int (fX0_in p1 1 5), .int 1])) (zPay.of q354 q74) (fun H ls hH h2 => zInv_V C (As := [.int (fX0_in p1 1 5), .int 1]) (rest := []) (ci := 0) (T := TX0) (N := 8) rfl (zSee.fix ly_x0) hH q351 q353 qs1 (Or.inl rfl) q354 mh_X0 np_X0_need dX0_told_8) (tX0_need l w e_2) (Nat.le_of_ble_eq_true rfl) (Nat.le_of_ble_eq_true rfl) ?_
    refine z_catch C [] 0 17 18 8 [] rfl (by decide) (by decide) (by decide) (ci := 1) (Cn := RX1) (T0 := TX1) (N := 7) rfl (zSee.fix ly_x1) q118 ?_
    refine z_astore_n C dX0_told_18 rfl (by decide) rfl (lv' := [(2, .ref (w.2.2 1)), (0, .ref (w.2.2 0)), (1, .int p1)]) ?_
    refine z_aload_n C 1 dX0_told_19 rfl rfl ?_
    refine z_aload_n C 0 dX0_told_20 rfl rfl ?_
    obtain ⟨r_7, σ_9, e_8, hf⟩ := bd_ hf
    refine z_calli C (rest := []) (av := (.ref (w.2.2 0) :: [.ref (w.2.2 1)])) (zPay.of q362 q74) (fun H ls hH h2 => zInv_V C (As := [.ref (w.2.2 1)]) (rest := []) (ci := 0) (T := TX0) (N := 8) rfl (zSee.fix ly_x0) hH q359 q361 qs2 (Or.inl rfl) q362 mh_X0 np_X0_finds dX0_told_21) (tX0_finds l w e_8) (Nat.le_of_ble_eq_true rfl) (Nat.le_of_ble_eq_true rfl) ?_
    obtain ⟨rfl, rfl⟩ := fin_ hf
    exact z_iret C rfl dX0_told_24
def fX2_depthBy (σ : ZS) (b : Nat) (p1 : Int32) (p2 : Int32) (p3 : Int32) : Option (Int32 × ZS) := bd (mo (σ.2.1 (b + 14) ((0 : Int32).toNatClampNeg)) (some (p3, σ)) (fun (a_4 : Nat) => bd (fX3_with σ b 99 p1) (fun _ σ_8 => bd (fX3_with σ_8 b 121 p2) (fun _ σ_11 => bd (fX3_with σ_11 b 98 p3) (fun _ σ_14 => bo (fV 60 σ_14 b a_4) (fun r_15 => some (r_15, σ_14))))))) (fun (j_1 : Int32) σ_2 => some (fX2_held j_1 0 19, σ_2))
set_option maxHeartbeats 4000000 in
set_option maxRecDepth 100000 in
theorem tX2_depthBy (l : Launch) (w : ZW) {σ σ' : ZS} {b : Nat} {p1 : Int32} {p2 : Int32} {p3 : Int32} (hb : zBay b) {r : Int32} (hf : fX2_depthBy σ b p1 p2 p3 = some (r, σ')) : zC l w zLx yX2_depthBy (ws_ yX2_depthBy cX2_depthBy 5 (some .int)) 721 6015 [.ref (w.2.2 b), .int p1, .int p2, .int p3] σ (.returned (some (.int r))) σ' := by
  refine zC.of (plainFor_of_name (by decide)) (Nat.le_of_ble_eq_true rfl) ?_
  intro p e s m args below meth c C hnm
  show Z p l e _ s m args below meth c _ w _ _ 5 σ 0 [(0, .ref (w.2.2 b)), (1, .int p1), (2, .int p2), (3, .int p3)] []
  unfold fX2_depthBy at hf
  refine z_aload_n C 0 dX2_depthBy_0 rfl rfl ?_
  refine z_getR C (ly_b0 hb) (Cn := RX2) (T := TX2) (N := 20) rfl in_X2 13 (by decide) q239 (Or.inl rfl) rfl dX2_depthBy_1 ?_
  refine z_iconst C 0 dX2_depthBy_4 (by decide) ?_
  refine z_aaloadF C (ly_b14 hb) rfl (by decide) dX2_depthBy_5 ?_
  obtain ⟨j_1, σ_2, e_3, hf⟩ := bd_ hf
  have hje_3 : Z p l e (zRm 721 6015 σ) s m args below meth c (zQ below w zLx σ (.returned (some (.int r))) σ' args s) w zLx (zA w zLx σ) 5 σ_2 44 [(0, .ref (w.2.2 b)), (1, .int p1), (2, .int p2), (3, .int p3)] [.int j_1] := by
    refine z_istore C dX2_depthBy_44 (by decide) rfl (lv' := [(4, .int j_1), (0, .ref (w.2.2 b)), (1, .int p1), (2, .int p2), (3, .int p3)]) ?_
    refine z_iload C 0 dX2_depthBy_46 rfl ?_
    refine z_iconst C 0 dX2_depthBy_48 (by decide) ?_
    refine z_bipush C 19 dX2_depthBy_49 (by decide) ?_
    refine z_calli C (rest := []) (av := [.int j_1, .int 0, .int 19]) (zPay.of q421 q79) (fun H ls hH h2 => zInv_S C (As := [.int j_1, .int 0, .int 19]) (rest := []) q419 q420 q79 (Or.inl rfl) q421 mh_X2 np_X2_held dX2_depthBy_51) (tX2_held l w zLx σ_2 j_1 0 19) (Nat.le_of_ble_eq_true rfl) (Nat.le_of_ble_eq_true rfl) ?_
    obtain ⟨rfl, rfl⟩ := fin_ hf
    exact z_iret C rfl dX2_depthBy_54
  replace hf := e_3
  rcases oz (σ.2.1 (b + 14) ((0 : Int32).toNatClampNeg)) with e_5 | ⟨a_4, e_5⟩
  · replace hf := mo_n e_5 hf
    refine z_eq (rf_n e_5) ?_
    refine z_ifnonnullN C dX2_depthBy_6 ?_
    refine z_iload_n C 3 dX2_depthBy_9 rfl rfl ?_
    refine z_goto C 44 dX2_depthBy_10 (by decide) ?_
    obtain ⟨rfl, rfl⟩ := fin_ hf
    exact hje_3
  · replace hf := mo_s e_5 hf
    refine z_eq (rf_s e_5) ?_
    refine z_ifnonnull C 13 dX2_depthBy_6 (by decide) ?_
    refine z_aload_n C 0 dX2_depthBy_13 rfl rfl ?_
    refine z_getR C (ly_b0 hb) (Cn := RX2) (T := TX2) (N := 20) rfl in_X2 13 (by decide) q239 (Or.inl rfl) rfl dX2_depthBy_14 ?_
    refine z_iconst C 0 dX2_depthBy_17 (by decide) ?_
    refine z_aaloadF C (ly_b14 hb) rfl (by decide) dX2_depthBy_18 ?_
    refine z_eq (rf_s e_5) ?_
    refine z_aload_n C 0 dX2_depthBy_19 rfl rfl ?_
    refine z_getR C (ly_b0 hb) (Cn := RX2) (T := TX2) (N := 20) rfl in_X2 19 (by decide) q251 (Or.inl rfl) rfl dX2_depthBy_20 ?_
    refine z_bipush C 99 dX2_depthBy_23 (by decide) ?_
    refine z_iload_n C 1 dX2_depthBy_25 rfl rfl ?_
    obtain ⟨⟨⟩, σ_8, e_7, hf⟩ := bd_ hf
    refine z_callr C (rest := [.ref a_4]) (av := (.ref (w.2.2 (b + 20)) :: [.int 99, .int p1])) (zPay.of q398 q80) (fun H ls hH h2 => zInv_V C (As := [.int 99, .int p1]) (rest := [.ref a_4]) (ci := 3) (T := TX3) (N := 1) rfl (zSee.fix (ly_b20 hb)) hH q395 q396 q397 (Or.inl rfl) q398 mh_X3 np_X3_with dX2_depthBy_26) (tX3_with l w hb e_7) (Nat.le_of_ble_eq_true rfl) (Nat.le_of_ble_eq_true rfl) ?_
    refine z_bipush C 121 dX2_depthBy_29 (by decide) ?_
    refine z_iload_n C 2 dX2_depthBy_31 rfl rfl ?_
    obtain ⟨⟨⟩, σ_11, e_10, hf⟩ := bd_ hf
    refine z_callr C (rest := [.ref a_4]) (av := (.ref (w.2.2 (b + 20)) :: [.int 121, .int p2])) (zPay.of q398 q80) (fun H ls hH h2 => zInv_V C (As := [.int 121, .int p2]) (rest := [.ref a_4]) (ci := 3) (T := TX3) (N := 1) rfl (zSee.fix (ly_b20 hb)) hH q395 q396 q397 (Or.inl rfl) q398 mh_X3 np_X3_with dX2_depthBy_32) (tX3_with l w hb e_10) (Nat.le_of_ble_eq_true rfl) (Nat.le_of_ble_eq_true rfl) ?_
    refine z_bipush C 98 dX2_depthBy_35 (by decide) ?_
    refine z_iload_n C 3 dX2_depthBy_37 rfl rfl ?_
    obtain ⟨⟨⟩, σ_14, e_13, hf⟩ := bd_ hf
    refine z_callr C (rest := [.ref a_4]) (av := (.ref (w.2.2 (b + 20)) :: [.int 98, .int p3])) (zPay.of q398 q80) (fun H ls hH h2 => zInv_V C (As := [.int 98, .int p3]) (rest := [.ref a_4]) (ci := 3) (T := TX3) (N := 1) rfl (zSee.fix (ly_b20 hb)) hH q395 q396 q397 (Or.inl rfl) q398 mh_X3 np_X3_with dX2_depthBy_38) (tX3_with l w hb e_13) (Nat.le_of_ble_eq_true rfl) (Nat.le_of_ble_eq_true rfl) ?_
    obtain ⟨r_15, e_16, hf⟩ := bo_ hf
    refine z_term C q399 (tV l w hb 60 _ _ e_16) dX2_depthBy_41 (Nat.le_of_ble_eq_true rfl) (Nat.le_of_ble_eq_true rfl) ?_
    obtain ⟨rfl, rfl⟩ := fin_ hf
    exact hje_3
