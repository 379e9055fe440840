/-! the class, walked (written by gen/main_x.py) -/
def fX9_logs (w : ZW) (σ : ZS) (a : Nat) (ci : Nat) (n : Int32) (k : Int32) (p1 : Int32) : Option (Int32 × ZS) := bd (fX4_begins σ 13) (fun _ σ_3 => gd (oShip w (σ_3.2.2.1 a) = some (ci, n, k)) (bd (fS_Ship_steers w σ_3 a ci n k p1) (fun r_6 σ_8 => gd (oShip w (σ_8.2.2.1 a) = some (ci, n, k)) (bd (fS_Ship_sounds w σ_8 a ci n k p1) (fun r_11 σ_13 => some (r_6 ^^^ r_11, σ_13))))))
set_option maxHeartbeats 4000000 in
set_option maxRecDepth 100000 in
theorem tX9_logs (l : Launch) (w : ZW) {σ σ' : ZS} {a : Nat} {ci : Nat} {n : Int32} {k : Int32} {p1 : Int32} (hci : zShipC ci) (hP : σ.2.2.1 a = some (.inr (ci, [.ref (w.2.2 4), .int n, .int k]))) {r : Int32} (hf : fX9_logs w σ a ci n k p1 = some (r, σ')) : zC l w zLx yX9_logs (ws_ yX9_logs cX9_logs 3 (some .int)) 6 80 [.ref a, .int p1] σ (.returned (some (.int r))) σ' := by
  refine zC.of (plainFor_of_name (by decide)) (Nat.le_of_ble_eq_true rfl) ?_
  intro p e s m args below meth c C hnm
  show Z p l e _ s m args below meth c _ w _ _ 3 σ 0 [(0, .ref a), (1, .int p1)] []
  unfold fX9_logs at hf
  refine z_aload_n C 0 dX9_logs_0 rfl rfl ?_
  refine z_getS0 C hci hP q465 (Or.inl rfl) dX9_logs_1 ?_
  refine z_bipush C 13 dX9_logs_4 (by decide) ?_
  obtain ⟨⟨⟩, σ_3, e_2, hf⟩ := bd_ hf
  refine z_callv C (rest := []) (av := (.ref (w.2.2 4) :: [.int 13])) (zPay.of q1105 q81) (fun H ls hH h2 => zInv_V C (As := [.int 13]) (rest := []) (ci := 4) (T := TX4) (N := 2) rfl (zSee.fix ly_x4) hH q1109 q1103 q1104 (Or.inl rfl) q1105 mh_X4 np_X4_begins dX9_logs_6) (tX4_begins l w e_2) (Nat.le_of_ble_eq_true rfl) (Nat.le_of_ble_eq_true rfl) ?_
  refine z_aload_n C 0 dX9_logs_9 rfl rfl ?_
  refine z_iload_n C 1 dX9_logs_10 rfl rfl ?_
  obtain ⟨g_4, hf⟩ := gd_ hf
  have hP_5 := (oShip_ g_4).1
  obtain ⟨r_6, σ_8, e_7, hf⟩ := bd_ hf
  refine z_S_Ship_steers C hci hP_5 q1221  e_7 dX9_logs_11 (Nat.le_of_ble_eq_true rfl) (Nat.le_of_ble_eq_true rfl) ?_
  refine z_istore_n C dX9_logs_14 rfl (by decide) rfl (lv' := [(2, .int r_6), (0, .ref a), (1, .int p1)]) ?_
  refine z_iload_n C 0 dX9_logs_15 rfl rfl ?_
  refine z_aload_n C 1 dX9_logs_16 rfl rfl ?_
  refine z_iload_n C 2 dX9_logs_17 rfl rfl ?_
  obtain ⟨g_9, hf⟩ := gd_ hf
  have hP_10 := (oShip_ g_9).1
  obtain ⟨r_11, σ_13, e_12, hf⟩ := bd_ hf
  refine z_S_Ship_sounds C hci hP_10 q1222  e_12 dX9_logs_18 (Nat.le_of_ble_eq_true rfl) (Nat.le_of_ble_eq_true rfl) ?_
  refine z_ixor C dX9_logs_21 ?_
  obtain ⟨rfl, rfl⟩ := fin_ hf
  exact z_iret C rfl dX9_logs_22
def fS_Ship_believes (w : ZW) (σ : ZS) (a ci : Nat) (n k : Int32) (b : Nat) (p2 : Int32) : Option (Int32 × ZS) := if ci = 8 then (fX9_believes σ a ci n k b p2) else (if ci = 9 then (fX10_believes w σ a ci n k b p2) else (if ci = 10 then (fX11_believes σ a ci n k b p2) else (if ci = 11 then (fX12_believes σ a ci n k b p2) else (if ci = 12 then (fX13_believes w σ a ci n k b p2) else (if ci = 13 then (fX14_believes σ a ci n k b p2) else (if ci = 14 then (fX15_believes σ a ci n k b p2) else (none)))))))
section
variable {p : Program} {l : Launch} {e : Env} {R : Room} {s : State} {m : MethodId} {args : Array Value} {below : List Frame} {meth : Method} {c : Code} {Q : State → Prop} {w : ZW} {A : Nat → Prop} {nL : Nat} {cc : ByteArray} {own : String} {ret : Option FieldType} {hh : List (Nat × Nat × Nat × Nat)} {σ : ZS} {pc : Nat} {lv : List (Nat × Value)} {st : List Value}
theorem z_S_Ship_believes (C : zCx p s m args meth c w zLx A nL cc own ret hh) {index a ci b : Nat} {n k p2 r : Int32} {σ' : ZS} (hci : zShipC ci) (hP : σ.2.2.1 a = some (.inr (ci, [.ref (w.2.2 4), .int n, .int k]))) (hq1 : Cond.methodLink own index ⟨"OldLight$Ship", "believes", "(LOldLight$Bay;I)I"⟩ ∈ lw_all) (hb : zBay b) (hf : fS_Ship_believes w σ a ci n k b p2 = some (r, σ')) (hd : decode cc pc = .ok (.invokevirtual index, 3)) (hfr : 727 + 1 ≤ R.frames) (hlo : (st.map fun v => v.category).sum + (3 + 11) + 6101 ≤ R.locals) (kk : Z p l e R s m args below meth c Q w zLx A nL σ' (pc + 3) lv (.int r :: st)) : Z p l e R s m args below meth c Q w zLx A nL σ pc lv (.int p2 :: .ref (w.2.2 b) :: .ref a :: st) := by
  rcases hci with rfl | rfl | rfl | rfl | rfl | rfl | rfl
  · skip
    exact z_calli C (rest := st) (av := (.ref a :: [.ref (w.2.2 b), .int p2])) (zPay.of q623 q87) (fun H ls hH h2 => zInv_U C (x := ⟨"OldLight$Ship", "believes", "(LOldLight$Bay;I)I"⟩) (owner := "OldLight$Ship") (As := [.ref (w.2.2 b), .int p2]) (rest := st) (ci := 8) (T := TX9) (N := 3) rfl (zSee.pool hP) hH hq1 q592 (zDecl_of C q590 q623) (by unfold zMH; decide) q590 q591 np_X9_believes hd) (tX9_believes l w (by unfold zShipC; decide) hP hb hf) (by have := hfr; omega) (by have := hlo; omega) kk
  · skip
    exact z_calli C (rest := st) (av := (.ref a :: [.ref (w.2.2 b), .int p2])) (zPay.of q595 q88) (fun H ls hH h2 => zInv_U C (x := ⟨"OldLight$Ship", "believes", "(LOldLight$Bay;I)I"⟩) (owner := "OldLight$Ship") (As := [.ref (w.2.2 b), .int p2]) (rest := st) (ci := 9) (T := TX10) (N := 3) rfl (zSee.pool hP) hH hq1 q592 (zDecl_of C q590 q623) (by unfold zMH; decide) q594 q593 np_X10_believes hd) (tX10_believes l w (by unfold zShipC; decide) hP hb hf) (by have := hfr; omega) (by have := hlo; omega) kk
  · skip
    exact z_calli C (rest := st) (av := (.ref a :: [.ref (w.2.2 b), .int p2])) (zPay.of q609 q89) (fun H ls hH h2 => zInv_U C (x := ⟨"OldLight$Ship", "believes", "(LOldLight$Bay;I)I"⟩) (owner := "OldLight$Ship") (As := [.ref (w.2.2 b), .int p2]) (rest := st) (ci := 10) (T := TX11) (N := 3) rfl (zSee.pool hP) hH hq1 q592 (zDecl_of C q590 q623) (by unfold zMH; decide) q608 q607 np_X11_believes hd) (tX11_believes l w (by unfold zShipC; decide) hP hb hf) (by have := hfr; omega) (by have := hlo; omega) kk
  · skip
    exact z_calli C (rest := st) (av := (.ref a :: [.ref (w.2.2 b), .int p2])) (zPay.of q619 q90) (fun H ls hH h2 => zInv_U C (x := ⟨"OldLight$Ship", "believes", "(LOldLight$Bay;I)I"⟩) (owner := "OldLight$Ship") (As := [.ref (w.2.2 b), .int p2]) (rest := st) (ci := 11) (T := TX12) (N := 3) rfl (zSee.pool hP) hH hq1 q592 (zDecl_of C q590 q623) (by unfold zMH; decide) q618 q617 np_X12_believes hd) (tX12_believes l w (by unfold zShipC; decide) hP hb hf) (by have := hfr; omega) (by have := hlo; omega) kk
  · skip
    exact z_calli C (rest := st) (av := (.ref a :: [.ref (w.2.2 b), .int p2])) (zPay.of q599 q91) (fun H ls hH h2 => zInv_U C (x := ⟨"OldLight$Ship", "believes", "(LOldLight$Bay;I)I"⟩) (owner := "OldLight$Ship") (As := [.ref (w.2.2 b), .int p2]) (rest := st) (ci := 12) (T := TX13) (N := 3) rfl (zSee.pool hP) hH hq1 q592 (zDecl_of C q590 q623) (by unfold zMH; decide) q598 q597 np_X13_believes hd) (tX13_believes l w (by unfold zShipC; decide) hP hb hf) (by have := hfr; omega) (by have := hlo; omega) kk
  · skip
    exact z_calli C (rest := st) (av := (.ref a :: [.ref (w.2.2 b), .int p2])) (zPay.of q613 q92) (fun H ls hH h2 => zInv_U C (x := ⟨"OldLight$Ship", "believes", "(LOldLight$Bay;I)I"⟩) (owner := "OldLight$Ship") (As := [.ref (w.2.2 b), .int p2]) (rest := st) (ci := 13) (T := TX14) (N := 3) rfl (zSee.pool hP) hH hq1 q592 (zDecl_of C q590 q623) (by unfold zMH; decide) q612 q611 np_X14_believes hd) (tX14_believes l w (by unfold zShipC; decide) hP hb hf) (by have := hfr; omega) (by have := hlo; omega) kk
  · skip
    exact z_calli C (rest := st) (av := (.ref a :: [.ref (w.2.2 b), .int p2])) (zPay.of q603 q93) (fun H ls hH h2 => zInv_U C (x := ⟨"OldLight$Ship", "believes", "(LOldLight$Bay;I)I"⟩) (owner := "OldLight$Ship") (As := [.ref (w.2.2 b), .int p2]) (rest := st) (ci := 14) (T := TX15) (N := 3) rfl (zSee.pool hP) hH hq1 q592 (zDecl_of C q590 q623) (by unfold zMH; decide) q602 q601 np_X15_believes hd) (tX15_believes l w (by unfold zShipC; decide) hP hb hf) (by have := hfr; omega) (by have := hlo; omega) kk
end
def fX0_believed (w : ZW) (σ : ZS) (p1 : Int32) : Option (Int32 × ZS) := gd (¬ (p1 < 0 ∨ 7 ≤ p1.toNatClampNeg)) (bd (if (σ.1 (100 + 12) p1.toNatClampNeg) = 0 then (some ((-1), σ)) else (bo (σ.2.1 (100 + 10) (p1.toNatClampNeg)) (fun (a_6 : Nat) => bo (oShip w (σ.2.2.1 a_6)) (fun ss8 => bd (fS_Ship_believes w σ a_6 (ss8.1) (ss8.2.1) (ss8.2.2) 100 ((σ.1 (100 + 12) p1.toNatClampNeg) - 1)) (fun r_14 σ_16 => some (r_14, σ_16)))))) (fun (j_2 : Int32) σ_3 => some (j_2, σ_3)))
set_option maxHeartbeats 4000000 in
set_option maxRecDepth 100000 in
theorem tX0_believed (l : Launch) (w : ZW) {σ σ' : ZS} {p1 : Int32} {r : Int32} (hf : fX0_believed w σ p1 = some (r, σ')) : zC l w zLx yX0_believed (ws_ yX0_believed cX0_believed 2 (some .int)) 728 6115 [.ref (w.2.2 0), .int p1] σ (.returned (some (.int r))) σ' := by
  refine zC.of (plainFor_of_name (by decide)) (Nat.le_of_ble_eq_true rfl) ?_
  intro p e s m args below meth c C hnm
  show Z p l e _ s m args below meth c _ w _ _ 2 σ 0 [(0, .ref (w.2.2 0)), (1, .int p1)] []
  unfold fX0_believed at hf
  refine z_aload_n C 0 dX0_believed_0 rfl rfl ?_
  refine z_getR C ly_x0 (Cn := RX0) (T := TX0) (N := 8) rfl in_X0 1 (by decide) q320 (Or.inl rfl) rfl dX0_believed_1 ?_
  refine z_getRN C (ly_b0 zb100) (Cn := RX2) (T := TX2) (N := 20) rfl in_X2 11 (by decide) q236 (Or.inl rfl) rfl dX0_believed_4 ?_
  refine z_iload_n C 1 dX0_believed_7 rfl rfl ?_
  obtain ⟨g_1, hf⟩ := gd_ hf
  refine z_ialoadF C (ly_b12 zb100) g_1 dX0_believed_8 ?_
  obtain ⟨j_2, σ_3, e_4, hf⟩ := bd_ hf
  have hje_4 : Z p l e (zRm 728 6115 σ) s m args below meth c (zQ below w zLx σ (.returned (some (.int r))) σ' args s) w zLx (zA w zLx σ) 2 σ_3 43 [(0, .ref (w.2.2 0)), (1, .int p1)] [.int j_2] := by
    obtain ⟨rfl, rfl⟩ := fin_ hf
    exact z_iret C rfl dX0_believed_43
  replace hf := e_4
  refine z_if_ne C 16 dX0_believed_9 (by decide) (fun c_5 => ?_) (fun c_5 => ?_)
  · replace hf := if_f c_5 hf
    refine z_aload_n C 0 dX0_believed_16 rfl rfl ?_
    refine z_getR C ly_x0 (Cn := RX0) (T := TX0) (N := 8) rfl in_X0 1 (by decide) q320 (Or.inl rfl) rfl dX0_believed_17 ?_
    refine z_getRN C (ly_b0 zb100) (Cn := RX2) (T := TX2) (N := 20) rfl in_X2 9 (by decide) q232 (Or.inl rfl) rfl dX0_believed_20 ?_
    refine z_iload_n C 1 dX0_believed_23 rfl rfl ?_
    refine z_aaloadF C (ly_b10 zb100) rfl g_1 dX0_believed_24 ?_
    obtain ⟨a_6, e_7, hf⟩ := bo_ hf
    refine z_eq (rf_s e_7) ?_
    refine z_aload_n C 0 dX0_believed_25 rfl rfl ?_
    refine z_getR C ly_x0 (Cn := RX0) (T := TX0) (N := 8) rfl in_X0 1 (by decide) q320 (Or.inl rfl) rfl dX0_believed_26 ?_
    refine z_aload_n C 0 dX0_believed_29 rfl rfl ?_
    refine z_getR C ly_x0 (Cn := RX0) (T := TX0) (N := 8) rfl in_X0 1 (by decide) q320 (Or.inl rfl) rfl dX0_believed_30 ?_
    refine z_getRN C (ly_b0 zb100) (Cn := RX2) (T := TX2) (N := 20) rfl in_X2 11 (by decide) q236 (Or.inl rfl) rfl dX0_believed_33 ?_
    refine z_iload_n C 1 dX0_believed_36 rfl rfl ?_
    refine z_ialoadF C (ly_b12 zb100) g_1 dX0_believed_37 ?_
    refine z_iconst C 1 dX0_believed_38 (by decide) ?_
    refine z_isub C dX0_believed_39 ?_
    obtain ⟨⟨ci_8, n_9, k_10⟩, e_11, hf⟩ := bo_ hf
    try dsimp only at hf
    obtain ⟨hP_12, hci_13⟩ := oShip_ e_11
    obtain ⟨r_14, σ_16, e_15, hf⟩ := bd_ hf
    refine z_S_Ship_believes C hci_13 hP_12 q589 zb100 e_15 dX0_believed_40 (Nat.le_of_ble_eq_true rfl) (Nat.le_of_ble_eq_true rfl) ?_
    obtain ⟨rfl, rfl⟩ := fin_ hf
    exact hje_4
  · replace hf := if_t c_5 hf
    refine z_iconst C (-1) dX0_believed_12 (by decide) ?_
    refine z_goto C 43 dX0_believed_13 (by decide) ?_
    obtain ⟨rfl, rfl⟩ := fin_ hf
    exact hje_4
def fX0_which_L65 (w : ZW) (r_10 : Nat) (y1 : Int32) (y2 : Int32) : Nat → Int32 → Int32 → Int32 → ZS → Option ((Int32 × Int32 × Int32) × ZS)
  | 0, _, _, _, _ => none
  | n + 1, y4, y5, y6, σ => if 99 < y6 then (some ((y4, y5, y6), σ)) else (bd (fX0_isShownSo w σ r_10 y6) (fun r_26 σ_28 => nm (if r_26 = 0 then y5 else (if y4 = 0 then y6 else y5)) (fun (j_29 : Int32) => nm (if r_26 = 0 then 0 else 1) (fun (j_30 : Int32) => nm (y4 + j_30) (fun (x4_31 : Int32) => nm (y6 + 1) (fun (x6_32 : Int32) => fX0_which_L65 w r_10 y1 y2 n x4_31 j_29 x6_32 σ_28))))))
def fX0_which (w : ZW) (σ : ZS) (p1 : Int32) (p2 : Int32) : Option (Int32 × ZS) := nm (if (fX0_isSheet p1) = 0 then 0 else (if (fX0_in p2 0 1) = 0 then 0 else 1)) (fun (j_1 : Int32) => bd (fX0_need σ j_1 1) (fun r_2 σ_4 => sc r_2 (fun _ => bd (fX0_sheetAt σ_4 p1) (fun r_7 σ_9 => sc r_7 (fun (r_10 : Nat) => bo (oSheet (σ_9.2.2.1 r_10)) (fun sh12 => bo (fS_Sheet_size w σ_9 r_10 (sh12.1) (sh12.2) ) (fun r_17 => nm (if r_17 = (σ_9.1 100 0) then 1 else 0) (fun (j_19 : Int32) => bd (fX0_need σ_9 j_19 2) (fun r_20 σ_22 => sc r_20 (fun _ => bd (fX0_which_L65 w r_10 p1 p2 10000 0 (-1) 0 σ_22) (fun uu39 σ_39 => nm (if p2 = 0 then 1 else (if (uu39.1) ≤ 0 then 0 else 1)) (fun (j_41 : Int32) => bd (fX0_need σ_39 j_41 2) (fun r_42 σ_44 => sc r_42 (fun _ => nm (if p2 = 0 then (uu39.1) else (uu39.2.1)) (fun (j_47 : Int32) => some (j_47, σ_44))) (fun _ => bd (fX0_finds σ_44) (fun r_49 σ_51 => some (r_49, σ_51))))))) (fun _ => bd (fX0_finds σ_22) (fun r_54 σ_56 => some (r_54, σ_56)))))))) (fun _ => bd (fX0_finds σ_9) (fun r_58 σ_60 => some (r_58, σ_60))))) (fun _ => bd (fX0_finds σ_4) (fun r_61 σ_63 => some (r_61, σ_63)))))
set_option maxHeartbeats 4000000 in
set_option maxRecDepth 100000 in
theorem lfX0_which_L65 {p : Program} {l : Launch} {e : Env} {R : Room} {s : State} {m : MethodId} {args : Array Value} {below : List Frame} {meth : Method} {c : Code} {Q : State → Prop} {w : ZW} {A : Nat → Prop} {ret : Option FieldType} {hh : List (Nat × Nat × Nat × Nat)} (C : zCx p s m args meth c w zLx A 8 cX0_which RX0 ret hh) (hfr : 726 ≤ R.frames) (hlo : 6090 ≤ R.locals) {r_10 : Nat} (y1 : Int32) (y2 : Int32) {z4 : Int32} {z5 : Int32} {z6 : Int32} {σ' : ZS} (hk : Z p l e R s m args below meth c Q w zLx A 8 σ' 121 [(0, .ref (w.2.2 0)), (1, .int y1), (2, .int y2), (3, .ref r_10), (4, .int z4), (5, .int z5), (6, .int z6)] []) : ∀ (n : Nat) (y4 : Int32) (y5 : Int32) (y6 : Int32) (σ : ZS), fX0_which_L65 w r_10 y1 y2 n y4 y5 y6 σ = some ((z4, z5, z6), σ') → Z p l e R s m args below meth c Q w zLx A 8 σ 65 [(0, .ref (w.2.2 0)), (1, .int y1), (2, .int y2), (3, .ref r_10), (4, .int y4), (5, .int y5), (6, .int y6)] [] := by
  intro n
  induction n with
  | zero => intro y4 y5 y6 σ hf; exact none_ hf
  | succ n ih =>
    intro y4 y5 y6 σ hf
    rw [fX0_which_L65] at hf
    refine z_iload C 6 dX0_which_65 rfl ?_
    refine z_bipush C 99 dX0_which_67 (by decide) ?_
    refine z_icmp_gt C 121 dX0_which_69 (by decide) (fun c_25 => ?_) (fun c_25 => ?_)
    · replace hf := if_t c_25 hf
      obtain ⟨hf1, rfl⟩ := fin_ hf
      simp only [Prod.mk.injEq] at hf1
      obtain ⟨rfl, rfl, rfl⟩ := hf1
      exact hk
    · replace hf := if_f c_25 hf
      refine z_aload_n C 0 dX0_which_72 rfl rfl ?_
      refine z_aload_n C 3 dX0_which_73 rfl rfl ?_
      refine z_iload C 6 dX0_which_74 rfl ?_
      obtain ⟨r_26, σ_28, e_27, hf⟩ := bd_ hf
      refine z_calli C (rest := []) (av := (.ref (w.2.2 0) :: [.ref r_10, .int y6])) (zPay.of q1029 q74) (fun H ls hH h2 => zInv_V C (As := [.ref r_10, .int y6]) (rest := []) (ci := 0) (T := TX0) (N := 8) rfl (zSee.fix ly_x0) hH q1026 q1028 qs26 (Or.inl rfl) q1029 mh_X0 np_X0_isShownSo dX0_which_76) (tX0_isShownSo l w e_27) (Nat.le_trans (Nat.le_of_ble_eq_true rfl) hfr) (Nat.le_trans (Nat.le_of_ble_eq_true rfl) hlo) ?_
      refine z_istore C dX0_which_79 (by decide) rfl (lv' := [(7, .int r_26), (0, .ref (w.2.2 0)), (1, .int y1), (2, .int y2), (3, .ref r_10), (4, .int y4), (5, .int y5), (6, .int y6)]) ?_
      refine z_iload C 0 dX0_which_81 rfl ?_
      obtain ⟨j_29, ej_29, hf⟩ := nmo_ hf
      have hjj_29 : Z p l e R s m args below meth c Q w zLx A 8 σ_28 98 [(0, .ref (w.2.2 0)), (1, .int y1), (2, .int y2), (3, .ref r_10), (4, .int y4), (5, .int y5), (6, .int y6), (7, .int r_26)] [.int j_29] := by
        refine z_istore C dX0_which_98 (by decide) rfl (lv' := [(5, .int j_29), (0, .ref (w.2.2 0)), (1, .int y1), (2, .int y2), (3, .ref r_10), (4, .int y4), (6, .int y6), (7, .int r_26)]) ?_
        refine z_iload C 5 dX0_which_100 rfl ?_
        refine z_iload C 7 dX0_which_102 rfl ?_
        obtain ⟨j_30, ej_30, hf⟩ := nmo_ hf
        have hj_30 : j_30 = 0 ∨ j_30 = 1 := by rw [ej_30]; (try dsimp only [nm]); (repeat' split) <;> first | exact Or.inl rfl | exact Or.inr rfl
        have hjj_30 : Z p l e R s m args below meth c Q w zLx A 8 σ_28 112 [(0, .ref (w.2.2 0)), (1, .int y1), (2, .int y2), (3, .ref r_10), (4, .int y4), (5, .int j_29), (6, .int y6), (7, .int r_26)] [.int j_30, .int y4] := by
          refine z_iadd C dX0_which_112 ?_
          obtain ⟨x4_31, ex4_31, hf⟩ := nmo_ hf
          refine z_top ex4_31 ?_
          refine z_istore C dX0_which_113 (by decide) rfl (lv' := [(4, .int x4_31), (0, .ref (w.2.2 0)), (1, .int y1), (2, .int y2), (3, .ref r_10), (5, .int j_29), (6, .int y6), (7, .int r_26)]) ?_
          obtain ⟨x6_32, ex6_32, hf⟩ := nmo_ hf
          refine z_iinc C x6_32 6 dX0_which_115 rfl (by rw [ex6_32]; rfl) (by decide) rfl (lv' := [(6, .int x6_32), (4, .int x4_31), (0, .ref (w.2.2 0)), (1, .int y1), (2, .int y2), (3, .ref r_10), (5, .int j_29), (7, .int r_26)]) ?_
          refine z_goto C 65 dX0_which_118 (by decide) ?_
          exact z_lv [2, 3, 4, 5, 1, 6, 0] rfl (ih _ _ _ _ hf)
        replace hf := ej_30
        refine z_if_eq C 111 dX0_which_104 (by decide) (fun c_33 => ?_) (fun c_33 => ?_)
        · replace hf := ifp_t c_33 hf
          refine z_iconst C 0 dX0_which_111 (by decide) ?_
          subst hf
          exact z_lv [1, 2, 3, 4, 5, 0, 6, 7] rfl hjj_30
        · replace hf := ifp_f c_33 hf
          refine z_iconst C 1 dX0_which_107 (by decide) ?_
          refine z_goto C 112 dX0_which_108 (by decide) ?_
          subst hf
          exact z_lv [1, 2, 3, 4, 5, 0, 6, 7] rfl hjj_30
      replace hf := ej_29
      refine z_if_eq C 96 dX0_which_83 (by decide) (fun c_34 => ?_) (fun c_34 => ?_)
      · replace hf := ifp_t c_34 hf
        refine z_iload C 6 dX0_which_96 rfl ?_
        subst hf
        exact z_lv [1, 2, 3, 4, 5, 6, 7, 0] rfl hjj_29
      · replace hf := ifp_f c_34 hf
        refine z_iload C 5 dX0_which_86 rfl ?_
        refine z_if_ne C 96 dX0_which_88 (by decide) (fun c_35 => ?_) (fun c_35 => ?_)
        · replace hf := ifp_f c_35 hf
          refine z_iload C 6 dX0_which_96 rfl ?_
          subst hf
          exact z_lv [1, 2, 3, 4, 5, 6, 7, 0] rfl hjj_29
        · replace hf := ifp_t c_35 hf
          refine z_iload C 7 dX0_which_91 rfl ?_
          refine z_goto C 98 dX0_which_93 (by decide) ?_
          subst hf
          exact z_lv [1, 2, 3, 4, 5, 6, 7, 0] rfl hjj_29
set_option maxHeartbeats 4000000 in
set_option maxRecDepth 100000 in
theorem tX0_which (l : Launch) (w : ZW) {σ σ' : ZS} {p1 : Int32} {p2 : Int32} {r : Int32} (hf : fX0_which w σ p1 p2 = some (r, σ')) : zC l w zLx yX0_which (wsW_ yX0_which cX0_which 8 (some .int) [(0, 151, 152, 8)]) 726 6090 [.ref (w.2.2 0), .int p1, .int p2] σ (.returned (some (.int r))) σ' := by
  refine zC.ofW (plainFor_of_name (by decide)) (Nat.le_of_ble_eq_true rfl) ?_
  intro p e s m args below meth c C hnm
  show Z p l e _ s m args below meth c _ w _ _ 8 σ 0 [(0, .ref (w.2.2 0)), (1, .int p1), (2, .int p2)] []
  unfold fX0_which at hf
  refine z_aload_n C 0 dX0_which_0 rfl rfl ?_
  refine z_iload_n C 1 dX0_which_1 rfl rfl ?_
  refine z_calli C (rest := [.ref (w.2.2 0)]) (av := [.int p1]) (zPay.of q1008 q74) (fun H ls hH h2 => zInv_S C (As := [.int p1]) (rest := [.ref (w.2.2 0)]) q1006 q1007 q74 (Or.inl rfl) q1008 mh_X0 np_X0_isSheet dX0_which_2) (tX0_isSheet l w zLx σ p1) (Nat.le_of_ble_eq_true rfl) (Nat.le_of_ble_eq_true rfl) ?_
  obtain ⟨j_1, ej_1, hf⟩ := nmo_ hf
  have hj_1 : j_1 = 0 ∨ j_1 = 1 := by rw [ej_1]; (try dsimp only [nm]); (repeat' split) <;> first | exact Or.inl rfl | exact Or.inr rfl
  have hjj_1 : Z p l e (zRm 726 6090 σ) s m args below meth c (zQ below w zLx σ (.returned (some (.int r))) σ' args s) w zLx (zA w zLx σ) 8 σ 22 [(0, .ref (w.2.2 0)), (1, .int p1), (2, .int p2)] [.int j_1, .ref (w.2.2 0)] := by
    refine z_iconst C 1 dX0_which_22 (by decide) ?_
    obtain ⟨r_2, σ_4, e_3, hf⟩ := bd_ hf
    rcases r_2 with ⟨⟩ | ⟨⟩
    · dsimp only [sc] at hf
      refine z_callv C (rest := []) (av := (.ref (w.2.2 0) :: [.int j_1, .int 1])) (zPay.of q354 q74) (fun H ls hH h2 => zInv_V C (As := [.int j_1, .int 1]) (rest := []) (ci := 0) (T := TX0) (N := 8) rfl (zSee.fix ly_x0) hH q351 q353 qs1 (Or.inl rfl) q354 mh_X0 np_X0_need dX0_which_23) (tX0_need l w e_3) (Nat.le_of_ble_eq_true rfl) (Nat.le_of_ble_eq_true rfl) ?_
      refine z_aload_n C 0 dX0_which_26 rfl rfl ?_
      refine z_iload_n C 1 dX0_which_27 rfl rfl ?_
      obtain ⟨r_7, σ_9, e_8, hf⟩ := bd_ hf
      rcases r_7 with r_10 | ⟨⟩
      · dsimp only [sc] at hf
        refine z_callr C (rest := []) (av := (.ref (w.2.2 0) :: [.int p1])) (zPay.of q1012 q74) (fun H ls hH h2 => zInv_V C (As := [.int p1]) (rest := []) (ci := 0) (T := TX0) (N := 8) rfl (zSee.fix ly_x0) hH q1009 q1011 qs25 (Or.inl rfl) q1012 mh_X0 np_X0_sheetAt dX0_which_28) (tX0_sheetAt l w e_8) (Nat.le_of_ble_eq_true rfl) (Nat.le_of_ble_eq_true rfl) ?_
        refine z_astore_n C dX0_which_31 rfl (by decide) rfl (lv' := [(3, .ref r_10), (0, .ref (w.2.2 0)), (1, .int p1), (2, .int p2)]) ?_
        refine z_aload_n C 1 dX0_which_32 rfl rfl ?_
        refine z_aload_n C 0 dX0_which_33 rfl rfl ?_
        obtain ⟨⟨ci_12, r_13⟩, e_14, hf⟩ := bo_ hf
        try dsimp only at hf
        obtain ⟨hP_15, hci_16⟩ := oSheet_ e_14
        obtain ⟨r_17, e_18, hf⟩ := bo_ hf
        refine z_Sh_size C hci_16 hP_15 q1014 e_18 dX0_which_34 (Nat.le_of_ble_eq_true rfl) (Nat.le_of_ble_eq_true rfl) ?_
        refine z_aload_n C 1 dX0_which_37 rfl rfl ?_
        refine z_getR C ly_x0 (Cn := RX0) (T := TX0) (N := 8) rfl in_X0 1 (by decide) q320 (Or.inl rfl) rfl dX0_which_38 ?_
        refine z_getIN C (ly_b0 zb100) (Cn := RX2) (T := TX2) (N := 20) rfl in_X2 0 (by decide) q211 (Or.inl rfl) rfl dX0_which_41 ?_
        obtain ⟨j_19, ej_19, hf⟩ := nmo_ hf
        have hj_19 : j_19 = 0 ∨ j_19 = 1 := by rw [ej_19]; (try dsimp only [nm]); (repeat' split) <;> first | exact Or.inl rfl | exact Or.inr rfl
        have hjj_19 : Z p l e (zRm 726 6090 σ) s m args below meth c (zQ below w zLx σ (.returned (some (.int r))) σ' args s) w zLx (zA w zLx σ) 8 σ_9 52 [(0, .ref (w.2.2 0)), (1, .int p1), (2, .int p2), (3, .ref r_10)] [.int j_19, .ref (w.2.2 0)] := by
          refine z_iconst C 2 dX0_which_52 (by decide) ?_
          obtain ⟨r_20, σ_22, e_21, hf⟩ := bd_ hf
          rcases r_20 with ⟨⟩ | ⟨⟩
          · dsimp only [sc] at hf
            refine z_callv C (rest := []) (av := (.ref (w.2.2 0) :: [.int j_19, .int 2])) (zPay.of q354 q74) (fun H ls hH h2 => zInv_V C (As := [.int j_19, .int 2]) (rest := []) (ci := 0) (T := TX0) (N := 8) rfl (zSee.fix ly_x0) hH q351 q353 qs1 (Or.inl rfl) q354 mh_X0 np_X0_need dX0_which_53) (tX0_need l w e_21) (Nat.le_of_ble_eq_true rfl) (Nat.le_of_ble_eq_true rfl) ?_
            refine z_iconst C 0 dX0_which_56 (by decide) ?_
            refine z_istore C dX0_which_57 (by decide) rfl (lv' := [(4, .int 0), (0, .ref (w.2.2 0)), (1, .int p1), (2, .int p2), (3, .ref r_10)]) ?_
            refine z_iconst C (-1) dX0_which_59 (by decide) ?_
            refine z_istore C dX0_which_60 (by decide) rfl (lv' := [(5, .int (-1)), (4, .int 0), (0, .ref (w.2.2 0)), (1, .int p1), (2, .int p2), (3, .ref r_10)]) ?_
            refine z_iconst C 0 dX0_which_62 (by decide) ?_
            refine z_istore C dX0_which_63 (by decide) rfl (lv' := [(6, .int 0), (5, .int (-1)), (4, .int 0), (0, .ref (w.2.2 0)), (1, .int p1), (2, .int p2), (3, .ref r_10)]) ?_
            obtain ⟨⟨x4_36, x5_37, x6_38⟩, σ_39, e_40, hf⟩ := bd_ hf
            try dsimp only at hf
            refine z_lv (lv' := [(0, .ref (w.2.2 0)), (1, .int p1), (2, .int p2), (3, .ref r_10), (4, .int 0), (5, .int (-1)), (6, .int 0)]) [3, 4, 5, 6, 2, 1, 0] rfl ?_
            refine lfX0_which_L65 C (Nat.le_of_ble_eq_true rfl) (Nat.le_of_ble_eq_true rfl) p1 p2 ?_ _ _ _ _ _ e_40
            refine z_aload_n C 0 dX0_which_121 rfl rfl ?_
            refine z_iload_n C 2 dX0_which_122 rfl rfl ?_
            obtain ⟨j_41, ej_41, hf⟩ := nmo_ hf
            have hj_41 : j_41 = 0 ∨ j_41 = 1 := by rw [ej_41]; (try dsimp only [nm]); (repeat' split) <;> first | exact Or.inl rfl | exact Or.inr rfl
            have hjj_41 : Z p l e (zRm 726 6090 σ) s m args below meth c (zQ below w zLx σ (.returned (some (.int r))) σ' args s) w zLx (zA w zLx σ) 8 σ_39 136 [(0, .ref (w.2.2 0)), (1, .int p1), (2, .int p2), (3, .ref r_10), (4, .int x4_36), (5, .int x5_37), (6, .int x6_38)] [.int j_41, .ref (w.2.2 0)] := by
              refine z_iconst C 2 dX0_which_136 (by decide) ?_
              obtain ⟨r_42, σ_44, e_43, hf⟩ := bd_ hf
              rcases r_42 with ⟨⟩ | ⟨⟩
              · dsimp only [sc] at hf
                refine z_callv C (rest := []) (av := (.ref (w.2.2 0) :: [.int j_41, .int 2])) (zPay.of q354 q74) (fun H ls hH h2 => zInv_V C (As := [.int j_41, .int 2]) (rest := []) (ci := 0) (T := TX0) (N := 8) rfl (zSee.fix ly_x0) hH q351 q353 qs1 (Or.inl rfl) q354 mh_X0 np_X0_need dX0_which_137) (tX0_need l w e_43) (Nat.le_of_ble_eq_true rfl) (Nat.le_of_ble_eq_true rfl) ?_
                refine z_iload_n C 2 dX0_which_140 rfl rfl ?_
                obtain ⟨j_47, ej_47, hf⟩ := nmo_ hf
                have hjj_47 : Z p l e (zRm 726 6090 σ) s m args below meth c (zQ below w zLx σ (.returned (some (.int r))) σ' args s) w zLx (zA w zLx σ) 8 σ_44 151 [(0, .ref (w.2.2 0)), (1, .int p1), (2, .int p2), (3, .ref r_10), (4, .int x4_36), (5, .int x5_37), (6, .int x6_38)] [.int j_47] := by
                  obtain ⟨rfl, rfl⟩ := fin_ hf
                  exact z_iret C rfl dX0_which_151
                replace hf := ej_47
                refine z_if_ne C 149 dX0_which_141 (by decide) (fun c_48 => ?_) (fun c_48 => ?_)
                · replace hf := ifp_f c_48 hf
                  refine z_iload C 5 dX0_which_149 rfl ?_
                  subst hf
                  exact hjj_47
                · replace hf := ifp_t c_48 hf
                  refine z_iload C 4 dX0_which_144 rfl ?_
                  refine z_goto C 151 dX0_which_146 (by decide) ?_
                  subst hf
                  exact hjj_47
              · dsimp only [sc] at hf
                refine z_callt C (rest := []) (av := (.ref (w.2.2 0) :: [.int j_41, .int 2])) (zPay.of q354 q74) (fun H ls hH h2 => zInv_V C (As := [.int j_41, .int 2]) (rest := []) (ci := 0) (T := TX0) (N := 8) rfl (zSee.fix ly_x0) hH q351 q353 qs1 (Or.inl rfl) q354 mh_X0 np_X0_need dX0_which_137) (tX0_need l w e_43) (Nat.le_of_ble_eq_true rfl) (Nat.le_of_ble_eq_true rfl) ?_
                refine z_catch C [] 0 151 152 8 [] rfl (by decide) (by decide) (by decide) (ci := 1) (Cn := RX1) (T0 := TX1) (N := 7) rfl (zSee.fix ly_x1) q118 ?_
                refine z_astore_n C dX0_which_152 rfl (by decide) rfl (lv' := [(3, .ref (w.2.2 1)), (0, .ref (w.2.2 0)), (1, .int p1), (2, .int p2), (4, .int x4_36), (5, .int x5_37), (6, .int x6_38)]) ?_
                refine z_aload_n C 1 dX0_which_153 rfl rfl ?_
                refine z_aload_n C 0 dX0_which_154 rfl rfl ?_
                obtain ⟨r_49, σ_51, e_50, hf⟩ := bd_ hf
                refine z_calli C (rest := []) (av := (.ref (w.2.2 0) :: [.ref (w.2.2 1)])) (zPay.of q362 q74) (fun H ls hH h2 => zInv_V C (As := [.ref (w.2.2 1)]) (rest := []) (ci := 0) (T := TX0) (N := 8) rfl (zSee.fix ly_x0) hH q359 q361 qs2 (Or.inl rfl) q362 mh_X0 np_X0_finds dX0_which_155) (tX0_finds l w e_50) (Nat.le_of_ble_eq_true rfl) (Nat.le_of_ble_eq_true rfl) ?_
                obtain ⟨rfl, rfl⟩ := fin_ hf
                exact z_iret C rfl dX0_which_158
            replace hf := ej_41
            refine z_if_eq C 131 dX0_which_123 (by decide) (fun c_52 => ?_) (fun c_52 => ?_)
            · replace hf := ifp_t c_52 hf
              refine z_iconst C 1 dX0_which_131 (by decide) ?_
              refine z_goto C 136 dX0_which_132 (by decide) ?_
              subst hf
              exact hjj_41
            · replace hf := ifp_f c_52 hf
              refine z_iload C 4 dX0_which_126 rfl ?_
              refine z_if_le C 135 dX0_which_128 (by decide) (fun c_53 => ?_) (fun c_53 => ?_)
              · replace hf := ifp_t c_53 hf
                refine z_iconst C 0 dX0_which_135 (by decide) ?_
                subst hf
                exact hjj_41
              · replace hf := ifp_f c_53 hf
                refine z_iconst C 1 dX0_which_131 (by decide) ?_
                refine z_goto C 136 dX0_which_132 (by decide) ?_
                subst hf
                exact hjj_41
          · dsimp only [sc] at hf
            refine z_callt C (rest := []) (av := (.ref (w.2.2 0) :: [.int j_19, .int 2])) (zPay.of q354 q74) (fun H ls hH h2 => zInv_V C (As := [.int j_19, .int 2]) (rest := []) (ci := 0) (T := TX0) (N := 8) rfl (zSee.fix ly_x0) hH q351 q353 qs1 (Or.inl rfl) q354 mh_X0 np_X0_need dX0_which_53) (tX0_need l w e_21) (Nat.le_of_ble_eq_true rfl) (Nat.le_of_ble_eq_true rfl) ?_
            refine z_catch C [] 0 151 152 8 [] rfl (by decide) (by decide) (by decide) (ci := 1) (Cn := RX1) (T0 := TX1) (N := 7) rfl (zSee.fix ly_x1) q118 ?_
            refine z_astore_n C dX0_which_152 rfl (by decide) rfl (lv' := [(3, .ref (w.2.2 1)), (0, .ref (w.2.2 0)), (1, .int p1), (2, .int p2)]) ?_
            refine z_aload_n C 1 dX0_which_153 rfl rfl ?_
            refine z_aload_n C 0 dX0_which_154 rfl rfl ?_
            obtain ⟨r_54, σ_56, e_55, hf⟩ := bd_ hf
            refine z_calli C (rest := []) (av := (.ref (w.2.2 0) :: [.ref (w.2.2 1)])) (zPay.of q362 q74) (fun H ls hH h2 => zInv_V C (As := [.ref (w.2.2 1)]) (rest := []) (ci := 0) (T := TX0) (N := 8) rfl (zSee.fix ly_x0) hH q359 q361 qs2 (Or.inl rfl) q362 mh_X0 np_X0_finds dX0_which_155) (tX0_finds l w e_55) (Nat.le_of_ble_eq_true rfl) (Nat.le_of_ble_eq_true rfl) ?_
            obtain ⟨rfl, rfl⟩ := fin_ hf
            exact z_iret C rfl dX0_which_158
        replace hf := ej_19
        refine z_icmp_ne C 51 dX0_which_44 (by decide) (fun c_57 => ?_) (fun c_57 => ?_)
        · replace hf := ifp_f c_57 hf
          refine z_iconst C 0 dX0_which_51 (by decide) ?_
          subst hf
          exact z_lv [1, 2, 3, 0] rfl hjj_19
        · replace hf := ifp_t c_57 hf
          refine z_iconst C 1 dX0_which_47 (by decide) ?_
          refine z_goto C 52 dX0_which_48 (by decide) ?_
          subst hf
          exact z_lv [1, 2, 3, 0] rfl hjj_19
      · dsimp only [sc] at hf
        refine z_callt C (rest := []) (av := (.ref (w.2.2 0) :: [.int p1])) (zPay.of q1012 q74) (fun H ls hH h2 => zInv_V C (As := [.int p1]) (rest := []) (ci := 0) (T := TX0) (N := 8) rfl (zSee.fix ly_x0) hH q1009 q1011 qs25 (Or.inl rfl) q1012 mh_X0 np_X0_sheetAt dX0_which_28) (tX0_sheetAt l w e_8) (Nat.le_of_ble_eq_true rfl) (Nat.le_of_ble_eq_true rfl) ?_
        refine z_catch C [] 0 151 152 8 [] rfl (by decide) (by decide) (by decide) (ci := 1) (Cn := RX1) (T0 := TX1) (N := 7) rfl (zSee.fix ly_x1) q118 ?_
        refine z_astore_n C dX0_which_152 rfl (by decide) rfl (lv' := [(3, .ref (w.2.2 1)), (0, .ref (w.2.2 0)), (1, .int p1), (2, .int p2)]) ?_
        refine z_aload_n C 1 dX0_which_153 rfl rfl ?_
        refine z_aload_n C 0 dX0_which_154 rfl rfl ?_
        obtain ⟨r_58, σ_60, e_59, hf⟩ := bd_ hf
        refine z_calli C (rest := []) (av := (.ref (w.2.2 0) :: [.ref (w.2.2 1)])) (zPay.of q362 q74) (fun H ls hH h2 => zInv_V C (As := [.ref (w.2.2 1)]) (rest := []) (ci := 0) (T := TX0) (N := 8) rfl (zSee.fix ly_x0) hH q359 q361 qs2 (Or.inl rfl) q362 mh_X0 np_X0_finds dX0_which_155) (tX0_finds l w e_59) (Nat.le_of_ble_eq_true rfl) (Nat.le_of_ble_eq_true rfl) ?_
        obtain ⟨rfl, rfl⟩ := fin_ hf
        exact z_iret C rfl dX0_which_158
    · dsimp only [sc] at hf
      refine z_callt C (rest := []) (av := (.ref (w.2.2 0) :: [.int j_1, .int 1])) (zPay.of q354 q74) (fun H ls hH h2 => zInv_V C (As := [.int j_1, .int 1]) (rest := []) (ci := 0) (T := TX0) (N := 8) rfl (zSee.fix ly_x0) hH q351 q353 qs1 (Or.inl rfl) q354 mh_X0 np_X0_need dX0_which_23) (tX0_need l w e_3) (Nat.le_of_ble_eq_true rfl) (Nat.le_of_ble_eq_true rfl) ?_
      refine z_catch C [] 0 151 152 8 [] rfl (by decide) (by decide) (by decide) (ci := 1) (Cn := RX1) (T0 := TX1) (N := 7) rfl (zSee.fix ly_x1) q118 ?_
      refine z_astore_n C dX0_which_152 rfl (by decide) rfl (lv' := [(3, .ref (w.2.2 1)), (0, .ref (w.2.2 0)), (1, .int p1), (2, .int p2)]) ?_
      refine z_aload_n C 1 dX0_which_153 rfl rfl ?_
      refine z_aload_n C 0 dX0_which_154 rfl rfl ?_
      obtain ⟨r_61, σ_63, e_62, hf⟩ := bd_ hf
      refine z_calli C (rest := []) (av := (.ref (w.2.2 0) :: [.ref (w.2.2 1)])) (zPay.of q362 q74) (fun H ls hH h2 => zInv_V C (As := [.ref (w.2.2 1)]) (rest := []) (ci := 0) (T := TX0) (N := 8) rfl (zSee.fix ly_x0) hH q359 q361 qs2 (Or.inl rfl) q362 mh_X0 np_X0_finds dX0_which_155) (tX0_finds l w e_62) (Nat.le_of_ble_eq_true rfl) (Nat.le_of_ble_eq_true rfl) ?_
      obtain ⟨rfl, rfl⟩ := fin_ hf
      exact z_iret C rfl dX0_which_158
  replace hf := ej_1
  refine z_if_eq C 21 dX0_which_5 (by decide) (fun c_64 => ?_) (fun c_64 => ?_)
  · replace hf := ifp_t c_64 hf
    refine z_iconst C 0 dX0_which_21 (by decide) ?_
    subst hf
    exact hjj_1
  · replace hf := ifp_f c_64 hf
    refine z_iload_n C 2 dX0_which_8 rfl rfl ?_
    refine z_iconst C 0 dX0_which_9 (by decide) ?_
    refine z_iconst C 1 dX0_which_10 (by decide) ?_
    refine z_calli C (rest := [.ref (w.2.2 0)]) (av := [.int p2, .int 0, .int 1]) (zPay.of q350 q74) (fun H ls hH h2 => zInv_S C (As := [.int p2, .int 0, .int 1]) (rest := [.ref (w.2.2 0)]) q348 q349 q74 (Or.inl rfl) q350 mh_X0 np_X0_in dX0_which_11) (tX0_in l w zLx σ p2 0 1) (Nat.le_of_ble_eq_true rfl) (Nat.le_of_ble_eq_true rfl) ?_
    refine z_if_eq C 21 dX0_which_14 (by decide) (fun c_65 => ?_) (fun c_65 => ?_)
    · replace hf := ifp_t c_65 hf
      refine z_iconst C 0 dX0_which_21 (by decide) ?_
      subst hf
      exact hjj_1
    · replace hf := ifp_f c_65 hf
      refine z_iconst C 1 dX0_which_17 (by decide) ?_
      refine z_goto C 22 dX0_which_18 (by decide) ?_
      subst hf
      exact hjj_1
def fX2_goesOn (w : ZW) (σ : ZS) (b : Nat) (p1 : Int32) : Option (Unit × ZS) := gd (¬ (p1 < 0 ∨ 7 ≤ p1.toNatClampNeg)) (bo (σ.2.1 (b + 10) (p1.toNatClampNeg)) (fun (a_2 : Nat) => bo (oShip w (σ.2.2.1 a_2)) (fun ss4 => bd (fS_Ship_believes w σ a_2 (ss4.1) (ss4.2.1) (ss4.2.2) b ((σ.1 (b + 12) p1.toNatClampNeg) - 1)) (fun r_10 σ_12 => bd (if r_10 < (σ_12.1 (b + 11) p1.toNatClampNeg) then (bo (σ_12.2.1 (b + 10) (p1.toNatClampNeg)) (fun (a_16 : Nat) => bo (oShip w (σ_12.2.2.1 a_16)) (fun ss18 => bd (fX2_elseBy σ_12 b (σ_12.1 (b + 11) p1.toNatClampNeg) (ss18.2.2) (σ_12.1 b 7)) (fun r_24 σ_26 => if r_24 = 0 then (some ((), σ_26)) else (nm (fJ3_min ((σ_26.1 b 0) - 1) ((σ_26.1 (b + 12) p1.toNatClampNeg) + 1)) (fun (v_28 : Int32) => some ((), sI σ_26 (b + 12) (p1.toNatClampNeg) v_28))))))) else (bd (fX2_comesIn σ_12 b p1) (fun _ σ_31 => some ((), σ_31)))) (fun (_ : Unit) σ_13 => some ((), σ_13))))))
set_option maxHeartbeats 4000000 in
set_option maxRecDepth 100000 in
theorem tX2_goesOn (l : Launch) (w : ZW) {σ σ' : ZS} {b : Nat} {p1 : Int32} (hb : zBay b) (hf : fX2_goesOn w σ b p1 = some ((), σ')) : zC l w zLx yX2_goesOn (ws_ yX2_goesOn cX2_goesOn 2 none) 728 6115 [.ref (w.2.2 b), .int p1] σ (.returned none) σ' := by
  refine zC.of (plainFor_of_name (by decide)) (Nat.le_of_ble_eq_true rfl) ?_
  intro p e s m args below meth c C hnm
  show Z p l e _ s m args below meth c _ w _ _ 2 σ 0 [(0, .ref (w.2.2 b)), (1, .int p1)] []
  unfold fX2_goesOn at hf
  refine z_aload_n C 0 dX2_goesOn_0 rfl rfl ?_
  refine z_getR C (ly_b0 hb) (Cn := RX2) (T := TX2) (N := 20) rfl in_X2 9 (by decide) q231 (Or.inl rfl) rfl dX2_goesOn_1 ?_
  refine z_iload_n C 1 dX2_goesOn_4 rfl rfl ?_
  obtain ⟨g_1, hf⟩ := gd_ hf
  refine z_aaloadF C (ly_b10 hb) rfl g_1 dX2_goesOn_5 ?_
  obtain ⟨a_2, e_3, hf⟩ := bo_ hf
  refine z_eq (rf_s e_3) ?_
  refine z_aload_n C 0 dX2_goesOn_6 rfl rfl ?_
  refine z_aload_n C 0 dX2_goesOn_7 rfl rfl ?_
  refine z_getR C (ly_b0 hb) (Cn := RX2) (T := TX2) (N := 20) rfl in_X2 11 (by decide) q235 (Or.inl rfl) rfl dX2_goesOn_8 ?_
  refine z_iload_n C 1 dX2_goesOn_11 rfl rfl ?_
  refine z_ialoadF C (ly_b12 hb) g_1 dX2_goesOn_12 ?_
  refine z_iconst C 1 dX2_goesOn_13 (by decide) ?_
  refine z_isub C dX2_goesOn_14 ?_
  obtain ⟨⟨ci_4, n_5, k_6⟩, e_7, hf⟩ := bo_ hf
  try dsimp only at hf
  obtain ⟨hP_8, hci_9⟩ := oShip_ e_7
  obtain ⟨r_10, σ_12, e_11, hf⟩ := bd_ hf
  refine z_S_Ship_believes C hci_9 hP_8 q934 hb e_11 dX2_goesOn_15 (Nat.le_of_ble_eq_true rfl) (Nat.le_of_ble_eq_true rfl) ?_
  refine z_aload_n C 0 dX2_goesOn_18 rfl rfl ?_
  refine z_getR C (ly_b0 hb) (Cn := RX2) (T := TX2) (N := 20) rfl in_X2 10 (by decide) q233 (Or.inl rfl) rfl dX2_goesOn_19 ?_
  refine z_iload_n C 1 dX2_goesOn_22 rfl rfl ?_
  refine z_ialoadF C (ly_b11 hb) g_1 dX2_goesOn_23 ?_
  obtain ⟨⟨⟩, σ_13, e_14, hf⟩ := bd_ hf
  have hje_14 : Z p l e (zRm 728 6115 σ) s m args below meth c (zQ below w zLx σ (.returned none) σ' args s) w zLx (zA w zLx σ) 2 σ_13 84 [(0, .ref (w.2.2 b)), (1, .int p1)] [] := by
    obtain ⟨-, rfl⟩ := fin_ hf
    exact z_vret C dX2_goesOn_84
  replace hf := e_14
  refine z_icmp_lt C 35 dX2_goesOn_24 (by decide) (fun c_15 => ?_) (fun c_15 => ?_)
  · replace hf := if_t c_15 hf
    refine z_aload_n C 0 dX2_goesOn_35 rfl rfl ?_
    refine z_aload_n C 0 dX2_goesOn_36 rfl rfl ?_
    refine z_getR C (ly_b0 hb) (Cn := RX2) (T := TX2) (N := 20) rfl in_X2 10 (by decide) q233 (Or.inl rfl) rfl dX2_goesOn_37 ?_
    refine z_iload_n C 1 dX2_goesOn_40 rfl rfl ?_
    refine z_ialoadF C (ly_b11 hb) g_1 dX2_goesOn_41 ?_
    refine z_aload_n C 0 dX2_goesOn_42 rfl rfl ?_
    refine z_getR C (ly_b0 hb) (Cn := RX2) (T := TX2) (N := 20) rfl in_X2 9 (by decide) q231 (Or.inl rfl) rfl dX2_goesOn_43 ?_
    refine z_iload_n C 1 dX2_goesOn_46 rfl rfl ?_
    refine z_aaloadF C (ly_b10 hb) rfl g_1 dX2_goesOn_47 ?_
    obtain ⟨a_16, e_17, hf⟩ := bo_ hf
    refine z_eq (rf_s e_17) ?_
    obtain ⟨⟨ci_18, n_19, k_20⟩, e_21, hf⟩ := bo_ hf
    try dsimp only at hf
    obtain ⟨hP_22, hci_23⟩ := oShip_ e_21
    refine z_getS2 C hci_23 hP_22 q484 (Or.inl rfl) dX2_goesOn_48 ?_
    refine z_aload_n C 0 dX2_goesOn_51 rfl rfl ?_
    refine z_getI C (ly_b0 hb) (Cn := RX2) (T := TX2) (N := 20) rfl in_X2 7 (by decide) q227 (Or.inl rfl) rfl dX2_goesOn_52 ?_
    obtain ⟨r_24, σ_26, e_25, hf⟩ := bd_ hf
    refine z_calli C (rest := []) (av := (.ref (w.2.2 b) :: [.int (σ_12.1 (b + 11) p1.toNatClampNeg), .int k_20, .int (σ_12.1 b 7)])) (zPay.of q913 q79) (fun H ls hH h2 => zInv_V C (As := [.int (σ_12.1 (b + 11) p1.toNatClampNeg), .int k_20, .int (σ_12.1 b 7)]) (rest := []) (ci := 2) (T := TX2) (N := 20) rfl (zSee.fix (ly_b0 hb)) hH q939 q911 q912 (Or.inl rfl) q913 mh_X2 np_X2_elseBy dX2_goesOn_55) (tX2_elseBy l w hb e_25) (Nat.le_of_ble_eq_true rfl) (Nat.le_of_ble_eq_true rfl) ?_
    refine z_if_eq C 84 dX2_goesOn_58 (by decide) (fun c_27 => ?_) (fun c_27 => ?_)
    · replace hf := if_t c_27 hf
      obtain ⟨-, rfl⟩ := fin_ hf
      exact hje_14
    · replace hf := if_f c_27 hf
      refine z_aload_n C 0 dX2_goesOn_61 rfl rfl ?_
      refine z_getR C (ly_b0 hb) (Cn := RX2) (T := TX2) (N := 20) rfl in_X2 11 (by decide) q235 (Or.inl rfl) rfl dX2_goesOn_62 ?_
      refine z_iload_n C 1 dX2_goesOn_65 rfl rfl ?_
      refine z_aload_n C 0 dX2_goesOn_66 rfl rfl ?_
      refine z_getI C (ly_b0 hb) (Cn := RX2) (T := TX2) (N := 20) rfl in_X2 0 (by decide) q210 (Or.inl rfl) rfl dX2_goesOn_67 ?_
      refine z_iconst C 1 dX2_goesOn_70 (by decide) ?_
      refine z_isub C dX2_goesOn_71 ?_
      refine z_aload_n C 0 dX2_goesOn_72 rfl rfl ?_
      refine z_getR C (ly_b0 hb) (Cn := RX2) (T := TX2) (N := 20) rfl in_X2 11 (by decide) q235 (Or.inl rfl) rfl dX2_goesOn_73 ?_
      refine z_iload_n C 1 dX2_goesOn_76 rfl rfl ?_
      refine z_ialoadF C (ly_b12 hb) g_1 dX2_goesOn_77 ?_
      refine z_iconst C 1 dX2_goesOn_78 (by decide) ?_
      refine z_iadd C dX2_goesOn_79 ?_
      refine z_calli C (rest := [.int p1, .ref (w.2.2 (b + 12))]) (av := [.int ((σ_26.1 b 0) - 1), .int ((σ_26.1 (b + 12) p1.toNatClampNeg) + 1)]) (zPay.of q424 q84) (fun H ls hH h2 => zInv_S C (As := [.int ((σ_26.1 b 0) - 1), .int ((σ_26.1 (b + 12) p1.toNatClampNeg) + 1)]) (rest := [.int p1, .ref (w.2.2 (b + 12))]) q422 q423 q84 (Or.inl rfl) q424 mh_J3 np_J3_min dX2_goesOn_80) (tJ3_min l w zLx σ_26 ((σ_26.1 b 0) - 1) ((σ_26.1 (b + 12) p1.toNatClampNeg) + 1)) (Nat.le_of_ble_eq_true rfl) (Nat.le_of_ble_eq_true rfl) ?_
      obtain ⟨v_28, ev_28, hf⟩ := nmo_ hf
      refine z_top ev_28 ?_
      refine z_iastore C (ly_b12 hb) g_1 dX2_goesOn_83 ?_
      obtain ⟨-, rfl⟩ := fin_ hf
      exact hje_14
  · replace hf := if_f c_15 hf
    refine z_aload_n C 0 dX2_goesOn_27 rfl rfl ?_
    refine z_iload_n C 1 dX2_goesOn_28 rfl rfl ?_
    obtain ⟨⟨⟩, σ_31, e_30, hf⟩ := bd_ hf
    refine z_callv C (rest := []) (av := (.ref (w.2.2 b) :: [.int p1])) (zPay.of q938 q79) (fun H ls hH h2 => zInv_V C (As := [.int p1]) (rest := []) (ci := 2) (T := TX2) (N := 20) rfl (zSee.fix (ly_b0 hb)) hH q935 q937 qs23 (Or.inl rfl) q938 mh_X2 np_X2_comesIn dX2_goesOn_29) (tX2_comesIn l w hb e_30) (Nat.le_of_ble_eq_true rfl) (Nat.le_of_ble_eq_true rfl) ?_
    refine z_goto C 84 dX2_goesOn_32 (by decide) ?_
    obtain ⟨-, rfl⟩ := fin_ hf
    exact hje_14
def fX13_logs (w : ZW) (σ : ZS) (a : Nat) (ci : Nat) (n : Int32) (k : Int32) (p1 : Int32) : Option (Int32 × ZS) := bd (fX4_begins σ 50) (fun _ σ_3 => gd (oShip w (σ_3.2.2.1 a) = some (ci, n, k)) (bd (fX9_logs w σ_3 a ci n k p1) (fun r_6 σ_8 => gd (oShip w (σ_8.2.2.1 a) = some (ci, n, k)) (bd (fS_Cutter_sails w σ_8 a ci n k 2) (fun r_11 σ_13 => some (r_6 - r_11, σ_13))))))
set_option maxHeartbeats 4000000 in
set_option maxRecDepth 100000 in
theorem tX13_logs (l : Launch) (w : ZW) {σ σ' : ZS} {a : Nat} {ci : Nat} {n : Int32} {k : Int32} {p1 : Int32} (hci : zShipC ci) (hP : σ.2.2.1 a = some (.inr (ci, [.ref (w.2.2 4), .int n, .int k]))) {r : Int32} (hf : fX13_logs w σ a ci n k p1 = some (r, σ')) : zC l w zLx yX13_logs (ws_ yX13_logs cX13_logs 3 (some .int)) 7 94 [.ref a, .int p1] σ (.returned (some (.int r))) σ' := by
  refine zC.of (plainFor_of_name (by decide)) (Nat.le_of_ble_eq_true rfl) ?_
  intro p e s m args below meth c C hnm
  show Z p l e _ s m args below meth c _ w _ _ 3 σ 0 [(0, .ref a), (1, .int p1)] []
  unfold fX13_logs at hf
  refine z_aload_n C 0 dX13_logs_0 rfl rfl ?_
  refine z_getS0 C hci hP q476 (Or.inr q477) dX13_logs_1 ?_
  refine z_bipush C 50 dX13_logs_4 (by decide) ?_
  obtain ⟨⟨⟩, σ_3, e_2, hf⟩ := bd_ hf
  refine z_callv C (rest := []) (av := (.ref (w.2.2 4) :: [.int 50])) (zPay.of q1105 q81) (fun H ls hH h2 => zInv_V C (As := [.int 50]) (rest := []) (ci := 4) (T := TX4) (N := 2) rfl (zSee.fix ly_x4) hH q1229 q1103 q1104 (Or.inl rfl) q1105 mh_X4 np_X4_begins dX13_logs_6) (tX4_begins l w e_2) (Nat.le_of_ble_eq_true rfl) (Nat.le_of_ble_eq_true rfl) ?_
  refine z_aload_n C 0 dX13_logs_9 rfl rfl ?_
  refine z_iload_n C 1 dX13_logs_10 rfl rfl ?_
  obtain ⟨g_4, hf⟩ := gd_ hf
  have hP_5 := (oShip_ g_4).1
  obtain ⟨r_6, σ_8, e_7, hf⟩ := bd_ hf
  refine z_calli C (rest := []) (av := (.ref a :: [.int p1])) (zPay.of q1220 q87) (fun H ls hH h2 => zInv_SU C (As := [.int p1]) (rest := []) (zShip_cl hci).choose_spec.choose_spec (zSee.pool hP_5) hH (x := ⟨"OldLight$Collier", "logs", "(I)I"⟩) q1230 q1231 ⟨rfl, rfl⟩ q522 (zSub_up C q492) q1218 (Or.inl rfl) q1220 (by decide) np_X9_logs dX13_logs_11) (tX9_logs l w hci hP_5 e_7) (Nat.le_of_ble_eq_true rfl) (Nat.le_of_ble_eq_true rfl) ?_
  refine z_istore_n C dX13_logs_14 rfl (by decide) rfl (lv' := [(2, .int r_6), (0, .ref a), (1, .int p1)]) ?_
  refine z_iload_n C 0 dX13_logs_15 rfl rfl ?_
  refine z_aload_n C 1 dX13_logs_16 rfl rfl ?_
  refine z_iconst C 2 dX13_logs_17 (by decide) ?_
  obtain ⟨g_9, hf⟩ := gd_ hf
  have hP_10 := (oShip_ g_9).1
  obtain ⟨r_11, σ_13, e_12, hf⟩ := bd_ hf
  refine z_S_Cutter_sails C hci hP_10 q1233  e_12 dX13_logs_18 (Nat.le_of_ble_eq_true rfl) (Nat.le_of_ble_eq_true rfl) ?_
  refine z_isub C dX13_logs_21 ?_
  obtain ⟨rfl, rfl⟩ := fin_ hf
  exact z_iret C rfl dX13_logs_22
def fX15_logs (w : ZW) (σ : ZS) (a : Nat) (ci : Nat) (n : Int32) (k : Int32) (p1 : Int32) : Option (Int32 × ZS) := bd (fX4_begins σ 71) (fun _ σ_3 => gd (oShip w (σ_3.2.2.1 a) = some (ci, n, k)) (bd (fS_Ghost_steers w σ_3 a ci n k p1) (fun r_6 σ_8 => gd (oShip w (σ_8.2.2.1 a) = some (ci, n, k)) (bd (fX9_logs w σ_8 a ci n k p1) (fun r_11 σ_13 => some (r_6 - r_11, σ_13))))))
set_option maxHeartbeats 4000000 in
set_option maxRecDepth 100000 in
theorem tX15_logs (l : Launch) (w : ZW) {σ σ' : ZS} {a : Nat} {ci : Nat} {n : Int32} {k : Int32} {p1 : Int32} (hci : zShipC ci) (hP : σ.2.2.1 a = some (.inr (ci, [.ref (w.2.2 4), .int n, .int k]))) {r : Int32} (hf : fX15_logs w σ a ci n k p1 = some (r, σ')) : zC l w zLx yX15_logs (ws_ yX15_logs cX15_logs 3 (some .int)) 7 95 [.ref a, .int p1] σ (.returned (some (.int r))) σ' := by
  refine zC.of (plainFor_of_name (by decide)) (Nat.le_of_ble_eq_true rfl) ?_
  intro p e s m args below meth c C hnm
  show Z p l e _ s m args below meth c _ w _ _ 3 σ 0 [(0, .ref a), (1, .int p1)] []
  unfold fX15_logs at hf
  refine z_aload_n C 0 dX15_logs_0 rfl rfl ?_
  refine z_getS0 C hci hP q472 (Or.inr q473) dX15_logs_1 ?_
  refine z_bipush C 71 dX15_logs_4 (by decide) ?_
  obtain ⟨⟨⟩, σ_3, e_2, hf⟩ := bd_ hf
  refine z_callv C (rest := []) (av := (.ref (w.2.2 4) :: [.int 71])) (zPay.of q1105 q81) (fun H ls hH h2 => zInv_V C (As := [.int 71]) (rest := []) (ci := 4) (T := TX4) (N := 2) rfl (zSee.fix ly_x4) hH q1192 q1103 q1104 (Or.inl rfl) q1105 mh_X4 np_X4_begins dX15_logs_6) (tX4_begins l w e_2) (Nat.le_of_ble_eq_true rfl) (Nat.le_of_ble_eq_true rfl) ?_
  refine z_aload_n C 0 dX15_logs_9 rfl rfl ?_
  refine z_iload_n C 1 dX15_logs_10 rfl rfl ?_
  obtain ⟨g_4, hf⟩ := gd_ hf
  have hP_5 := (oShip_ g_4).1
  obtain ⟨r_6, σ_8, e_7, hf⟩ := bd_ hf
  refine z_S_Ghost_steers C hci hP_5 q1243  e_7 dX15_logs_11 (Nat.le_of_ble_eq_true rfl) (Nat.le_of_ble_eq_true rfl) ?_
  refine z_istore_n C dX15_logs_14 rfl (by decide) rfl (lv' := [(2, .int r_6), (0, .ref a), (1, .int p1)]) ?_
  refine z_iload_n C 0 dX15_logs_15 rfl rfl ?_
  refine z_aload_n C 1 dX15_logs_16 rfl rfl ?_
  refine z_iload_n C 2 dX15_logs_17 rfl rfl ?_
  obtain ⟨g_9, hf⟩ := gd_ hf
  have hP_10 := (oShip_ g_9).1
  obtain ⟨r_11, σ_13, e_12, hf⟩ := bd_ hf
  refine z_calli C (rest := [.int r_6]) (av := (.ref a :: [.int p1])) (zPay.of q1220 q87) (fun H ls hH h2 => zInv_SU C (As := [.int p1]) (rest := [.int r_6]) (zShip_cl hci).choose_spec.choose_spec (zSee.pool hP_10) hH (x := ⟨"OldLight$Steamer", "logs", "(I)I"⟩) q1247 q1248 ⟨rfl, rfl⟩ q542 (zSub_up C q512) q1218 (Or.inl rfl) q1220 (by decide) np_X9_logs dX15_logs_18) (tX9_logs l w hci hP_10 e_12) (Nat.le_of_ble_eq_true rfl) (Nat.le_of_ble_eq_true rfl) ?_
  refine z_isub C dX15_logs_21 ?_
  obtain ⟨rfl, rfl⟩ := fin_ hf
  exact z_iret C rfl dX15_logs_22
def fS_Logs_logs (w : ZW) (σ : ZS) (a ci : Nat) (n k : Int32) (p1 : Int32) : Option (Int32 × ZS) := if ci = 8 then (fX9_logs w σ a ci n k p1) else (if ci = 9 then (fX9_logs w σ a ci n k p1) else (if ci = 10 then (fX9_logs w σ a ci n k p1) else (if ci = 11 then (fX9_logs w σ a ci n k p1) else (if ci = 12 then (fX13_logs w σ a ci n k p1) else (if ci = 13 then (fX9_logs w σ a ci n k p1) else (if ci = 14 then (fX15_logs w σ a ci n k p1) else (none)))))))
section
variable {p : Program} {l : Launch} {e : Env} {R : Room} {s : State} {m : MethodId} {args : Array Value} {below : List Frame} {meth : Method} {c : Code} {Q : State → Prop} {w : ZW} {A : Nat → Prop} {nL : Nat} {cc : ByteArray} {own : String} {ret : Option FieldType} {hh : List (Nat × Nat × Nat × Nat)} {σ : ZS} {pc : Nat} {lv : List (Nat × Value)} {st : List Value}
theorem z_S_Logs_logs (C : zCx p s m args meth c w zLx A nL cc own ret hh) {index cnt a ci : Nat} {n k p1 r : Int32} {σ' : ZS} (hci : zShipC ci) (hP : σ.2.2.1 a = some (.inr (ci, [.ref (w.2.2 4), .int n, .int k]))) (hq1 : Cond.methodLink own index ⟨"OldLight$Logs", "logs", "(I)I"⟩ ∈ lw_all) (hf : fS_Logs_logs w σ a ci n k p1 = some (r, σ')) (hd : decode cc pc = .ok (.invokeinterface index cnt, 5)) (hfr : 7 + 1 ≤ R.frames) (hlo : (st.map fun v => v.category).sum + (3 + 11) + 95 ≤ R.locals) (kk : Z p l e R s m args below meth c Q w zLx A nL σ' (pc + 5) lv (.int r :: st)) : Z p l e R s m args below meth c Q w zLx A nL σ pc lv (.int p1 :: .ref a :: st) := by
  rcases hci with rfl | rfl | rfl | rfl | rfl | rfl | rfl
  · skip
    exact z_calli C (rest := st) (av := (.ref a :: [.int p1])) (zPay.of q1220 q87) (fun H ls hH h2 => zInv_F C (x := ⟨"OldLight$Logs", "logs", "(I)I"⟩) (As := [.int p1]) (rest := st) (ci := 8) (T := TX9) (N := 3) rfl (zSee.pool hP) hH hq1 (by decide) q1218 q1253 q1219 q1254 q1252 np_X9_logs hd) (tX9_logs l w (by unfold zShipC; decide) hP hf) (by have := hfr; omega) (by have := hlo; omega) kk
  · skip
    exact z_calli C (rest := st) (av := (.ref a :: [.int p1])) (zPay.of q1220 q87) (fun H ls hH h2 => zInv_F C (x := ⟨"OldLight$Logs", "logs", "(I)I"⟩) (As := [.int p1]) (rest := st) (ci := 9) (T := TX10) (N := 3) rfl (zSee.pool hP) hH hq1 (by decide) q1218 q1216 q1219 q1217 q1215 np_X9_logs hd) (tX9_logs l w (by unfold zShipC; decide) hP hf) (by have := hfr; omega) (by have := hlo; omega) kk
  · skip
    exact z_calli C (rest := st) (av := (.ref a :: [.int p1])) (zPay.of q1220 q87) (fun H ls hH h2 => zInv_F C (x := ⟨"OldLight$Logs", "logs", "(I)I"⟩) (As := [.int p1]) (rest := st) (ci := 10) (T := TX11) (N := 3) rfl (zSee.pool hP) hH hq1 (by decide) q1218 q1250 q1219 q1251 q1249 np_X9_logs hd) (tX9_logs l w (by unfold zShipC; decide) hP hf) (by have := hfr; omega) (by have := hlo; omega) kk
  · skip
    exact z_calli C (rest := st) (av := (.ref a :: [.int p1])) (zPay.of q1220 q87) (fun H ls hH h2 => zInv_F C (x := ⟨"OldLight$Logs", "logs", "(I)I"⟩) (As := [.int p1]) (rest := st) (ci := 11) (T := TX12) (N := 3) rfl (zSee.pool hP) hH hq1 (by decide) q1218 q1259 q1219 q1260 q1258 np_X9_logs hd) (tX9_logs l w (by unfold zShipC; decide) hP hf) (by have := hfr; omega) (by have := hlo; omega) kk
  · skip
    exact z_calli C (rest := st) (av := (.ref a :: [.int p1])) (zPay.of q1228 q91) (fun H ls hH h2 => zInv_F C (x := ⟨"OldLight$Logs", "logs", "(I)I"⟩) (As := [.int p1]) (rest := st) (ci := 12) (T := TX13) (N := 3) rfl (zSee.pool hP) hH hq1 (by decide) q1226 q1224 q1227 q1225 q1223 np_X13_logs hd) (tX13_logs l w (by unfold zShipC; decide) hP hf) (by have := hfr; omega) (by have := hlo; omega) kk
  · skip
    exact z_calli C (rest := st) (av := (.ref a :: [.int p1])) (zPay.of q1220 q87) (fun H ls hH h2 => zInv_F C (x := ⟨"OldLight$Logs", "logs", "(I)I"⟩) (As := [.int p1]) (rest := st) (ci := 13) (T := TX14) (N := 3) rfl (zSee.pool hP) hH hq1 (by decide) q1218 q1256 q1219 q1257 q1255 np_X9_logs hd) (tX9_logs l w (by unfold zShipC; decide) hP hf) (by have := hfr; omega) (by have := hlo; omega) kk
  · skip
    exact z_calli C (rest := st) (av := (.ref a :: [.int p1])) (zPay.of q1242 q93) (fun H ls hH h2 => zInv_F C (x := ⟨"OldLight$Logs", "logs", "(I)I"⟩) (As := [.int p1]) (rest := st) (ci := 14) (T := TX15) (N := 3) rfl (zSee.pool hP) hH hq1 (by decide) q1240 q1238 q1241 q1239 q1237 np_X15_logs hd) (tX15_logs l w (by unfold zShipC; decide) hP hf) (by have := hfr; omega) (by have := hlo; omega) kk
end
def fX0_ofShip (w : ZW) (σ : ZS) (p1 : Int32) (p2 : Int32) : Option (Int32 × ZS) := bd (fX0_shipAt σ p1 (fX0_in p2 0 5)) (fun r_1 σ_3 => sc r_1 (fun (r_4 : Nat) => if p2 = 0 then (bo (oShip w (σ_3.2.2.1 r_4)) (fun ss7 => bo (fS_Ship_kind w σ_3 r_4 (ss7.1) (ss7.2.1) (ss7.2.2) ) (fun r_13 => some (r_13, σ_3)))) else (if p2 = 1 then (bo (oShip w (σ_3.2.2.1 r_4)) (fun ss16 => some ((ss16.2.2), σ_3))) else (if p2 = 2 then (gd (¬ (p1 < 0 ∨ 7 ≤ p1.toNatClampNeg)) (some (σ_3.1 (100 + 11) p1.toNatClampNeg, σ_3))) else (if p2 = 3 then (gd (¬ (p1 < 0 ∨ 7 ≤ p1.toNatClampNeg)) (some (σ_3.1 (100 + 12) p1.toNatClampNeg, σ_3))) else (if p2 = 4 then (gd (¬ (p1 < 0 ∨ 7 ≤ p1.toNatClampNeg)) (some (σ_3.1 (100 + 13) p1.toNatClampNeg, σ_3))) else (gd (p2.toInt < 0 ∨ 4 < p2.toInt) (bd (fX0_believed w σ_3 p1) (fun r_29 σ_31 => some (r_29, σ_31))))))))) (fun _ => bd (fX0_finds σ_3) (fun r_32 σ_34 => some (r_32, σ_34))))
set_option maxHeartbeats 4000000 in
set_option maxRecDepth 100000 in
theorem tX0_ofShip (l : Launch) (w : ZW) {σ σ' : ZS} {p1 : Int32} {p2 : Int32} {r : Int32} (hf : fX0_ofShip w σ p1 p2 = some (r, σ')) : zC l w zLx yX0_ofShip (wsW_ yX0_ofShip cX0_ofShip 4 (some .int) [(0, 52, 94, 8), (53, 57, 94, 8), (58, 67, 94, 8), (68, 77, 94, 8), (78, 87, 94, 8), (88, 93, 94, 8)]) 729 6128 [.ref (w.2.2 0), .int p1, .int p2] σ (.returned (some (.int r))) σ' := by
  refine zC.ofW (plainFor_of_name (by decide)) (Nat.le_of_ble_eq_true rfl) ?_
  intro p e s m args below meth c C hnm
  show Z p l e _ s m args below meth c _ w _ _ 4 σ 0 [(0, .ref (w.2.2 0)), (1, .int p1), (2, .int p2)] []
  unfold fX0_ofShip at hf
  refine z_aload_n C 0 dX0_ofShip_0 rfl rfl ?_
  refine z_iload_n C 1 dX0_ofShip_1 rfl rfl ?_
  refine z_iload_n C 2 dX0_ofShip_2 rfl rfl ?_
  refine z_iconst C 0 dX0_ofShip_3 (by decide) ?_
  refine z_iconst C 5 dX0_ofShip_4 (by decide) ?_
  refine z_calli C (rest := [.int p1, .ref (w.2.2 0)]) (av := [.int p2, .int 0, .int 5]) (zPay.of q350 q74) (fun H ls hH h2 => zInv_S C (As := [.int p2, .int 0, .int 5]) (rest := [.int p1, .ref (w.2.2 0)]) q348 q349 q74 (Or.inl rfl) q350 mh_X0 np_X0_in dX0_ofShip_5) (tX0_in l w zLx σ p2 0 5) (Nat.le_of_ble_eq_true rfl) (Nat.le_of_ble_eq_true rfl) ?_
  obtain ⟨r_1, σ_3, e_2, hf⟩ := bd_ hf
  rcases r_1 with r_4 | ⟨⟩
  · dsimp only [sc] at hf
    refine z_callr C (rest := []) (av := (.ref (w.2.2 0) :: [.int p1, .int (fX0_in p2 0 5)])) (zPay.of q557 q74) (fun H ls hH h2 => zInv_V C (As := [.int p1, .int (fX0_in p2 0 5)]) (rest := []) (ci := 0) (T := TX0) (N := 8) rfl (zSee.fix ly_x0) hH q554 q556 qs7 (Or.inl rfl) q557 mh_X0 np_X0_shipAt dX0_ofShip_8) (tX0_shipAt l w e_2) (Nat.le_of_ble_eq_true rfl) (Nat.le_of_ble_eq_true rfl) ?_
    refine z_astore_n C dX0_ofShip_11 rfl (by decide) rfl (lv' := [(3, .ref r_4), (0, .ref (w.2.2 0)), (1, .int p1), (2, .int p2)]) ?_
    refine z_iload_n C 3 dX0_ofShip_12 rfl rfl ?_
    by_cases c_6 : p2 = 0
    · replace hf := if_t c_6 hf
      refine z_top c_6.symm ?_
      refine z_tableIn (off := 35) C 48 dX0_ofShip_13 (by decide) (by decide) (by decide) (by decide) ?_
      refine z_aload_n C 0 dX0_ofShip_48 rfl rfl ?_
      obtain ⟨⟨ci_7, n_8, k_9⟩, e_10, hf⟩ := bo_ hf
      try dsimp only at hf
      obtain ⟨hP_11, hci_12⟩ := oShip_ e_10
      obtain ⟨r_13, e_14, hf⟩ := bo_ hf
      refine z_S_Ship_kind C hci_12 hP_11 q562  e_14 dX0_ofShip_49 (Nat.le_of_ble_eq_true rfl) (Nat.le_of_ble_eq_true rfl) ?_
      obtain ⟨rfl, rfl⟩ := fin_ hf
      exact z_iret C rfl dX0_ofShip_52
    replace hf := if_f c_6 hf
    by_cases c_15 : p2 = 1
    · replace hf := if_t c_15 hf
      refine z_top c_15.symm ?_
      refine z_tableIn (off := 40) C 53 dX0_ofShip_13 (by decide) (by decide) (by decide) (by decide) ?_
      refine z_aload_n C 0 dX0_ofShip_53 rfl rfl ?_
      obtain ⟨⟨ci_16, n_17, k_18⟩, e_19, hf⟩ := bo_ hf
      try dsimp only at hf
      obtain ⟨hP_20, hci_21⟩ := oShip_ e_19
      refine z_getS2 C hci_21 hP_20 q485 (Or.inl rfl) dX0_ofShip_54 ?_
      obtain ⟨rfl, rfl⟩ := fin_ hf
      exact z_iret C rfl dX0_ofShip_57
    replace hf := if_f c_15 hf
    by_cases c_22 : p2 = 2
    · replace hf := if_t c_22 hf
      refine z_top c_22.symm ?_
      refine z_tableIn (off := 45) C 58 dX0_ofShip_13 (by decide) (by decide) (by decide) (by decide) ?_
      refine z_aload_n C 1 dX0_ofShip_58 rfl rfl ?_
      refine z_getR C ly_x0 (Cn := RX0) (T := TX0) (N := 8) rfl in_X0 1 (by decide) q320 (Or.inl rfl) rfl dX0_ofShip_59 ?_
      refine z_getRN C (ly_b0 zb100) (Cn := RX2) (T := TX2) (N := 20) rfl in_X2 10 (by decide) q234 (Or.inl rfl) rfl dX0_ofShip_62 ?_
      refine z_iload_n C 2 dX0_ofShip_65 rfl rfl ?_
      obtain ⟨g_23, hf⟩ := gd_ hf
      refine z_ialoadF C (ly_b11 zb100) g_23 dX0_ofShip_66 ?_
      obtain ⟨rfl, rfl⟩ := fin_ hf
      exact z_iret C rfl dX0_ofShip_67
    replace hf := if_f c_22 hf
    by_cases c_24 : p2 = 3
    · replace hf := if_t c_24 hf
      refine z_top c_24.symm ?_
      refine z_tableIn (off := 55) C 68 dX0_ofShip_13 (by decide) (by decide) (by decide) (by decide) ?_
      refine z_aload_n C 1 dX0_ofShip_68 rfl rfl ?_
      refine z_getR C ly_x0 (Cn := RX0) (T := TX0) (N := 8) rfl in_X0 1 (by decide) q320 (Or.inl rfl) rfl dX0_ofShip_69 ?_
      refine z_getRN C (ly_b0 zb100) (Cn := RX2) (T := TX2) (N := 20) rfl in_X2 11 (by decide) q236 (Or.inl rfl) rfl dX0_ofShip_72 ?_
      refine z_iload_n C 2 dX0_ofShip_75 rfl rfl ?_
      obtain ⟨g_25, hf⟩ := gd_ hf
      refine z_ialoadF C (ly_b12 zb100) g_25 dX0_ofShip_76 ?_
      obtain ⟨rfl, rfl⟩ := fin_ hf
      exact z_iret C rfl dX0_ofShip_77
    replace hf := if_f c_24 hf
    by_cases c_26 : p2 = 4
    · replace hf := if_t c_26 hf
      refine z_top c_26.symm ?_
      refine z_tableIn (off := 65) C 78 dX0_ofShip_13 (by decide) (by decide) (by decide) (by decide) ?_
      refine z_aload_n C 1 dX0_ofShip_78 rfl rfl ?_
      refine z_getR C ly_x0 (Cn := RX0) (T := TX0) (N := 8) rfl in_X0 1 (by decide) q320 (Or.inl rfl) rfl dX0_ofShip_79 ?_
      refine z_getRN C (ly_b0 zb100) (Cn := RX2) (T := TX2) (N := 20) rfl in_X2 12 (by decide) q238 (Or.inl rfl) rfl dX0_ofShip_82 ?_
      refine z_iload_n C 2 dX0_ofShip_85 rfl rfl ?_
      obtain ⟨g_27, hf⟩ := gd_ hf
      refine z_ialoadF C (ly_b13 zb100) g_27 dX0_ofShip_86 ?_
      obtain ⟨rfl, rfl⟩ := fin_ hf
      exact z_iret C rfl dX0_ofShip_87
    replace hf := if_f c_26 hf
    obtain ⟨g_28, hf⟩ := gd_ hf
    refine z_tableOut C 88 dX0_ofShip_13 g_28 (by decide) ?_
    refine z_aload_n C 1 dX0_ofShip_88 rfl rfl ?_
    refine z_iload_n C 2 dX0_ofShip_89 rfl rfl ?_
    obtain ⟨r_29, σ_31, e_30, hf⟩ := bd_ hf
    refine z_calli C (rest := []) (av := (.ref (w.2.2 0) :: [.int p1])) (zPay.of q588 q74) (fun H ls hH h2 => zInv_V C (As := [.int p1]) (rest := []) (ci := 0) (T := TX0) (N := 8) rfl (zSee.fix ly_x0) hH q585 q587 qs9 (Or.inl rfl) q588 mh_X0 np_X0_believed dX0_ofShip_90) (tX0_believed l w e_30) (Nat.le_of_ble_eq_true rfl) (Nat.le_of_ble_eq_true rfl) ?_
    obtain ⟨rfl, rfl⟩ := fin_ hf
    exact z_iret C rfl dX0_ofShip_93
  · dsimp only [sc] at hf
    refine z_callt C (rest := []) (av := (.ref (w.2.2 0) :: [.int p1, .int (fX0_in p2 0 5)])) (zPay.of q557 q74) (fun H ls hH h2 => zInv_V C (As := [.int p1, .int (fX0_in p2 0 5)]) (rest := []) (ci := 0) (T := TX0) (N := 8) rfl (zSee.fix ly_x0) hH q554 q556 qs7 (Or.inl rfl) q557 mh_X0 np_X0_shipAt dX0_ofShip_8) (tX0_shipAt l w e_2) (Nat.le_of_ble_eq_true rfl) (Nat.le_of_ble_eq_true rfl) ?_
    refine z_catch C [] 0 52 94 8 [(53, 57, 94, 8), (58, 67, 94, 8), (68, 77, 94, 8), (78, 87, 94, 8), (88, 93, 94, 8)] rfl (by decide) (by decide) (by decide) (ci := 1) (Cn := RX1) (T0 := TX1) (N := 7) rfl (zSee.fix ly_x1) q118 ?_
    refine z_astore_n C dX0_ofShip_94 rfl (by decide) rfl (lv' := [(3, .ref (w.2.2 1)), (0, .ref (w.2.2 0)), (1, .int p1), (2, .int p2)]) ?_
    refine z_aload_n C 1 dX0_ofShip_95 rfl rfl ?_
    refine z_aload_n C 0 dX0_ofShip_96 rfl rfl ?_
    obtain ⟨r_32, σ_34, e_33, hf⟩ := bd_ hf
    refine z_calli C (rest := []) (av := (.ref (w.2.2 0) :: [.ref (w.2.2 1)])) (zPay.of q362 q74) (fun H ls hH h2 => zInv_V C (As := [.ref (w.2.2 1)]) (rest := []) (ci := 0) (T := TX0) (N := 8) rfl (zSee.fix ly_x0) hH q359 q361 qs2 (Or.inl rfl) q362 mh_X0 np_X0_finds dX0_ofShip_97) (tX0_finds l w e_33) (Nat.le_of_ble_eq_true rfl) (Nat.le_of_ble_eq_true rfl) ?_
    obtain ⟨rfl, rfl⟩ := fin_ hf
    exact z_iret C rfl dX0_ofShip_100
def fX0_voice (w : ZW) (σ : ZS) (p1 : Int32) (p2 : Int32) (p3 : Int32) : Option (Int32 × ZS) := bd (fX0_shipAt σ p1 (fX0_in p2 0 3)) (fun r_1 σ_3 => sc r_1 (fun (r_4 : Nat) => if p2 = 0 then (bo (oShip w (σ_3.2.2.1 r_4)) (fun ss7 => bd (fS_Sails_sails w (sI σ_3 4 1 0) r_4 (ss7.1) (ss7.2.1) (ss7.2.2) p3) (fun r_13 σ_15 => some (r_13, σ_15)))) else (if p2 = 1 then (bo (oShip w (σ_3.2.2.1 r_4)) (fun ss17 => bd (fS_Steers_steers w (sI σ_3 4 1 0) r_4 (ss17.1) (ss17.2.1) (ss17.2.2) p3) (fun r_23 σ_25 => some (r_23, σ_25)))) else (if p2 = 2 then (bo (oShip w (σ_3.2.2.1 r_4)) (fun ss27 => bd (fS_Sounds_sounds w (sI σ_3 4 1 0) r_4 (ss27.1) (ss27.2.1) (ss27.2.2) p3) (fun r_33 σ_35 => some (r_33, σ_35)))) else (gd (p2.toInt < 0 ∨ 2 < p2.toInt) (bo (oShip w (σ_3.2.2.1 r_4)) (fun ss37 => bd (fS_Logs_logs w (sI σ_3 4 1 0) r_4 (ss37.1) (ss37.2.1) (ss37.2.2) p3) (fun r_43 σ_45 => some (r_43, σ_45)))))))) (fun _ => bd (fX0_finds σ_3) (fun r_46 σ_48 => some (r_46, σ_48))))
set_option maxHeartbeats 4000000 in
set_option maxRecDepth 100000 in
theorem tX0_voice (l : Launch) (w : ZW) {σ σ' : ZS} {p1 : Int32} {p2 : Int32} {p3 : Int32} {r : Int32} (hf : fX0_voice w σ p1 p2 p3 = some (r, σ')) : zC l w zLx yX0_voice (wsW_ yX0_voice cX0_voice 5 (some .int) [(0, 56, 84, 8), (57, 65, 84, 8), (66, 74, 84, 8), (75, 83, 84, 8)]) 8 109 [.ref (w.2.2 0), .int p1, .int p2, .int p3] σ (.returned (some (.int r))) σ' := by
  refine zC.ofW (plainFor_of_name (by decide)) (Nat.le_of_ble_eq_true rfl) ?_
  intro p e s m args below meth c C hnm
  show Z p l e _ s m args below meth c _ w _ _ 5 σ 0 [(0, .ref (w.2.2 0)), (1, .int p1), (2, .int p2), (3, .int p3)] []
  unfold fX0_voice at hf
  refine z_aload_n C 0 dX0_voice_0 rfl rfl ?_
  refine z_iload_n C 1 dX0_voice_1 rfl rfl ?_
  refine z_iload_n C 2 dX0_voice_2 rfl rfl ?_
  refine z_iconst C 0 dX0_voice_3 (by decide) ?_
  refine z_iconst C 3 dX0_voice_4 (by decide) ?_
  refine z_calli C (rest := [.int p1, .ref (w.2.2 0)]) (av := [.int p2, .int 0, .int 3]) (zPay.of q350 q74) (fun H ls hH h2 => zInv_S C (As := [.int p2, .int 0, .int 3]) (rest := [.int p1, .ref (w.2.2 0)]) q348 q349 q74 (Or.inl rfl) q350 mh_X0 np_X0_in dX0_voice_5) (tX0_in l w zLx σ p2 0 3) (Nat.le_of_ble_eq_true rfl) (Nat.le_of_ble_eq_true rfl) ?_
  obtain ⟨r_1, σ_3, e_2, hf⟩ := bd_ hf
  rcases r_1 with r_4 | ⟨⟩
  · dsimp only [sc] at hf
    refine z_callr C (rest := []) (av := (.ref (w.2.2 0) :: [.int p1, .int (fX0_in p2 0 3)])) (zPay.of q557 q74) (fun H ls hH h2 => zInv_V C (As := [.int p1, .int (fX0_in p2 0 3)]) (rest := []) (ci := 0) (T := TX0) (N := 8) rfl (zSee.fix ly_x0) hH q554 q556 qs7 (Or.inl rfl) q557 mh_X0 np_X0_shipAt dX0_voice_8) (tX0_shipAt l w e_2) (Nat.le_of_ble_eq_true rfl) (Nat.le_of_ble_eq_true rfl) ?_
    refine z_astore C dX0_voice_11 (by decide) rfl (lv' := [(4, .ref r_4), (0, .ref (w.2.2 0)), (1, .int p1), (2, .int p2), (3, .int p3)]) ?_
    refine z_aload_n C 1 dX0_voice_13 rfl rfl ?_
    refine z_getR C ly_x0 (Cn := RX0) (T := TX0) (N := 8) rfl in_X0 5 (by decide) q324 (Or.inl rfl) rfl dX0_voice_14 ?_
    refine z_iconst C 0 dX0_voice_17 (by decide) ?_
    refine z_putI C ly_x4 (k := 1) rfl (zPutN C (Cn := RX4) (T := TX4) (N := 2) rfl in_X4 tyX4 tyX4_ok nmX4 1 (by decide) q302 (Or.inl rfl) rfl rfl rfl (zFs_lt (Nat.le_of_ble_eq_true rfl)) dX0_voice_18) ?_
    refine z_iload_n C 3 dX0_voice_21 rfl rfl ?_
    by_cases c_6 : p2 = 0
    · replace hf := if_t c_6 hf
      refine z_top c_6.symm ?_
      refine z_tableIn (off := 26) C 48 dX0_voice_22 (by decide) (by decide) (by decide) (by decide) ?_
      refine z_aload C 0 dX0_voice_48 rfl ?_
      refine z_iload_n C 4 dX0_voice_50 rfl rfl ?_
      obtain ⟨⟨ci_7, n_8, k_9⟩, e_10, hf⟩ := bo_ hf
      try dsimp only at hf
      obtain ⟨hP_11, hci_12⟩ := oShip_ e_10
      obtain ⟨r_13, σ_15, e_14, hf⟩ := bd_ hf
      refine z_S_Sails_sails C hci_12 hP_11 q1093  e_14 dX0_voice_51 (Nat.le_of_ble_eq_true rfl) (Nat.le_of_ble_eq_true rfl) ?_
      obtain ⟨rfl, rfl⟩ := fin_ hf
      exact z_iret C rfl dX0_voice_56
    replace hf := if_f c_6 hf
    by_cases c_16 : p2 = 1
    · replace hf := if_t c_16 hf
      refine z_top c_16.symm ?_
      refine z_tableIn (off := 35) C 57 dX0_voice_22 (by decide) (by decide) (by decide) (by decide) ?_
      refine z_aload C 0 dX0_voice_57 rfl ?_
      refine z_iload_n C 4 dX0_voice_59 rfl rfl ?_
      obtain ⟨⟨ci_17, n_18, k_19⟩, e_20, hf⟩ := bo_ hf
      try dsimp only at hf
      obtain ⟨hP_21, hci_22⟩ := oShip_ e_20
      obtain ⟨r_23, σ_25, e_24, hf⟩ := bd_ hf
      refine z_S_Steers_steers C hci_22 hP_21 q1130  e_24 dX0_voice_60 (Nat.le_of_ble_eq_true rfl) (Nat.le_of_ble_eq_true rfl) ?_
      obtain ⟨rfl, rfl⟩ := fin_ hf
      exact z_iret C rfl dX0_voice_65
    replace hf := if_f c_16 hf
    by_cases c_26 : p2 = 2
    · replace hf := if_t c_26 hf
      refine z_top c_26.symm ?_
      refine z_tableIn (off := 44) C 66 dX0_voice_22 (by decide) (by decide) (by decide) (by decide) ?_
      refine z_aload C 0 dX0_voice_66 rfl ?_
      refine z_iload_n C 4 dX0_voice_68 rfl rfl ?_
      obtain ⟨⟨ci_27, n_28, k_29⟩, e_30, hf⟩ := bo_ hf
      try dsimp only at hf
      obtain ⟨hP_31, hci_32⟩ := oShip_ e_30
      obtain ⟨r_33, σ_35, e_34, hf⟩ := bd_ hf
      refine z_S_Sounds_sounds C hci_32 hP_31 q1176  e_34 dX0_voice_69 (Nat.le_of_ble_eq_true rfl) (Nat.le_of_ble_eq_true rfl) ?_
      obtain ⟨rfl, rfl⟩ := fin_ hf
      exact z_iret C rfl dX0_voice_74
    replace hf := if_f c_26 hf
    obtain ⟨g_36, hf⟩ := gd_ hf
    refine z_tableOut C 75 dX0_voice_22 g_36 (by decide) ?_
    refine z_aload C 0 dX0_voice_75 rfl ?_
    refine z_iload_n C 4 dX0_voice_77 rfl rfl ?_
    obtain ⟨⟨ci_37, n_38, k_39⟩, e_40, hf⟩ := bo_ hf
    try dsimp only at hf
    obtain ⟨hP_41, hci_42⟩ := oShip_ e_40
    obtain ⟨r_43, σ_45, e_44, hf⟩ := bd_ hf
    refine z_S_Logs_logs C hci_42 hP_41 q1212  e_44 dX0_voice_78 (Nat.le_of_ble_eq_true rfl) (Nat.le_of_ble_eq_true rfl) ?_
    obtain ⟨rfl, rfl⟩ := fin_ hf
    exact z_iret C rfl dX0_voice_83
  · dsimp only [sc] at hf
    refine z_callt C (rest := []) (av := (.ref (w.2.2 0) :: [.int p1, .int (fX0_in p2 0 3)])) (zPay.of q557 q74) (fun H ls hH h2 => zInv_V C (As := [.int p1, .int (fX0_in p2 0 3)]) (rest := []) (ci := 0) (T := TX0) (N := 8) rfl (zSee.fix ly_x0) hH q554 q556 qs7 (Or.inl rfl) q557 mh_X0 np_X0_shipAt dX0_voice_8) (tX0_shipAt l w e_2) (Nat.le_of_ble_eq_true rfl) (Nat.le_of_ble_eq_true rfl) ?_
    refine z_catch C [] 0 56 84 8 [(57, 65, 84, 8), (66, 74, 84, 8), (75, 83, 84, 8)] rfl (by decide) (by decide) (by decide) (ci := 1) (Cn := RX1) (T0 := TX1) (N := 7) rfl (zSee.fix ly_x1) q118 ?_
    refine z_astore C dX0_voice_84 (by decide) rfl (lv' := [(4, .ref (w.2.2 1)), (0, .ref (w.2.2 0)), (1, .int p1), (2, .int p2), (3, .int p3)]) ?_
    refine z_aload_n C 1 dX0_voice_86 rfl rfl ?_
    refine z_aload C 0 dX0_voice_87 rfl ?_
    obtain ⟨r_46, σ_48, e_47, hf⟩ := bd_ hf
    refine z_calli C (rest := []) (av := (.ref (w.2.2 0) :: [.ref (w.2.2 1)])) (zPay.of q362 q74) (fun H ls hH h2 => zInv_V C (As := [.ref (w.2.2 1)]) (rest := []) (ci := 0) (T := TX0) (N := 8) rfl (zSee.fix ly_x0) hH q359 q361 qs2 (Or.inl rfl) q362 mh_X0 np_X0_finds dX0_voice_89) (tX0_finds l w e_47) (Nat.le_of_ble_eq_true rfl) (Nat.le_of_ble_eq_true rfl) ?_
    obtain ⟨rfl, rfl⟩ := fin_ hf
    exact z_iret C rfl dX0_voice_92
def fX2_passes_L2 (w : ZW) (b : Nat) : Nat → Int32 → ZS → Option ((Int32) × ZS)
  | 0, _, _ => none
  | n + 1, y1, σ => if (σ.1 b 8) ≤ y1 then (some (y1, σ)) else (gd (¬ (y1 < 0 ∨ 7 ≤ y1.toNatClampNeg)) (bd (if (σ.1 (b + 13) y1.toNatClampNeg) = 0 then (if (σ.1 (b + 12) y1.toNatClampNeg) ≤ 0 then (some ((), σ)) else (bd (fX2_goesOn w σ b y1) (fun _ σ_10 => some ((), σ_10)))) else (some ((), σ))) (fun (_ : Unit) σ_3 => nm (y1 + 1) (fun (x1_5 : Int32) => fX2_passes_L2 w b n x1_5 σ_3))))
def fX2_passes (w : ZW) (σ : ZS) (b : Nat) : Option (Unit × ZS) := bd (fX2_passes_L2 w b 10000 0 σ) (fun x1_11 σ_12 => nm ((σ_12.1 b 7) + 1) (fun (f_14 : Int32) => some ((), sI σ_12 b 7 f_14)))
set_option maxHeartbeats 4000000 in
set_option maxRecDepth 100000 in
theorem lfX2_passes_L2 {p : Program} {l : Launch} {e : Env} {R : Room} {s : State} {m : MethodId} {args : Array Value} {below : List Frame} {meth : Method} {c : Code} {Q : State → Prop} {w : ZW} {A : Nat → Prop} {ret : Option FieldType} {hh : List (Nat × Nat × Nat × Nat)} (C : zCx p s m args meth c w zLx A 2 cX2_passes RX2 ret hh) (hfr : 729 ≤ R.frames) (hlo : 6128 ≤ R.locals) {b : Nat} (hb : zBay b) {z1 : Int32} {σ' : ZS} (hk : Z p l e R s m args below meth c Q w zLx A 2 σ' 39 [(0, .ref (w.2.2 b)), (1, .int z1)] []) : ∀ (n : Nat) (y1 : Int32) (σ : ZS), fX2_passes_L2 w b n y1 σ = some (z1, σ') → Z p l e R s m args below meth c Q w zLx A 2 σ 2 [(0, .ref (w.2.2 b)), (1, .int y1)] [] := by
  intro n
  induction n with
  | zero => intro y1 σ hf; exact none_ hf
  | succ n ih =>
    intro y1 σ hf
    rw [fX2_passes_L2] at hf
    refine z_iload_n C 1 dX2_passes_2 rfl rfl ?_
    refine z_aload_n C 0 dX2_passes_3 rfl rfl ?_
    refine z_getI C (ly_b0 hb) (Cn := RX2) (T := TX2) (N := 20) rfl in_X2 8 (by decide) q229 (Or.inl rfl) rfl dX2_passes_4 ?_
    refine z_icmp_ge C 39 dX2_passes_7 (by decide) (fun c_1 => ?_) (fun c_1 => ?_)
    · replace hf := if_t c_1 hf
      obtain ⟨rfl, rfl⟩ := fin_ hf
      exact hk
    · replace hf := if_f c_1 hf
      refine z_aload_n C 0 dX2_passes_10 rfl rfl ?_
      refine z_getR C (ly_b0 hb) (Cn := RX2) (T := TX2) (N := 20) rfl in_X2 12 (by decide) q237 (Or.inl rfl) rfl dX2_passes_11 ?_
      refine z_iload_n C 1 dX2_passes_14 rfl rfl ?_
      obtain ⟨g_2, hf⟩ := gd_ hf
      refine z_ialoadF C (ly_b13 hb) g_2 dX2_passes_15 ?_
      obtain ⟨⟨⟩, σ_3, e_4, hf⟩ := bd_ hf
      have hje_4 : Z p l e R s m args below meth c Q w zLx A 2 σ_3 33 [(0, .ref (w.2.2 b)), (1, .int y1)] [] := by
        obtain ⟨x1_5, ex1_5, hf⟩ := nmo_ hf
        refine z_iinc C x1_5 1 dX2_passes_33 rfl (by rw [ex1_5]; rfl) (by decide) rfl (lv' := [(1, .int x1_5), (0, .ref (w.2.2 b))]) ?_
        refine z_goto C 2 dX2_passes_36 (by decide) ?_
        exact z_lv [1, 0] rfl (ih _ _ hf)
      replace hf := e_4
      refine z_if_ne C 33 dX2_passes_16 (by decide) (fun c_6 => ?_) (fun c_6 => ?_)
      · replace hf := if_f c_6 hf
        obtain ⟨-, rfl⟩ := fin_ hf
        exact hje_4
      · replace hf := if_t c_6 hf
        refine z_aload_n C 0 dX2_passes_19 rfl rfl ?_
        refine z_getR C (ly_b0 hb) (Cn := RX2) (T := TX2) (N := 20) rfl in_X2 11 (by decide) q235 (Or.inl rfl) rfl dX2_passes_20 ?_
        refine z_iload_n C 1 dX2_passes_23 rfl rfl ?_
        refine z_ialoadF C (ly_b12 hb) g_2 dX2_passes_24 ?_
        refine z_if_le C 33 dX2_passes_25 (by decide) (fun c_7 => ?_) (fun c_7 => ?_)
        · replace hf := if_t c_7 hf
          obtain ⟨-, rfl⟩ := fin_ hf
          exact hje_4
        · replace hf := if_f c_7 hf
          refine z_aload_n C 0 dX2_passes_28 rfl rfl ?_
          refine z_iload_n C 1 dX2_passes_29 rfl rfl ?_
          obtain ⟨⟨⟩, σ_10, e_9, hf⟩ := bd_ hf
          refine z_callv C (rest := []) (av := (.ref (w.2.2 b) :: [.int y1])) (zPay.of q933 q79) (fun H ls hH h2 => zInv_V C (As := [.int y1]) (rest := []) (ci := 2) (T := TX2) (N := 20) rfl (zSee.fix (ly_b0 hb)) hH q930 q932 qs22 (Or.inl rfl) q933 mh_X2 np_X2_goesOn dX2_passes_30) (tX2_goesOn l w hb e_9) (Nat.le_trans (Nat.le_of_ble_eq_true rfl) hfr) (Nat.le_trans (Nat.le_of_ble_eq_true rfl) hlo) ?_
          obtain ⟨-, rfl⟩ := fin_ hf
          exact hje_4
set_option maxHeartbeats 4000000 in
set_option maxRecDepth 100000 in
theorem tX2_passes (l : Launch) (w : ZW) {σ σ' : ZS} {b : Nat} (hb : zBay b) (hf : fX2_passes w σ b = some ((), σ')) : zC l w zLx yX2_passes (ws_ yX2_passes cX2_passes 2 none) 729 6128 [.ref (w.2.2 b)] σ (.returned none) σ' := by
  refine zC.of (plainFor_of_name (by decide)) (Nat.le_of_ble_eq_true rfl) ?_
  intro p e s m args below meth c C hnm
  show Z p l e _ s m args below meth c _ w _ _ 2 σ 0 [(0, .ref (w.2.2 b))] []
  unfold fX2_passes at hf
  refine z_iconst C 0 dX2_passes_0 (by decide) ?_
  refine z_istore_n C dX2_passes_1 rfl (by decide) rfl (lv' := [(1, .int 0), (0, .ref (w.2.2 b))]) ?_
  obtain ⟨x1_11, σ_12, e_13, hf⟩ := bd_ hf
  refine z_lv (lv' := [(0, .ref (w.2.2 b)), (1, .int 0)]) [1, 0] rfl ?_
  refine lfX2_passes_L2 C (Nat.le_of_ble_eq_true rfl) (Nat.le_of_ble_eq_true rfl) hb ?_ _ _ _ e_13
  refine z_aload_n C 0 dX2_passes_39 rfl rfl ?_
  refine z_dup C dX2_passes_40 rfl ?_
  refine z_getI C (ly_b0 hb) (Cn := RX2) (T := TX2) (N := 20) rfl in_X2 7 (by decide) q227 (Or.inl rfl) rfl dX2_passes_41 ?_
  refine z_iconst C 1 dX2_passes_44 (by decide) ?_
  refine z_iadd C dX2_passes_45 ?_
  obtain ⟨f_14, ef_14, hf⟩ := nmo_ hf
  refine z_top ef_14 ?_
  refine z_putI C (ly_b0 hb) (k := 7) rfl (zPut C (Cn := RX2) (T := TX2) (N := 20) rfl in_X2 tyX2 tyX2_ok nmX2 7 (by decide) q227 (Or.inl rfl) rfl rfl rfl (zFs_lt (Nat.le_of_ble_eq_true rfl)) dX2_passes_46) ?_
  obtain ⟨-, rfl⟩ := fin_ hf
  exact z_vret C dX2_passes_49
def fX2_goesLoose (w : ZW) (σ : ZS) (b : Nat) : Option (Unit × ZS) := bd (fX2_draw σ b) (fun r_1 σ_3 => nm (r_1 - r_1 / 100 * 100) (fun (f_4 : Int32) => bd (fX2_passes w (sI σ_3 b 5 f_4) b) (fun _ σ_7 => some ((), σ_7))))
set_option maxHeartbeats 4000000 in
set_option maxRecDepth 100000 in
theorem tX2_goesLoose (l : Launch) (w : ZW) {σ σ' : ZS} {b : Nat} (hb : zBay b) (hf : fX2_goesLoose w σ b = some ((), σ')) : zC l w zLx yX2_goesLoose (ws_ yX2_goesLoose cX2_goesLoose 1 none) 730 6141 [.ref (w.2.2 b)] σ (.returned none) σ' := by
  refine zC.of (plainFor_of_name (by decide)) (Nat.le_of_ble_eq_true rfl) ?_
  intro p e s m args below meth c C hnm
  show Z p l e _ s m args below meth c _ w _ _ 1 σ 0 [(0, .ref (w.2.2 b))] []
  unfold fX2_goesLoose at hf
  refine z_aload_n C 0 dX2_goesLoose_0 rfl rfl ?_
  refine z_aload_n C 0 dX2_goesLoose_1 rfl rfl ?_
  obtain ⟨r_1, σ_3, e_2, hf⟩ := bd_ hf
  refine z_calli C (rest := [.ref (w.2.2 b)]) (av := (.ref (w.2.2 b) :: [])) (zPay.of q955 q79) (fun H ls hH h2 => zInv_V C (As := []) (rest := [.ref (w.2.2 b)]) (ci := 2) (T := TX2) (N := 20) rfl (zSee.fix (ly_b0 hb)) hH q952 q953 q954 (Or.inl rfl) q955 mh_X2 np_X2_draw dX2_goesLoose_2) (tX2_draw l w hb e_2) (Nat.le_of_ble_eq_true rfl) (Nat.le_of_ble_eq_true rfl) ?_
  refine z_bipush C 100 dX2_goesLoose_5 (by decide) ?_
  refine z_irem C dX2_goesLoose_7 (by decide) ?_
  obtain ⟨f_4, ef_4, hf⟩ := nmo_ hf
  refine z_top ef_4 ?_
  refine z_putI C (ly_b0 hb) (k := 5) rfl (zPut C (Cn := RX2) (T := TX2) (N := 20) rfl in_X2 tyX2 tyX2_ok nmX2 5 (by decide) q220 (Or.inl rfl) rfl rfl rfl (zFs_lt (Nat.le_of_ble_eq_true rfl)) dX2_goesLoose_8) ?_
  refine z_aload_n C 0 dX2_goesLoose_11 rfl rfl ?_
  obtain ⟨⟨⟩, σ_7, e_6, hf⟩ := bd_ hf
  refine z_callv C (rest := []) (av := (.ref (w.2.2 b) :: [])) (zPay.of q929 q79) (fun H ls hH h2 => zInv_V C (As := []) (rest := []) (ci := 2) (T := TX2) (N := 20) rfl (zSee.fix (ly_b0 hb)) hH q926 q927 q928 (Or.inl rfl) q929 mh_X2 np_X2_passes dX2_goesLoose_12) (tX2_passes l w hb e_6) (Nat.le_of_ble_eq_true rfl) (Nat.le_of_ble_eq_true rfl) ?_
  obtain ⟨-, rfl⟩ := fin_ hf
  exact z_vret C dX2_goesLoose_15
def fX0_loose_L9 (w : ZW) (y1 : Int32) : Nat → Int32 → ZS → Option ((Int32) × ZS)
  | 0, _, _ => none
  | n + 1, y2, σ => if y1 ≤ y2 then (some (y2, σ)) else (bd (fX2_goesLoose w σ 100) (fun _ σ_9 => nm (y2 + 1) (fun (x2_10 : Int32) => fX0_loose_L9 w y1 n x2_10 σ_9)))
def fX0_loose (w : ZW) (σ : ZS) (p1 : Int32) : Option (Int32 × ZS) := bd (fX0_mustGo σ p1 40) (fun r_1 σ_3 => sc r_1 (fun _ => bd (fX0_loose_L9 w p1 10000 0 σ_3) (fun x2_11 σ_12 => bo (fX2_atHome σ_12 100) (fun r_14 => some (r_14, σ_12)))) (fun _ => bd (fX0_finds σ_3) (fun r_16 σ_18 => some (r_16, σ_18))))
set_option maxHeartbeats 4000000 in
set_option maxRecDepth 100000 in
theorem lfX0_loose_L9 {p : Program} {l : Launch} {e : Env} {R : Room} {s : State} {m : MethodId} {args : Array Value} {below : List Frame} {meth : Method} {c : Code} {Q : State → Prop} {w : ZW} {A : Nat → Prop} {ret : Option FieldType} {hh : List (Nat × Nat × Nat × Nat)} (C : zCx p s m args meth c w zLx A 3 cX0_loose RX0 ret hh) (hfr : 731 ≤ R.frames) (hlo : 6153 ≤ R.locals) (y1 : Int32) {z2 : Int32} {σ' : ZS} (hk : Z p l e R s m args below meth c Q w zLx A 3 σ' 27 [(0, .ref (w.2.2 0)), (1, .int y1), (2, .int z2)] []) : ∀ (n : Nat) (y2 : Int32) (σ : ZS), fX0_loose_L9 w y1 n y2 σ = some (z2, σ') → Z p l e R s m args below meth c Q w zLx A 3 σ 9 [(0, .ref (w.2.2 0)), (1, .int y1), (2, .int y2)] [] := by
  intro n
  induction n with
  | zero => intro y2 σ hf; exact none_ hf
  | succ n ih =>
    intro y2 σ hf
    rw [fX0_loose_L9] at hf
    refine z_iload_n C 2 dX0_loose_9 rfl rfl ?_
    refine z_iload_n C 1 dX0_loose_10 rfl rfl ?_
    refine z_icmp_ge C 27 dX0_loose_11 (by decide) (fun c_6 => ?_) (fun c_6 => ?_)
    · replace hf := if_t c_6 hf
      obtain ⟨rfl, rfl⟩ := fin_ hf
      exact hk
    · replace hf := if_f c_6 hf
      refine z_aload_n C 0 dX0_loose_14 rfl rfl ?_
      refine z_getR C ly_x0 (Cn := RX0) (T := TX0) (N := 8) rfl in_X0 1 (by decide) q320 (Or.inl rfl) rfl dX0_loose_15 ?_
      obtain ⟨⟨⟩, σ_9, e_8, hf⟩ := bd_ hf
      refine z_callv C (rest := []) (av := (.ref (w.2.2 100) :: [])) (zPay.of q951 q79) (fun H ls hH h2 => zInv_V C (As := []) (rest := []) (ci := 2) (T := TX2) (N := 20) rfl (zSee.fix (ly_b0 zb100)) hH q948 q949 q950 (Or.inl rfl) q951 mh_X2 np_X2_goesLoose dX0_loose_18) (tX2_goesLoose l w zb100 e_8) (Nat.le_trans (Nat.le_of_ble_eq_true rfl) hfr) (Nat.le_trans (Nat.le_of_ble_eq_true rfl) hlo) ?_
      obtain ⟨x2_10, ex2_10, hf⟩ := nmo_ hf
      refine z_iinc C x2_10 2 dX0_loose_21 rfl (by rw [ex2_10]; rfl) (by decide) rfl (lv' := [(2, .int x2_10), (0, .ref (w.2.2 0)), (1, .int y1)]) ?_
      refine z_goto C 9 dX0_loose_24 (by decide) ?_
      exact z_lv [1, 2, 0] rfl (ih _ _ hf)
set_option maxHeartbeats 4000000 in
set_option maxRecDepth 100000 in
theorem tX0_loose (l : Launch) (w : ZW) {σ σ' : ZS} {p1 : Int32} {r : Int32} (hf : fX0_loose w σ p1 = some (r, σ')) : zC l w zLx yX0_loose (wsW_ yX0_loose cX0_loose 3 (some .int) [(0, 34, 35, 8)]) 731 6153 [.ref (w.2.2 0), .int p1] σ (.returned (some (.int r))) σ' := by
  refine zC.ofW (plainFor_of_name (by decide)) (Nat.le_of_ble_eq_true rfl) ?_
  intro p e s m args below meth c C hnm
  show Z p l e _ s m args below meth c _ w _ _ 3 σ 0 [(0, .ref (w.2.2 0)), (1, .int p1)] []
  unfold fX0_loose at hf
  refine z_aload_n C 0 dX0_loose_0 rfl rfl ?_
  refine z_iload_n C 1 dX0_loose_1 rfl rfl ?_
  refine z_bipush C 40 dX0_loose_2 (by decide) ?_
  obtain ⟨r_1, σ_3, e_2, hf⟩ := bd_ hf
  rcases r_1 with ⟨⟩ | ⟨⟩
  · dsimp only [sc] at hf
    refine z_callv C (rest := []) (av := (.ref (w.2.2 0) :: [.int p1, .int 40])) (zPay.of q921 q74) (fun H ls hH h2 => zInv_V C (As := [.int p1, .int 40]) (rest := []) (ci := 0) (T := TX0) (N := 8) rfl (zSee.fix ly_x0) hH q918 q920 qs21 (Or.inl rfl) q921 mh_X0 np_X0_mustGo dX0_loose_4) (tX0_mustGo l w e_2) (Nat.le_of_ble_eq_true rfl) (Nat.le_of_ble_eq_true rfl) ?_
    refine z_iconst C 0 dX0_loose_7 (by decide) ?_
    refine z_istore_n C dX0_loose_8 rfl (by decide) rfl (lv' := [(2, .int 0), (0, .ref (w.2.2 0)), (1, .int p1)]) ?_
    obtain ⟨x2_11, σ_12, e_13, hf⟩ := bd_ hf
    refine z_lv (lv' := [(0, .ref (w.2.2 0)), (1, .int p1), (2, .int 0)]) [1, 2, 0] rfl ?_
    refine lfX0_loose_L9 C (Nat.le_of_ble_eq_true rfl) (Nat.le_of_ble_eq_true rfl) p1 ?_ _ _ _ e_13
    refine z_aload_n C 0 dX0_loose_27 rfl rfl ?_
    refine z_getR C ly_x0 (Cn := RX0) (T := TX0) (N := 8) rfl in_X0 1 (by decide) q320 (Or.inl rfl) rfl dX0_loose_28 ?_
    obtain ⟨r_14, e_15, hf⟩ := bo_ hf
    refine z_calli C (rest := []) (av := (.ref (w.2.2 100) :: [])) (zPay.of q943 q79) (fun H ls hH h2 => zInv_V C (As := []) (rest := []) (ci := 2) (T := TX2) (N := 20) rfl (zSee.fix (ly_b0 zb100)) hH q940 q941 q942 (Or.inl rfl) q943 mh_X2 np_X2_atHome dX0_loose_31) (tX2_atHome l w zb100 e_15) (Nat.le_of_ble_eq_true rfl) (Nat.le_of_ble_eq_true rfl) ?_
    obtain ⟨rfl, rfl⟩ := fin_ hf
    exact z_iret C rfl dX0_loose_34
  · dsimp only [sc] at hf
    refine z_callt C (rest := []) (av := (.ref (w.2.2 0) :: [.int p1, .int 40])) (zPay.of q921 q74) (fun H ls hH h2 => zInv_V C (As := [.int p1, .int 40]) (rest := []) (ci := 0) (T := TX0) (N := 8) rfl (zSee.fix ly_x0) hH q918 q920 qs21 (Or.inl rfl) q921 mh_X0 np_X0_mustGo dX0_loose_4) (tX0_mustGo l w e_2) (Nat.le_of_ble_eq_true rfl) (Nat.le_of_ble_eq_true rfl) ?_
    refine z_catch C [] 0 34 35 8 [] rfl (by decide) (by decide) (by decide) (ci := 1) (Cn := RX1) (T0 := TX1) (N := 7) rfl (zSee.fix ly_x1) q118 ?_
    refine z_astore_n C dX0_loose_35 rfl (by decide) rfl (lv' := [(2, .ref (w.2.2 1)), (0, .ref (w.2.2 0)), (1, .int p1)]) ?_
    refine z_aload_n C 1 dX0_loose_36 rfl rfl ?_
    refine z_aload_n C 0 dX0_loose_37 rfl rfl ?_
    obtain ⟨r_16, σ_18, e_17, hf⟩ := bd_ hf
    refine z_calli C (rest := []) (av := (.ref (w.2.2 0) :: [.ref (w.2.2 1)])) (zPay.of q362 q74) (fun H ls hH h2 => zInv_V C (As := [.ref (w.2.2 1)]) (rest := []) (ci := 0) (T := TX0) (N := 8) rfl (zSee.fix ly_x0) hH q359 q361 qs2 (Or.inl rfl) q362 mh_X0 np_X0_finds dX0_loose_38) (tX0_finds l w e_17) (Nat.le_of_ble_eq_true rfl) (Nat.le_of_ble_eq_true rfl) ?_
    obtain ⟨rfl, rfl⟩ := fin_ hf
    exact z_iret C rfl dX0_loose_41
def fX0_lost_L33 (w : ZW) (y1 : Int32) (y2 : Int32) : Nat → Int32 → ZS → Option ((Int32) × ZS)
  | 0, _, _ => none
  | n + 1, y3, σ => if 60 < y3 then (some (y3, σ)) else (bo (fX2_whoAreLost σ 300) (fun r_12 => if r_12 = y2 then (bd (fX2_passes w σ 300) (fun _ σ_17 => nm (y3 + 1) (fun (x3_18 : Int32) => fX0_lost_L33 w y1 y2 n x3_18 σ_17))) else (some (y3, σ))))
def fX0_lost (w : ZW) (σ : ZS) (p1 : Int32) : Option (Int32 × ZS) := bd (fX0_need σ (fX0_in p1 0 1) 1) (fun r_1 σ_3 => sc r_1 (fun _ => bd (fX2_become σ_3 300 100) (fun _ σ_8 => bo (fX2_whoAreLost σ_8 100) (fun r_9 => bd (fX0_lost_L33 w p1 r_9 10000 0 σ_8) (fun x3_19 σ_20 => nm (if 60 < x3_19 then 0 else 1) (fun (j_22 : Int32) => bd (fX0_need σ_20 j_22 2) (fun r_23 σ_25 => sc r_23 (fun _ => bo (if p1 = 0 then (some x3_19) else (bo (fX2_whoAreLost σ_25 300) (fun r_32 => bo (fJ9_numberOfTrailingZeros (r_32 &&& (r_9 ^^^ (-1)))) (fun r_34 => some r_34)))) (fun (j_28 : Int32) => some (j_28, σ_25))) (fun _ => bd (fX0_finds σ_25) (fun r_36 σ_38 => some (r_36, σ_38))))))))) (fun _ => bd (fX0_finds σ_3) (fun r_40 σ_42 => some (r_40, σ_42))))
set_option maxHeartbeats 4000000 in
set_option maxRecDepth 100000 in
theorem lfX0_lost_L33 {p : Program} {l : Launch} {e : Env} {R : Room} {s : State} {m : MethodId} {args : Array Value} {below : List Frame} {meth : Method} {c : Code} {Q : State → Prop} {w : ZW} {A : Nat → Prop} {ret : Option FieldType} {hh : List (Nat × Nat × Nat × Nat)} (C : zCx p s m args meth c w zLx A 4 cX0_lost RX0 ret hh) (hfr : 730 ≤ R.frames) (hlo : 6141 ≤ R.locals) (y1 : Int32) (y2 : Int32) {z3 : Int32} {σ' : ZS} (hk : Z p l e R s m args below meth c Q w zLx A 4 σ' 63 [(0, .ref (w.2.2 0)), (1, .int y1), (2, .int y2), (3, .int z3)] []) : ∀ (n : Nat) (y3 : Int32) (σ : ZS), fX0_lost_L33 w y1 y2 n y3 σ = some (z3, σ') → Z p l e R s m args below meth c Q w zLx A 4 σ 33 [(0, .ref (w.2.2 0)), (1, .int y1), (2, .int y2), (3, .int y3)] [] := by
  intro n
  induction n with
  | zero => intro y3 σ hf; exact none_ hf
  | succ n ih =>
    intro y3 σ hf
    rw [fX0_lost_L33] at hf
    refine z_iload_n C 3 dX0_lost_33 rfl rfl ?_
    refine z_bipush C 60 dX0_lost_34 (by decide) ?_
    refine z_icmp_gt C 63 dX0_lost_36 (by decide) (fun c_11 => ?_) (fun c_11 => ?_)
    · replace hf := if_t c_11 hf
      obtain ⟨rfl, rfl⟩ := fin_ hf
      exact hk
    · replace hf := if_f c_11 hf
      refine z_aload_n C 0 dX0_lost_39 rfl rfl ?_
      refine z_getR C ly_x0 (Cn := RX0) (T := TX0) (N := 8) rfl in_X0 3 (by decide) q322 (Or.inl rfl) rfl dX0_lost_40 ?_
      obtain ⟨r_12, e_13, hf⟩ := bo_ hf
      refine z_calli C (rest := []) (av := (.ref (w.2.2 300) :: [])) (zPay.of q983 q79) (fun H ls hH h2 => zInv_V C (As := []) (rest := []) (ci := 2) (T := TX2) (N := 20) rfl (zSee.fix (ly_b0 zb300)) hH q980 q981 q982 (Or.inl rfl) q983 mh_X2 np_X2_whoAreLost dX0_lost_43) (tX2_whoAreLost l w zb300 e_13) (Nat.le_trans (Nat.le_of_ble_eq_true rfl) hfr) (Nat.le_trans (Nat.le_of_ble_eq_true rfl) hlo) ?_
      refine z_iload_n C 2 dX0_lost_46 rfl rfl ?_
      refine z_icmp_ne C 63 dX0_lost_47 (by decide) (fun c_14 => ?_) (fun c_14 => ?_)
      · replace hf := if_f c_14 hf
        obtain ⟨rfl, rfl⟩ := fin_ hf
        exact hk
      · replace hf := if_t c_14 hf
        refine z_aload_n C 0 dX0_lost_50 rfl rfl ?_
        refine z_getR C ly_x0 (Cn := RX0) (T := TX0) (N := 8) rfl in_X0 3 (by decide) q322 (Or.inl rfl) rfl dX0_lost_51 ?_
        obtain ⟨⟨⟩, σ_17, e_16, hf⟩ := bd_ hf
        refine z_callv C (rest := []) (av := (.ref (w.2.2 300) :: [])) (zPay.of q929 q79) (fun H ls hH h2 => zInv_V C (As := []) (rest := []) (ci := 2) (T := TX2) (N := 20) rfl (zSee.fix (ly_b0 zb300)) hH q984 q927 q928 (Or.inl rfl) q929 mh_X2 np_X2_passes dX0_lost_54) (tX2_passes l w zb300 e_16) (Nat.le_trans (Nat.le_of_ble_eq_true rfl) hfr) (Nat.le_trans (Nat.le_of_ble_eq_true rfl) hlo) ?_
        obtain ⟨x3_18, ex3_18, hf⟩ := nmo_ hf
        refine z_iinc C x3_18 3 dX0_lost_57 rfl (by rw [ex3_18]; rfl) (by decide) rfl (lv' := [(3, .int x3_18), (0, .ref (w.2.2 0)), (1, .int y1), (2, .int y2)]) ?_
        refine z_goto C 33 dX0_lost_60 (by decide) ?_
        exact z_lv [1, 2, 3, 0] rfl (ih _ _ hf)
set_option maxHeartbeats 4000000 in
set_option maxRecDepth 100000 in
theorem tX0_lost (l : Launch) (w : ZW) {σ σ' : ZS} {p1 : Int32} {r : Int32} (hf : fX0_lost w σ p1 = some (r, σ')) : zC l w zLx yX0_lost (wsW_ yX0_lost cX0_lost 4 (some .int) [(0, 101, 102, 8)]) 730 6141 [.ref (w.2.2 0), .int p1] σ (.returned (some (.int r))) σ' := by
  refine zC.ofW (plainFor_of_name (by decide)) (Nat.le_of_ble_eq_true rfl) ?_
  intro p e s m args below meth c C hnm
  show Z p l e _ s m args below meth c _ w _ _ 4 σ 0 [(0, .ref (w.2.2 0)), (1, .int p1)] []
  unfold fX0_lost at hf
  refine z_aload_n C 0 dX0_lost_0 rfl rfl ?_
  refine z_iload_n C 1 dX0_lost_1 rfl rfl ?_
  refine z_iconst C 0 dX0_lost_2 (by decide) ?_
  refine z_iconst C 1 dX0_lost_3 (by decide) ?_
  refine z_calli C (rest := [.ref (w.2.2 0)]) (av := [.int p1, .int 0, .int 1]) (zPay.of q350 q74) (fun H ls hH h2 => zInv_S C (As := [.int p1, .int 0, .int 1]) (rest := [.ref (w.2.2 0)]) q348 q349 q74 (Or.inl rfl) q350 mh_X0 np_X0_in dX0_lost_4) (tX0_in l w zLx σ p1 0 1) (Nat.le_of_ble_eq_true rfl) (Nat.le_of_ble_eq_true rfl) ?_
  refine z_iconst C 1 dX0_lost_7 (by decide) ?_
  obtain ⟨r_1, σ_3, e_2, hf⟩ := bd_ hf
  rcases r_1 with ⟨⟩ | ⟨⟩
  · dsimp only [sc] at hf
    refine z_callv C (rest := []) (av := (.ref (w.2.2 0) :: [.int (fX0_in p1 0 1), .int 1])) (zPay.of q354 q74) (fun H ls hH h2 => zInv_V C (As := [.int (fX0_in p1 0 1), .int 1]) (rest := []) (ci := 0) (T := TX0) (N := 8) rfl (zSee.fix ly_x0) hH q351 q353 qs1 (Or.inl rfl) q354 mh_X0 np_X0_need dX0_lost_8) (tX0_need l w e_2) (Nat.le_of_ble_eq_true rfl) (Nat.le_of_ble_eq_true rfl) ?_
    refine z_aload_n C 0 dX0_lost_11 rfl rfl ?_
    refine z_getR C ly_x0 (Cn := RX0) (T := TX0) (N := 8) rfl in_X0 3 (by decide) q322 (Or.inl rfl) rfl dX0_lost_12 ?_
    refine z_aload_n C 0 dX0_lost_15 rfl rfl ?_
    refine z_getR C ly_x0 (Cn := RX0) (T := TX0) (N := 8) rfl in_X0 1 (by decide) q320 (Or.inl rfl) rfl dX0_lost_16 ?_
    obtain ⟨⟨⟩, σ_8, e_7, hf⟩ := bd_ hf
    refine z_callr C (rest := []) (av := (.ref (w.2.2 300) :: [.ref (w.2.2 100)])) (zPay.of q972 q79) (fun H ls hH h2 => zInv_V C (As := [.ref (w.2.2 100)]) (rest := []) (ci := 2) (T := TX2) (N := 20) rfl (zSee.fix (ly_b0 zb300)) hH q969 q970 q971 (Or.inl rfl) q972 mh_X2 np_X2_become dX0_lost_19) (tX2_become l w zb300 zb100 e_7) (Nat.le_of_ble_eq_true rfl) (Nat.le_of_ble_eq_true rfl) ?_
    refine z_pop C dX0_lost_22 rfl ?_
    refine z_aload_n C 0 dX0_lost_23 rfl rfl ?_
    refine z_getR C ly_x0 (Cn := RX0) (T := TX0) (N := 8) rfl in_X0 1 (by decide) q320 (Or.inl rfl) rfl dX0_lost_24 ?_
    obtain ⟨r_9, e_10, hf⟩ := bo_ hf
    refine z_calli C (rest := []) (av := (.ref (w.2.2 100) :: [])) (zPay.of q983 q79) (fun H ls hH h2 => zInv_V C (As := []) (rest := []) (ci := 2) (T := TX2) (N := 20) rfl (zSee.fix (ly_b0 zb100)) hH q980 q981 q982 (Or.inl rfl) q983 mh_X2 np_X2_whoAreLost dX0_lost_27) (tX2_whoAreLost l w zb100 e_10) (Nat.le_of_ble_eq_true rfl) (Nat.le_of_ble_eq_true rfl) ?_
    refine z_istore_n C dX0_lost_30 rfl (by decide) rfl (lv' := [(2, .int r_9), (0, .ref (w.2.2 0)), (1, .int p1)]) ?_
    refine z_iconst C 0 dX0_lost_31 (by decide) ?_
    refine z_istore_n C dX0_lost_32 rfl (by decide) rfl (lv' := [(3, .int 0), (2, .int r_9), (0, .ref (w.2.2 0)), (1, .int p1)]) ?_
    obtain ⟨x3_19, σ_20, e_21, hf⟩ := bd_ hf
    refine z_lv (lv' := [(0, .ref (w.2.2 0)), (1, .int p1), (2, .int r_9), (3, .int 0)]) [2, 3, 1, 0] rfl ?_
    refine lfX0_lost_L33 C (Nat.le_of_ble_eq_true rfl) (Nat.le_of_ble_eq_true rfl) p1 r_9 ?_ _ _ _ e_21
    refine z_aload_n C 0 dX0_lost_63 rfl rfl ?_
    refine z_iload_n C 3 dX0_lost_64 rfl rfl ?_
    refine z_bipush C 60 dX0_lost_65 (by decide) ?_
    obtain ⟨j_22, ej_22, hf⟩ := nmo_ hf
    have hj_22 : j_22 = 0 ∨ j_22 = 1 := by rw [ej_22]; (try dsimp only [nm]); (repeat' split) <;> first | exact Or.inl rfl | exact Or.inr rfl
    have hjj_22 : Z p l e (zRm 730 6141 σ) s m args below meth c (zQ below w zLx σ (.returned (some (.int r))) σ' args s) w zLx (zA w zLx σ) 4 σ_20 75 [(0, .ref (w.2.2 0)), (1, .int p1), (2, .int r_9), (3, .int x3_19)] [.int j_22, .ref (w.2.2 0)] := by
      refine z_iconst C 2 dX0_lost_75 (by decide) ?_
      obtain ⟨r_23, σ_25, e_24, hf⟩ := bd_ hf
      rcases r_23 with ⟨⟩ | ⟨⟩
      · dsimp only [sc] at hf
        refine z_callv C (rest := []) (av := (.ref (w.2.2 0) :: [.int j_22, .int 2])) (zPay.of q354 q74) (fun H ls hH h2 => zInv_V C (As := [.int j_22, .int 2]) (rest := []) (ci := 0) (T := TX0) (N := 8) rfl (zSee.fix ly_x0) hH q351 q353 qs1 (Or.inl rfl) q354 mh_X0 np_X0_need dX0_lost_76) (tX0_need l w e_24) (Nat.le_of_ble_eq_true rfl) (Nat.le_of_ble_eq_true rfl) ?_
        refine z_iload_n C 1 dX0_lost_79 rfl rfl ?_
        obtain ⟨j_28, e_30, hf⟩ := bo_ hf
        have hje_30 : Z p l e (zRm 730 6141 σ) s m args below meth c (zQ below w zLx σ (.returned (some (.int r))) σ' args s) w zLx (zA w zLx σ) 4 σ_25 101 [(0, .ref (w.2.2 0)), (1, .int p1), (2, .int r_9), (3, .int x3_19)] [.int j_28] := by
          obtain ⟨rfl, rfl⟩ := fin_ hf
          exact z_iret C rfl dX0_lost_101
        replace hf := e_30
        refine z_if_ne C 87 dX0_lost_80 (by decide) (fun c_31 => ?_) (fun c_31 => ?_)
        · replace hf := if_f c_31 hf
          refine z_aload_n C 0 dX0_lost_87 rfl rfl ?_
          refine z_getR C ly_x0 (Cn := RX0) (T := TX0) (N := 8) rfl in_X0 3 (by decide) q322 (Or.inl rfl) rfl dX0_lost_88 ?_
          obtain ⟨r_32, e_33, hf⟩ := bo_ hf
          refine z_calli C (rest := []) (av := (.ref (w.2.2 300) :: [])) (zPay.of q983 q79) (fun H ls hH h2 => zInv_V C (As := []) (rest := []) (ci := 2) (T := TX2) (N := 20) rfl (zSee.fix (ly_b0 zb300)) hH q980 q981 q982 (Or.inl rfl) q983 mh_X2 np_X2_whoAreLost dX0_lost_91) (tX2_whoAreLost l w zb300 e_33) (Nat.le_of_ble_eq_true rfl) (Nat.le_of_ble_eq_true rfl) ?_
          refine z_iload_n C 2 dX0_lost_94 rfl rfl ?_
          refine z_iconst C (-1) dX0_lost_95 (by decide) ?_
          refine z_ixor C dX0_lost_96 ?_
          refine z_iand C dX0_lost_97 ?_
          obtain ⟨r_34, e_35, hf⟩ := bo_ hf
          refine z_calli C (rest := []) (av := [.int (r_32 &&& (r_9 ^^^ (-1)))]) (zPay.of q987 q105) (fun H ls hH h2 => zInv_S C (As := [.int (r_32 &&& (r_9 ^^^ (-1)))]) (rest := []) q985 q986 q105 (Or.inl rfl) q987 mh_J9 np_J9_numberOfTrailingZeros dX0_lost_98) (tJ9_numberOfTrailingZeros l w zLx σ_25 e_35) (Nat.le_of_ble_eq_true rfl) (Nat.le_of_ble_eq_true rfl) ?_
          obtain rfl := fino_ hf
          exact hje_30
        · replace hf := if_t c_31 hf
          refine z_iload_n C 3 dX0_lost_83 rfl rfl ?_
          refine z_goto C 101 dX0_lost_84 (by decide) ?_
          obtain rfl := fino_ hf
          exact hje_30
      · dsimp only [sc] at hf
        refine z_callt C (rest := []) (av := (.ref (w.2.2 0) :: [.int j_22, .int 2])) (zPay.of q354 q74) (fun H ls hH h2 => zInv_V C (As := [.int j_22, .int 2]) (rest := []) (ci := 0) (T := TX0) (N := 8) rfl (zSee.fix ly_x0) hH q351 q353 qs1 (Or.inl rfl) q354 mh_X0 np_X0_need dX0_lost_76) (tX0_need l w e_24) (Nat.le_of_ble_eq_true rfl) (Nat.le_of_ble_eq_true rfl) ?_
        refine z_catch C [] 0 101 102 8 [] rfl (by decide) (by decide) (by decide) (ci := 1) (Cn := RX1) (T0 := TX1) (N := 7) rfl (zSee.fix ly_x1) q118 ?_
        refine z_astore_n C dX0_lost_102 rfl (by decide) rfl (lv' := [(2, .ref (w.2.2 1)), (0, .ref (w.2.2 0)), (1, .int p1), (3, .int x3_19)]) ?_
        refine z_aload_n C 1 dX0_lost_103 rfl rfl ?_
        refine z_aload_n C 0 dX0_lost_104 rfl rfl ?_
        obtain ⟨r_36, σ_38, e_37, hf⟩ := bd_ hf
        refine z_calli C (rest := []) (av := (.ref (w.2.2 0) :: [.ref (w.2.2 1)])) (zPay.of q362 q74) (fun H ls hH h2 => zInv_V C (As := [.ref (w.2.2 1)]) (rest := []) (ci := 0) (T := TX0) (N := 8) rfl (zSee.fix ly_x0) hH q359 q361 qs2 (Or.inl rfl) q362 mh_X0 np_X0_finds dX0_lost_105) (tX0_finds l w e_37) (Nat.le_of_ble_eq_true rfl) (Nat.le_of_ble_eq_true rfl) ?_
        obtain ⟨rfl, rfl⟩ := fin_ hf
        exact z_iret C rfl dX0_lost_108
    replace hf := ej_22
    refine z_icmp_gt C 74 dX0_lost_67 (by decide) (fun c_39 => ?_) (fun c_39 => ?_)
    · replace hf := ifp_t c_39 hf
      refine z_iconst C 0 dX0_lost_74 (by decide) ?_
      subst hf
      exact hjj_22
    · replace hf := ifp_f c_39 hf
      refine z_iconst C 1 dX0_lost_70 (by decide) ?_
      refine z_goto C 75 dX0_lost_71 (by decide) ?_
      subst hf
      exact hjj_22
  · dsimp only [sc] at hf
    refine z_callt C (rest := []) (av := (.ref (w.2.2 0) :: [.int (fX0_in p1 0 1), .int 1])) (zPay.of q354 q74) (fun H ls hH h2 => zInv_V C (As := [.int (fX0_in p1 0 1), .int 1]) (rest := []) (ci := 0) (T := TX0) (N := 8) rfl (zSee.fix ly_x0) hH q351 q353 qs1 (Or.inl rfl) q354 mh_X0 np_X0_need dX0_lost_8) (tX0_need l w e_2) (Nat.le_of_ble_eq_true rfl) (Nat.le_of_ble_eq_true rfl) ?_
    refine z_catch C [] 0 101 102 8 [] rfl (by decide) (by decide) (by decide) (ci := 1) (Cn := RX1) (T0 := TX1) (N := 7) rfl (zSee.fix ly_x1) q118 ?_
    refine z_astore_n C dX0_lost_102 rfl (by decide) rfl (lv' := [(2, .ref (w.2.2 1)), (0, .ref (w.2.2 0)), (1, .int p1)]) ?_
    refine z_aload_n C 1 dX0_lost_103 rfl rfl ?_
    refine z_aload_n C 0 dX0_lost_104 rfl rfl ?_
    obtain ⟨r_40, σ_42, e_41, hf⟩ := bd_ hf
    refine z_calli C (rest := []) (av := (.ref (w.2.2 0) :: [.ref (w.2.2 1)])) (zPay.of q362 q74) (fun H ls hH h2 => zInv_V C (As := [.ref (w.2.2 1)]) (rest := []) (ci := 0) (T := TX0) (N := 8) rfl (zSee.fix ly_x0) hH q359 q361 qs2 (Or.inl rfl) q362 mh_X0 np_X0_finds dX0_lost_105) (tX0_finds l w e_41) (Nat.le_of_ble_eq_true rfl) (Nat.le_of_ble_eq_true rfl) ?_
    obtain ⟨rfl, rfl⟩ := fin_ hf
    exact z_iret C rfl dX0_lost_108
