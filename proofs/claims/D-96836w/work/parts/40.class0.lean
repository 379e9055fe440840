/-! the class, walked (written by gen/main_x.py) -/
theorem np_X0_in : zNp yX0_in.desc 3 := by unfold zNp; decide +kernel
theorem mh_X0 : zMH RX0 := by unfold zMH; decide
theorem np_X0_finds : zNp yX0_finds.desc 1 := by unfold zNp; decide +kernel
theorem np_X0_isCell : zNp yX0_isCell.desc 1 := by unfold zNp; decide +kernel
theorem np_X0_cellRow : zNp yX0_cellRow.desc 1 := by unfold zNp; decide +kernel
theorem np_X0_hasBit : zNp yX0_hasBit.desc 2 := by unfold zNp; decide +kernel
theorem np_X0_areCells : zNp yX0_areCells.desc 1 := by unfold zNp; decide +kernel
theorem np_X0_isShip : zNp yX0_isShip.desc 1 := by unfold zNp; decide +kernel
theorem np_X0_isOfShip : zNp yX0_isOfShip.desc 2 := by unfold zNp; decide +kernel
theorem np_X0_isAhead : zNp yX0_isAhead.desc 1 := by unfold zNp; decide +kernel
theorem np_X0_isSheet : zNp yX0_isSheet.desc 1 := by unfold zNp; decide +kernel
theorem np_X0_common : zNp yX0_common.desc 2 := by unfold zNp; decide +kernel
theorem np_X0_seed : zNp yX0_seed.desc 1 := by unfold zNp; decide +kernel
theorem np_X0_isWidth : zNp yX0_isWidth.desc 1 := by unfold zNp; decide +kernel
theorem np_X1_of : zNp yX1_of.desc 1 := by unfold zNp; decide +kernel
theorem np_X2_held : zNp yX2_held.desc 3 := by unfold zNp; decide +kernel
theorem mh_X2 : zMH RX2 := by unfold zMH; decide
theorem np_X2_whoAreAt : zNp yX2_whoAreAt.desc 1 := by unfold zNp; decide +kernel
theorem np_X2_atHome : zNp yX2_atHome.desc 0 := by unfold zNp; decide +kernel
theorem np_X2_draw : zNp yX2_draw.desc 0 := by unfold zNp; decide +kernel
theorem np_X2_become : zNp yX2_become.desc 1 := by unfold zNp; decide +kernel
theorem np_X2_whoAreLost : zNp yX2_whoAreLost.desc 0 := by unfold zNp; decide +kernel
theorem np_X3_with : zNp yX3_with.desc 2 := by unfold zNp; decide +kernel
theorem mh_X3 : zMH RX3 := by unfold zMH; decide
theorem np_X4_begins : zNp yX4_begins.desc 1 := by unfold zNp; decide +kernel
theorem mh_X4 : zMH RX4 := by unfold zMH; decide
theorem np_X10_kind : zNp yX10_kind.desc 0 := by unfold zNp; decide +kernel
theorem mh_X10 : zMH RX10 := by unfold zMH; decide
theorem np_X11_kind : zNp yX11_kind.desc 0 := by unfold zNp; decide +kernel
theorem mh_X11 : zMH RX11 := by unfold zMH; decide
theorem np_X12_kind : zNp yX12_kind.desc 0 := by unfold zNp; decide +kernel
theorem mh_X12 : zMH RX12 := by unfold zMH; decide
theorem np_X13_kind : zNp yX13_kind.desc 0 := by unfold zNp; decide +kernel
theorem mh_X13 : zMH RX13 := by unfold zMH; decide
theorem np_X14_kind : zNp yX14_kind.desc 0 := by unfold zNp; decide +kernel
theorem mh_X14 : zMH RX14 := by unfold zMH; decide
theorem np_X15_kind : zNp yX15_kind.desc 0 := by unfold zNp; decide +kernel
theorem mh_X15 : zMH RX15 := by unfold zMH; decide
theorem np_X16_init : zNp yX16_init.desc 3 := by unfold zNp; decide +kernel
theorem mh_X16 : zMH RX16 := by unfold zMH; decide
theorem np_X16_look : zNp yX16_look.desc 0 := by unfold zNp; decide +kernel
theorem np_X16_fault : zNp yX16_fault.desc 1 := by unfold zNp; decide +kernel
theorem np_X21_init : zNp yX21_init.desc 0 := by unfold zNp; decide +kernel
theorem mh_X21 : zMH RX21 := by unfold zMH; decide
theorem np_X22_size : zNp yX22_size.desc 0 := by unfold zNp; decide +kernel
theorem mh_X22 : zMH RX22 := by unfold zMH; decide
theorem np_X22_get : zNp yX22_get.desc 1 := by unfold zNp; decide +kernel
theorem np_X22_init : zNp yX22_init.desc 1 := by unfold zNp; decide +kernel
theorem np_X22_put : zNp yX22_put.desc 2 := by unfold zNp; decide +kernel
theorem np_X22_width : zNp yX22_width.desc 0 := by unfold zNp; decide +kernel
theorem np_X23_size : zNp yX23_size.desc 0 := by unfold zNp; decide +kernel
theorem mh_X23 : zMH RX23 := by unfold zMH; decide
theorem np_X23_get : zNp yX23_get.desc 1 := by unfold zNp; decide +kernel
theorem np_X23_init : zNp yX23_init.desc 1 := by unfold zNp; decide +kernel
theorem np_X23_put : zNp yX23_put.desc 2 := by unfold zNp; decide +kernel
theorem np_X23_width : zNp yX23_width.desc 0 := by unfold zNp; decide +kernel
theorem np_X24_size : zNp yX24_size.desc 0 := by unfold zNp; decide +kernel
theorem mh_X24 : zMH RX24 := by unfold zMH; decide
theorem np_X24_get : zNp yX24_get.desc 1 := by unfold zNp; decide +kernel
theorem np_X24_init : zNp yX24_init.desc 1 := by unfold zNp; decide +kernel
theorem np_X24_put : zNp yX24_put.desc 2 := by unfold zNp; decide +kernel
theorem np_X24_width : zNp yX24_width.desc 0 := by unfold zNp; decide +kernel
theorem np_X5_init : zNp yX5_init.desc 0 := by unfold zNp; decide +kernel
theorem mh_X5 : zMH RX5 := by unfold zMH; decide
theorem np_X7_init : zNp yX7_init.desc 0 := by unfold zNp; decide +kernel
theorem mh_X7 : zMH RX7 := by unfold zMH; decide
theorem np_X8_init : zNp yX8_init.desc 3 := by unfold zNp; decide +kernel
theorem np_X9_init : zNp yX9_init.desc 3 := by unfold zNp; decide +kernel
theorem mh_X9 : zMH RX9 := by unfold zMH; decide
theorem np_X9_kind : zNp yX9_kind.desc 0 := by unfold zNp; decide +kernel
theorem np_X9_isOf : zNp yX9_isOf.desc 1 := by unfold zNp; decide +kernel
theorem np_X9_sails : zNp yX9_sails.desc 1 := by unfold zNp; decide +kernel
theorem np_X9_sounds : zNp yX9_sounds.desc 1 := by unfold zNp; decide +kernel
theorem np_X0_need : zNp yX0_need.desc 2 := by unfold zNp; decide +kernel
theorem np_X0_lay : zNp yX0_lay.desc 3 := by unfold zNp; decide +kernel
theorem np_X0_isOfBay : zNp yX0_isOfBay.desc 2 := by unfold zNp; decide +kernel
theorem np_X0_shipAt : zNp yX0_shipAt.desc 2 := by unfold zNp; decide +kernel
theorem np_X0_change : zNp yX0_change.desc 3 := by unfold zNp; decide +kernel
theorem np_X0_feed : zNp yX0_feed.desc 2 := by unfold zNp; decide +kernel
theorem np_X0_mustGo : zNp yX0_mustGo.desc 2 := by unfold zNp; decide +kernel
theorem np_X0_sheetAt : zNp yX0_sheetAt.desc 1 := by unfold zNp; decide +kernel
theorem np_X0_trace : zNp yX0_trace.desc 1 := by unfold zNp; decide +kernel
theorem np_X0_beds : zNp yX0_beds.desc 1 := by unfold zNp; decide +kernel
theorem np_X0_judge : zNp yX0_judge.desc 1 := by unfold zNp; decide +kernel
theorem np_X0_sheet : zNp yX0_sheet.desc 3 := by unfold zNp; decide +kernel
theorem np_X0_put : zNp yX0_put.desc 3 := by unfold zNp; decide +kernel
theorem np_X0_image : zNp yX0_image.desc 0 := by unfold zNp; decide +kernel
theorem np_X0_restore : zNp yX0_restore.desc 0 := by unfold zNp; decide +kernel
theorem np_X0_tell : zNp yX0_tell.desc 1 := by unfold zNp; decide +kernel
theorem np_X0_count : zNp yX0_count.desc 1 := by unfold zNp; decide +kernel
theorem np_X0_told : zNp yX0_told.desc 1 := by unfold zNp; decide +kernel
theorem np_X2_depthBy : zNp yX2_depthBy.desc 3 := by unfold zNp; decide +kernel
theorem np_X2_elseBy : zNp yX2_elseBy.desc 3 := by unfold zNp; decide +kernel
theorem np_X10_init : zNp yX10_init.desc 3 := by unfold zNp; decide +kernel
theorem np_X10_isOf : zNp yX10_isOf.desc 1 := by unfold zNp; decide +kernel
theorem np_X10_sails : zNp yX10_sails.desc 1 := by unfold zNp; decide +kernel
theorem np_X11_init : zNp yX11_init.desc 3 := by unfold zNp; decide +kernel
theorem np_X11_isOf : zNp yX11_isOf.desc 1 := by unfold zNp; decide +kernel
theorem np_X12_init : zNp yX12_init.desc 3 := by unfold zNp; decide +kernel
theorem np_X12_isOf : zNp yX12_isOf.desc 1 := by unfold zNp; decide +kernel
theorem np_X12_sounds : zNp yX12_sounds.desc 1 := by unfold zNp; decide +kernel
theorem np_X13_init : zNp yX13_init.desc 3 := by unfold zNp; decide +kernel
theorem np_X13_isOf : zNp yX13_isOf.desc 1 := by unfold zNp; decide +kernel
theorem np_X14_init : zNp yX14_init.desc 3 := by unfold zNp; decide +kernel
theorem np_X14_isOf : zNp yX14_isOf.desc 1 := by unfold zNp; decide +kernel
theorem np_X15_init : zNp yX15_init.desc 3 := by unfold zNp; decide +kernel
theorem np_X15_isOf : zNp yX15_isOf.desc 1 := by unfold zNp; decide +kernel
theorem np_X15_sounds : zNp yX15_sounds.desc 1 := by unfold zNp; decide +kernel
theorem np_X16_isOne : zNp yX16_isOne.desc 1 := by unfold zNp; decide +kernel
theorem np_X16_opens : zNp yX16_opens.desc 0 := by unfold zNp; decide +kernel
theorem np_X17_init : zNp yX17_init.desc 1 := by unfold zNp; decide +kernel
theorem np_X19_init : zNp yX19_init.desc 1 := by unfold zNp; decide +kernel
theorem np_X20_init : zNp yX20_init.desc 1 := by unfold zNp; decide +kernel
theorem np_X21_row : zNp yX21_row.desc 0 := by unfold zNp; decide +kernel
theorem np_X0_bay : zNp yX0_bay.desc 1 := by unfold zNp; decide +kernel
theorem np_X0_set : zNp yX0_set.desc 2 := by unfold zNp; decide +kernel
theorem np_X0_shipOf : zNp yX0_shipOf.desc 4 := by unfold zNp; decide +kernel
theorem np_X0_become : zNp yX0_become.desc 2 := by unfold zNp; decide +kernel
theorem np_X0_as : zNp yX0_as.desc 2 := by unfold zNp; decide +kernel
theorem np_X0_law : zNp yX0_law.desc 4 := by unfold zNp; decide +kernel
theorem np_X0_move : zNp yX0_move.desc 5 := by unfold zNp; decide +kernel
theorem np_X2_depthIn : zNp yX2_depthIn.desc 2 := by unfold zNp; decide +kernel
theorem np_X9_steers : zNp yX9_steers.desc 1 := by unfold zNp; decide +kernel
theorem np_X0_ship : zNp yX0_ship.desc 3 := by unfold zNp; decide +kernel
theorem np_X0_depth : zNp yX0_depth.desc 2 := by unfold zNp; decide +kernel
theorem np_X0_deep : zNp yX0_deep.desc 2 := by unfold zNp; decide +kernel
theorem np_X2_trueDepth : zNp yX2_trueDepth.desc 1 := by unfold zNp; decide +kernel
theorem np_X2_shown : zNp yX2_shown.desc 2 := by unfold zNp; decide +kernel
theorem np_X2_comesIn : zNp yX2_comesIn.desc 1 := by unfold zNp; decide +kernel
theorem np_X11_believes : zNp yX11_believes.desc 2 := by unfold zNp; decide +kernel
theorem np_X11_steers : zNp yX11_steers.desc 1 := by unfold zNp; decide +kernel
theorem np_X14_believes : zNp yX14_believes.desc 2 := by unfold zNp; decide +kernel
theorem np_X14_steers : zNp yX14_steers.desc 1 := by unfold zNp; decide +kernel
theorem np_X15_believes : zNp yX15_believes.desc 2 := by unfold zNp; decide +kernel
theorem np_X9_believes : zNp yX9_believes.desc 2 := by unfold zNp; decide +kernel
theorem np_X0_ofCell : zNp yX0_ofCell.desc 2 := by unfold zNp; decide +kernel
theorem np_X0_leastFalse : zNp yX0_leastFalse.desc 1 := by unfold zNp; decide +kernel
theorem np_X0_isShownSo : zNp yX0_isShownSo.desc 2 := by unfold zNp; decide +kernel
theorem np_X10_believes : zNp yX10_believes.desc 2 := by unfold zNp; decide +kernel
theorem np_X12_believes : zNp yX12_believes.desc 2 := by unfold zNp; decide +kernel
theorem np_X13_believes : zNp yX13_believes.desc 2 := by unfold zNp; decide +kernel
theorem np_X9_logs : zNp yX9_logs.desc 1 := by unfold zNp; decide +kernel
theorem np_X0_believed : zNp yX0_believed.desc 1 := by unfold zNp; decide +kernel
theorem np_X0_which : zNp yX0_which.desc 2 := by unfold zNp; decide +kernel
theorem np_X2_goesOn : zNp yX2_goesOn.desc 1 := by unfold zNp; decide +kernel
theorem np_X13_logs : zNp yX13_logs.desc 1 := by unfold zNp; decide +kernel
theorem np_X15_logs : zNp yX15_logs.desc 1 := by unfold zNp; decide +kernel
theorem np_X0_ofShip : zNp yX0_ofShip.desc 2 := by unfold zNp; decide +kernel
theorem np_X0_voice : zNp yX0_voice.desc 3 := by unfold zNp; decide +kernel
theorem np_X2_passes : zNp yX2_passes.desc 0 := by unfold zNp; decide +kernel
theorem np_X2_goesLoose : zNp yX2_goesLoose.desc 0 := by unfold zNp; decide +kernel
theorem np_X0_loose : zNp yX0_loose.desc 1 := by unfold zNp; decide +kernel
theorem np_X0_lost : zNp yX0_lost.desc 1 := by unfold zNp; decide +kernel
theorem np_X2_goes : zNp yX2_goes.desc 1 := by unfold zNp; decide +kernel
theorem np_X0_hours : zNp yX0_hours.desc 1 := by unfold zNp; decide +kernel
theorem np_X0_then : zNp yX0_then.desc 3 := by unfold zNp; decide +kernel
theorem np_X0_areInBy : zNp yX0_areInBy.desc 3 := by unfold zNp; decide +kernel
theorem np_X0_struck : zNp yX0_struck.desc 1 := by unfold zNp; decide +kernel
theorem np_X0_isSafeWithout : zNp yX0_isSafeWithout.desc 2 := by unfold zNp; decide +kernel
theorem np_X0_isInWith : zNp yX0_isInWith.desc 2 := by unfold zNp; decide +kernel
theorem np_X0_traffic : zNp yX0_traffic.desc 2 := by unfold zNp; decide +kernel
theorem np_X0_odds : zNp yX0_odds.desc 3 := by unfold zNp; decide +kernel
theorem np_X0_check : zNp yX0_check.desc 0 := by unfold zNp; decide +kernel
theorem np_X0_setting : zNp yX0_setting.desc 2 := by unfold zNp; decide +kernel
theorem np_X0_dark : zNp yX0_dark.desc 1 := by unfold zNp; decide +kernel
theorem np_X0_draws : zNp yX0_draws.desc 1 := by unfold zNp; decide +kernel
theorem np_X16_read : zNp yX16_read.desc 0 := by unfold zNp; decide +kernel
theorem np_X0_text : zNp yX0_text.desc 1 := by unfold zNp; decide +kernel
def fX0_in (p1 : Int32) (p2 : Int32) (p3 : Int32) : Int32 := nm (if p1 < p2 then 0 else (if p3 < p1 then 0 else 1)) (fun (j_1 : Int32) => j_1)
set_option maxHeartbeats 4000000 in
set_option maxRecDepth 100000 in
theorem tX0_in (l : Launch) (w : ZW) (L : ZL) (σ : ZS) (p1 : Int32) (p2 : Int32) (p3 : Int32) : zC l w L yX0_in (ws_ yX0_in cX0_in 3 (some .boolean)) 0 0 [.int p1, .int p2, .int p3] σ (.returned (some (.int (fX0_in p1 p2 p3)))) σ := by
  obtain ⟨r, hf⟩ : ∃ r, r = fX0_in p1 p2 p3 := ⟨_, rfl⟩
  rw [← hf]
  refine zC.of (plainFor_of_name (by decide)) (Nat.le_of_ble_eq_true rfl) ?_
  intro p e s m args below meth c C hnm
  show Z p l e _ s m args below meth c _ w _ _ 3 σ 0 [(0, .int p1), (1, .int p2), (2, .int p3)] []
  unfold fX0_in at hf
  refine z_iload_n C 0 dX0_in_0 rfl rfl ?_
  refine z_iload_n C 1 dX0_in_1 rfl rfl ?_
  obtain ⟨j_1, ej_1, hf⟩ := nmp_ hf
  have hj_1 : j_1 = 0 ∨ j_1 = 1 := by rw [ej_1]; (try dsimp only [nm]); (repeat' split) <;> first | exact Or.inl rfl | exact Or.inr rfl
  have hjj_1 : Z p l e (zRm 0 0 σ) s m args below meth c (zQ below w L σ (.returned (some (.int r))) σ args s) w L (zA w L σ) 3 σ 15 [(0, .int p1), (1, .int p2), (2, .int p3)] [.int j_1] := by
    subst hf
    exact z_iret C (b01 hj_1) dX0_in_15
  replace hf := ej_1
  refine z_icmp_lt C 14 dX0_in_2 (by decide) (fun c_2 => ?_) (fun c_2 => ?_)
  · replace hf := ifp_t c_2 hf
    refine z_iconst C 0 dX0_in_14 (by decide) ?_
    subst hf
    exact hjj_1
  · replace hf := ifp_f c_2 hf
    refine z_iload_n C 0 dX0_in_5 rfl rfl ?_
    refine z_iload_n C 2 dX0_in_6 rfl rfl ?_
    refine z_icmp_gt C 14 dX0_in_7 (by decide) (fun c_3 => ?_) (fun c_3 => ?_)
    · replace hf := ifp_t c_3 hf
      refine z_iconst C 0 dX0_in_14 (by decide) ?_
      subst hf
      exact hjj_1
    · replace hf := ifp_f c_3 hf
      refine z_iconst C 1 dX0_in_10 (by decide) ?_
      refine z_goto C 15 dX0_in_11 (by decide) ?_
      subst hf
      exact hjj_1
theorem bX0_in (p1 : Int32) (p2 : Int32) (p3 : Int32) : fX0_in p1 p2 p3 = 0 ∨ fX0_in p1 p2 p3 = 1 := by
  unfold fX0_in
  simp only [nm]
  repeat' split
  all_goals first | exact Or.inl rfl | exact Or.inr rfl
def fX0_finds (σ : ZS) : Option (Int32 × ZS) := gd (¬ ((σ.1 1 6) < 0 ∨ 6 ≤ (σ.1 1 6).toNatClampNeg)) (nm ((σ.1 6 (σ.1 1 6).toNatClampNeg) + 1) (fun (v_2 : Int32) => some ((-1000000000) - ((sI σ 6 ((σ.1 1 6).toNatClampNeg) v_2).1 1 6), sI σ 6 ((σ.1 1 6).toNatClampNeg) v_2)))
set_option maxHeartbeats 4000000 in
set_option maxRecDepth 100000 in
theorem tX0_finds (l : Launch) (w : ZW) {σ σ' : ZS} {r : Int32} (hf : fX0_finds σ = some (r, σ')) : zC l w zLx yX0_finds (ws_ yX0_finds cX0_finds 2 (some .int)) 0 0 [.ref (w.2.2 0), .ref (w.2.2 1)] σ (.returned (some (.int r))) σ' := by
  refine zC.of (plainFor_of_name (by decide)) (Nat.le_of_ble_eq_true rfl) ?_
  intro p e s m args below meth c C hnm
  show Z p l e _ s m args below meth c _ w _ _ 2 σ 0 [(0, .ref (w.2.2 0)), (1, .ref (w.2.2 1))] []
  unfold fX0_finds at hf
  refine z_aload_n C 0 dX0_finds_0 rfl rfl ?_
  refine z_getR C ly_x0 (Cn := RX0) (T := TX0) (N := 8) rfl in_X0 6 (by decide) q325 (Or.inl rfl) rfl dX0_finds_1 ?_
  refine z_aload_n C 1 dX0_finds_4 rfl rfl ?_
  refine z_getIN C ly_x1 (Cn := RX1) (T := TX1) (N := 7) rfl in_X1 6 (by decide) q171 (Or.inl rfl) rfl dX0_finds_5 ?_
  refine z_dup2 C dX0_finds_8 rfl rfl ?_
  obtain ⟨g_1, hf⟩ := gd_ hf
  refine z_ialoadF C ly_x6 g_1 dX0_finds_9 ?_
  refine z_iconst C 1 dX0_finds_10 (by decide) ?_
  refine z_iadd C dX0_finds_11 ?_
  obtain ⟨v_2, ev_2, hf⟩ := nmo_ hf
  refine z_top ev_2 ?_
  refine z_iastore C ly_x6 g_1 dX0_finds_12 ?_
  refine z_ldc C dX0_finds_13 q363 ?_
  refine z_aload_n C 1 dX0_finds_15 rfl rfl ?_
  refine z_getIN C ly_x1 (Cn := RX1) (T := TX1) (N := 7) rfl in_X1 6 (by decide) q171 (Or.inl rfl) rfl dX0_finds_16 ?_
  refine z_isub C dX0_finds_19 ?_
  obtain ⟨rfl, rfl⟩ := fin_ hf
  exact z_iret C rfl dX0_finds_20
def fX0_isCell (σ : ZS) (p1 : Int32) : Int32 := fX0_in p1 0 ((σ.1 100 0) - 1)
set_option maxHeartbeats 4000000 in
set_option maxRecDepth 100000 in
theorem tX0_isCell (l : Launch) (w : ZW) (σ : ZS) (p1 : Int32) : zC l w zLx yX0_isCell (ws_ yX0_isCell cX0_isCell 2 (some .boolean)) 1 14 [.ref (w.2.2 0), .int p1] σ (.returned (some (.int (fX0_isCell σ p1)))) σ := by
  obtain ⟨r, hf⟩ : ∃ r, r = fX0_isCell σ p1 := ⟨_, rfl⟩
  rw [← hf]
  refine zC.of (plainFor_of_name (by decide)) (Nat.le_of_ble_eq_true rfl) ?_
  intro p e s m args below meth c C hnm
  show Z p l e _ s m args below meth c _ w _ _ 2 σ 0 [(0, .ref (w.2.2 0)), (1, .int p1)] []
  unfold fX0_isCell at hf
  refine z_iload_n C 1 dX0_isCell_0 rfl rfl ?_
  refine z_iconst C 0 dX0_isCell_1 (by decide) ?_
  refine z_aload_n C 0 dX0_isCell_2 rfl rfl ?_
  refine z_getR C ly_x0 (Cn := RX0) (T := TX0) (N := 8) rfl in_X0 1 (by decide) q320 (Or.inl rfl) rfl dX0_isCell_3 ?_
  refine z_getIN C (ly_b0 zb100) (Cn := RX2) (T := TX2) (N := 20) rfl in_X2 0 (by decide) q211 (Or.inl rfl) rfl dX0_isCell_6 ?_
  refine z_iconst C 1 dX0_isCell_9 (by decide) ?_
  refine z_isub C dX0_isCell_10 ?_
  refine z_calli C (rest := []) (av := [.int p1, .int 0, .int ((σ.1 100 0) - 1)]) (zPay.of q350 q74) (fun H ls hH h2 => zInv_S C (As := [.int p1, .int 0, .int ((σ.1 100 0) - 1)]) (rest := []) q348 q349 q74 (Or.inl rfl) q350 mh_X0 np_X0_in dX0_isCell_11) (tX0_in l w zLx σ p1 0 ((σ.1 100 0) - 1)) (Nat.le_of_ble_eq_true rfl) (Nat.le_of_ble_eq_true rfl) ?_
  subst hf
  exact z_iret C (b01 (bX0_in p1 0 ((σ.1 100 0) - 1))) dX0_isCell_14
theorem bX0_isCell (σ : ZS) (p1 : Int32) : fX0_isCell σ p1 = 0 ∨ fX0_isCell σ p1 = 1 := by
  exact bX0_in p1 0 ((σ.1 100 0) - 1)
def fX0_cellRow (σ : ZS) (p1 : Int32) : Nat := if p1 = 0 then (100 + 2) else (if p1 = 1 then (100 + 3) else (100 + 4))
set_option maxHeartbeats 4000000 in
set_option maxRecDepth 100000 in
theorem tX0_cellRow (l : Launch) (w : ZW) (σ : ZS) (p1 : Int32) : zC l w zLx yX0_cellRow (ws_ yX0_cellRow cX0_cellRow 2 (some (.array .int))) 0 0 [.ref (w.2.2 0), .int p1] σ (.returned (some (.ref (w.2.2 (fX0_cellRow σ p1))))) σ := by
  obtain ⟨r, hf⟩ : ∃ r, r = fX0_cellRow σ p1 := ⟨_, rfl⟩
  rw [← hf]
  refine zC.of (plainFor_of_name (by decide)) (Nat.le_of_ble_eq_true rfl) ?_
  intro p e s m args below meth c C hnm
  show Z p l e _ s m args below meth c _ w _ _ 2 σ 0 [(0, .ref (w.2.2 0)), (1, .int p1)] []
  unfold fX0_cellRow at hf
  refine z_iload_n C 1 dX0_cellRow_0 rfl rfl ?_
  refine z_if_ne C 14 dX0_cellRow_1 (by decide) (fun c_1 => ?_) (fun c_1 => ?_)
  · replace hf := ifp_f c_1 hf
    refine z_iload_n C 1 dX0_cellRow_14 rfl rfl ?_
    refine z_iconst C 1 dX0_cellRow_15 (by decide) ?_
    refine z_icmp_ne C 29 dX0_cellRow_16 (by decide) (fun c_2 => ?_) (fun c_2 => ?_)
    · replace hf := ifp_f c_2 hf
      refine z_aload_n C 0 dX0_cellRow_29 rfl rfl ?_
      refine z_getR C ly_x0 (Cn := RX0) (T := TX0) (N := 8) rfl in_X0 1 (by decide) q320 (Or.inl rfl) rfl dX0_cellRow_30 ?_
      refine z_getRN C (ly_b0 zb100) (Cn := RX2) (T := TX2) (N := 20) rfl in_X2 3 (by decide) q217 (Or.inl rfl) rfl dX0_cellRow_33 ?_
      subst hf
      exact z_aret C (Or.inr ⟨_, rfl⟩) (Or.inr ⟨_, rfl⟩) dX0_cellRow_36
    · replace hf := ifp_t c_2 hf
      refine z_aload_n C 0 dX0_cellRow_19 rfl rfl ?_
      refine z_getR C ly_x0 (Cn := RX0) (T := TX0) (N := 8) rfl in_X0 1 (by decide) q320 (Or.inl rfl) rfl dX0_cellRow_20 ?_
      refine z_getRN C (ly_b0 zb100) (Cn := RX2) (T := TX2) (N := 20) rfl in_X2 2 (by decide) q215 (Or.inl rfl) rfl dX0_cellRow_23 ?_
      refine z_goto C 36 dX0_cellRow_26 (by decide) ?_
      subst hf
      exact z_aret C (Or.inr ⟨_, rfl⟩) (Or.inr ⟨_, rfl⟩) dX0_cellRow_36
  · replace hf := ifp_t c_1 hf
    refine z_aload_n C 0 dX0_cellRow_4 rfl rfl ?_
    refine z_getR C ly_x0 (Cn := RX0) (T := TX0) (N := 8) rfl in_X0 1 (by decide) q320 (Or.inl rfl) rfl dX0_cellRow_5 ?_
    refine z_getRN C (ly_b0 zb100) (Cn := RX2) (T := TX2) (N := 20) rfl in_X2 1 (by decide) q213 (Or.inl rfl) rfl dX0_cellRow_8 ?_
    refine z_goto C 36 dX0_cellRow_11 (by decide) ?_
    subst hf
    exact z_aret C (Or.inr ⟨_, rfl⟩) (Or.inr ⟨_, rfl⟩) dX0_cellRow_36
def fX0_hasBit (p1 : Int32) (p2 : Int32) : Int32 := nm (if ((p1 >>> (p2 &&& 31)) &&& 1) = 1 then 1 else 0) (fun (j_1 : Int32) => j_1)
set_option maxHeartbeats 4000000 in
set_option maxRecDepth 100000 in
theorem tX0_hasBit (l : Launch) (w : ZW) (L : ZL) (σ : ZS) (p1 : Int32) (p2 : Int32) : zC l w L yX0_hasBit (ws_ yX0_hasBit cX0_hasBit 2 (some .boolean)) 0 0 [.int p1, .int p2] σ (.returned (some (.int (fX0_hasBit p1 p2)))) σ := by
  obtain ⟨r, hf⟩ : ∃ r, r = fX0_hasBit p1 p2 := ⟨_, rfl⟩
  rw [← hf]
  refine zC.of (plainFor_of_name (by decide)) (Nat.le_of_ble_eq_true rfl) ?_
  intro p e s m args below meth c C hnm
  show Z p l e _ s m args below meth c _ w _ _ 2 σ 0 [(0, .int p1), (1, .int p2)] []
  unfold fX0_hasBit at hf
  refine z_iload_n C 0 dX0_hasBit_0 rfl rfl ?_
  refine z_iload_n C 1 dX0_hasBit_1 rfl rfl ?_
  refine z_ishr C dX0_hasBit_2 ?_
  refine z_iconst C 1 dX0_hasBit_3 (by decide) ?_
  refine z_iand C dX0_hasBit_4 ?_
  refine z_iconst C 1 dX0_hasBit_5 (by decide) ?_
  obtain ⟨j_1, ej_1, hf⟩ := nmp_ hf
  have hj_1 : j_1 = 0 ∨ j_1 = 1 := by rw [ej_1]; (try dsimp only [nm]); (repeat' split) <;> first | exact Or.inl rfl | exact Or.inr rfl
  have hjj_1 : Z p l e (zRm 0 0 σ) s m args below meth c (zQ below w L σ (.returned (some (.int r))) σ args s) w L (zA w L σ) 2 σ 14 [(0, .int p1), (1, .int p2)] [.int j_1] := by
    subst hf
    exact z_iret C (b01 hj_1) dX0_hasBit_14
  replace hf := ej_1
  refine z_icmp_ne C 13 dX0_hasBit_6 (by decide) (fun c_2 => ?_) (fun c_2 => ?_)
  · replace hf := ifp_f c_2 hf
    refine z_iconst C 0 dX0_hasBit_13 (by decide) ?_
    subst hf
    exact hjj_1
  · replace hf := ifp_t c_2 hf
    refine z_iconst C 1 dX0_hasBit_9 (by decide) ?_
    refine z_goto C 14 dX0_hasBit_10 (by decide) ?_
    subst hf
    exact hjj_1
theorem bX0_hasBit (p1 : Int32) (p2 : Int32) : fX0_hasBit p1 p2 = 0 ∨ fX0_hasBit p1 p2 = 1 := by
  unfold fX0_hasBit
  simp only [nm]
  repeat' split
  all_goals first | exact Or.inl rfl | exact Or.inr rfl
def fX0_areCells (σ : ZS) (p1 : Int32) : Int32 := fX0_in p1 0 ((1 <<< ((σ.1 100 0) &&& 31)) - 1)
set_option maxHeartbeats 4000000 in
set_option maxRecDepth 100000 in
theorem tX0_areCells (l : Launch) (w : ZW) (σ : ZS) (p1 : Int32) : zC l w zLx yX0_areCells (ws_ yX0_areCells cX0_areCells 2 (some .boolean)) 1 14 [.ref (w.2.2 0), .int p1] σ (.returned (some (.int (fX0_areCells σ p1)))) σ := by
  obtain ⟨r, hf⟩ : ∃ r, r = fX0_areCells σ p1 := ⟨_, rfl⟩
  rw [← hf]
  refine zC.of (plainFor_of_name (by decide)) (Nat.le_of_ble_eq_true rfl) ?_
  intro p e s m args below meth c C hnm
  show Z p l e _ s m args below meth c _ w _ _ 2 σ 0 [(0, .ref (w.2.2 0)), (1, .int p1)] []
  unfold fX0_areCells at hf
  refine z_iload_n C 1 dX0_areCells_0 rfl rfl ?_
  refine z_iconst C 0 dX0_areCells_1 (by decide) ?_
  refine z_iconst C 1 dX0_areCells_2 (by decide) ?_
  refine z_aload_n C 0 dX0_areCells_3 rfl rfl ?_
  refine z_getR C ly_x0 (Cn := RX0) (T := TX0) (N := 8) rfl in_X0 1 (by decide) q320 (Or.inl rfl) rfl dX0_areCells_4 ?_
  refine z_getIN C (ly_b0 zb100) (Cn := RX2) (T := TX2) (N := 20) rfl in_X2 0 (by decide) q211 (Or.inl rfl) rfl dX0_areCells_7 ?_
  refine z_ishl C dX0_areCells_10 ?_
  refine z_iconst C 1 dX0_areCells_11 (by decide) ?_
  refine z_isub C dX0_areCells_12 ?_
  refine z_calli C (rest := []) (av := [.int p1, .int 0, .int ((1 <<< ((σ.1 100 0) &&& 31)) - 1)]) (zPay.of q350 q74) (fun H ls hH h2 => zInv_S C (As := [.int p1, .int 0, .int ((1 <<< ((σ.1 100 0) &&& 31)) - 1)]) (rest := []) q348 q349 q74 (Or.inl rfl) q350 mh_X0 np_X0_in dX0_areCells_13) (tX0_in l w zLx σ p1 0 ((1 <<< ((σ.1 100 0) &&& 31)) - 1)) (Nat.le_of_ble_eq_true rfl) (Nat.le_of_ble_eq_true rfl) ?_
  subst hf
  exact z_iret C (b01 (bX0_in p1 0 ((1 <<< ((σ.1 100 0) &&& 31)) - 1))) dX0_areCells_16
theorem bX0_areCells (σ : ZS) (p1 : Int32) : fX0_areCells σ p1 = 0 ∨ fX0_areCells σ p1 = 1 := by
  exact bX0_in p1 0 ((1 <<< ((σ.1 100 0) &&& 31)) - 1)
def fX0_isShip (σ : ZS) (p1 : Int32) : Int32 := fX0_in p1 0 ((σ.1 100 8) - 1)
set_option maxHeartbeats 4000000 in
set_option maxRecDepth 100000 in
theorem tX0_isShip (l : Launch) (w : ZW) (σ : ZS) (p1 : Int32) : zC l w zLx yX0_isShip (ws_ yX0_isShip cX0_isShip 2 (some .boolean)) 1 14 [.ref (w.2.2 0), .int p1] σ (.returned (some (.int (fX0_isShip σ p1)))) σ := by
  obtain ⟨r, hf⟩ : ∃ r, r = fX0_isShip σ p1 := ⟨_, rfl⟩
  rw [← hf]
  refine zC.of (plainFor_of_name (by decide)) (Nat.le_of_ble_eq_true rfl) ?_
  intro p e s m args below meth c C hnm
  show Z p l e _ s m args below meth c _ w _ _ 2 σ 0 [(0, .ref (w.2.2 0)), (1, .int p1)] []
  unfold fX0_isShip at hf
  refine z_iload_n C 1 dX0_isShip_0 rfl rfl ?_
  refine z_iconst C 0 dX0_isShip_1 (by decide) ?_
  refine z_aload_n C 0 dX0_isShip_2 rfl rfl ?_
  refine z_getR C ly_x0 (Cn := RX0) (T := TX0) (N := 8) rfl in_X0 1 (by decide) q320 (Or.inl rfl) rfl dX0_isShip_3 ?_
  refine z_getIN C (ly_b0 zb100) (Cn := RX2) (T := TX2) (N := 20) rfl in_X2 8 (by decide) q230 (Or.inl rfl) rfl dX0_isShip_6 ?_
  refine z_iconst C 1 dX0_isShip_9 (by decide) ?_
  refine z_isub C dX0_isShip_10 ?_
  refine z_calli C (rest := []) (av := [.int p1, .int 0, .int ((σ.1 100 8) - 1)]) (zPay.of q350 q74) (fun H ls hH h2 => zInv_S C (As := [.int p1, .int 0, .int ((σ.1 100 8) - 1)]) (rest := []) q348 q349 q74 (Or.inl rfl) q350 mh_X0 np_X0_in dX0_isShip_11) (tX0_in l w zLx σ p1 0 ((σ.1 100 8) - 1)) (Nat.le_of_ble_eq_true rfl) (Nat.le_of_ble_eq_true rfl) ?_
  subst hf
  exact z_iret C (b01 (bX0_in p1 0 ((σ.1 100 8) - 1))) dX0_isShip_14
theorem bX0_isShip (σ : ZS) (p1 : Int32) : fX0_isShip σ p1 = 0 ∨ fX0_isShip σ p1 = 1 := by
  exact bX0_in p1 0 ((σ.1 100 8) - 1)
def fX0_isOfShip (σ : ZS) (p1 : Int32) (p2 : Int32) : Option Int32 := nm (if p1 = 0 then (fX0_in p2 0 9) else (if p1 = 1 then (fX0_isCell σ p2) else (fX0_in p2 0 1))) (fun (j_1 : Int32) => gd (j_1 = 0 ∨ j_1 = 1) (some j_1))
set_option maxHeartbeats 4000000 in
set_option maxRecDepth 100000 in
theorem tX0_isOfShip (l : Launch) (w : ZW) {σ : ZS} {p1 : Int32} {p2 : Int32} {r : Int32} (hf : fX0_isOfShip σ p1 p2 = some r) : zC l w zLx yX0_isOfShip (ws_ yX0_isOfShip cX0_isOfShip 3 (some .boolean)) 2 27 [.ref (w.2.2 0), .int p1, .int p2] σ (.returned (some (.int r))) σ := by
  refine zC.of (plainFor_of_name (by decide)) (Nat.le_of_ble_eq_true rfl) ?_
  intro p e s m args below meth c C hnm
  show Z p l e _ s m args below meth c _ w _ _ 3 σ 0 [(0, .ref (w.2.2 0)), (1, .int p1), (2, .int p2)] []
  unfold fX0_isOfShip at hf
  refine z_iload_n C 1 dX0_isOfShip_0 rfl rfl ?_
  obtain ⟨j_1, ej_1, hf⟩ := nmo_ hf
  have hjj_1 : Z p l e (zRm 2 27 σ) s m args below meth c (zQ below w zLx σ (.returned (some (.int r))) σ args s) w zLx (zA w zLx σ) 3 σ 33 [(0, .ref (w.2.2 0)), (1, .int p1), (2, .int p2)] [.int j_1] := by
    obtain ⟨g_2, hf⟩ := gd_ hf
    obtain rfl := fino_ hf
    exact z_iret C (b01 g_2) dX0_isOfShip_33
  replace hf := ej_1
  refine z_if_ne C 14 dX0_isOfShip_1 (by decide) (fun c_3 => ?_) (fun c_3 => ?_)
  · replace hf := ifp_f c_3 hf
    refine z_iload_n C 1 dX0_isOfShip_14 rfl rfl ?_
    refine z_iconst C 1 dX0_isOfShip_15 (by decide) ?_
    refine z_icmp_ne C 27 dX0_isOfShip_16 (by decide) (fun c_4 => ?_) (fun c_4 => ?_)
    · replace hf := ifp_f c_4 hf
      refine z_iload_n C 2 dX0_isOfShip_27 rfl rfl ?_
      refine z_iconst C 0 dX0_isOfShip_28 (by decide) ?_
      refine z_iconst C 1 dX0_isOfShip_29 (by decide) ?_
      refine z_calli C (rest := []) (av := [.int p2, .int 0, .int 1]) (zPay.of q350 q74) (fun H ls hH h2 => zInv_S C (As := [.int p2, .int 0, .int 1]) (rest := []) q348 q349 q74 (Or.inl rfl) q350 mh_X0 np_X0_in dX0_isOfShip_30) (tX0_in l w zLx σ p2 0 1) (Nat.le_of_ble_eq_true rfl) (Nat.le_of_ble_eq_true rfl) ?_
      subst hf
      exact hjj_1
    · replace hf := ifp_t c_4 hf
      refine z_aload_n C 0 dX0_isOfShip_19 rfl rfl ?_
      refine z_iload_n C 2 dX0_isOfShip_20 rfl rfl ?_
      refine z_calli C (rest := []) (av := (.ref (w.2.2 0) :: [.int p2])) (zPay.of q371 q74) (fun H ls hH h2 => zInv_V C (As := [.int p2]) (rest := []) (ci := 0) (T := TX0) (N := 8) rfl (zSee.fix ly_x0) hH q368 q370 qs3 (Or.inl rfl) q371 mh_X0 np_X0_isCell dX0_isOfShip_21) (tX0_isCell l w σ p2) (Nat.le_of_ble_eq_true rfl) (Nat.le_of_ble_eq_true rfl) ?_
      refine z_goto C 33 dX0_isOfShip_24 (by decide) ?_
      subst hf
      exact hjj_1
  · replace hf := ifp_t c_3 hf
    refine z_iload_n C 2 dX0_isOfShip_4 rfl rfl ?_
    refine z_iconst C 0 dX0_isOfShip_5 (by decide) ?_
    refine z_bipush C 9 dX0_isOfShip_6 (by decide) ?_
    refine z_calli C (rest := []) (av := [.int p2, .int 0, .int 9]) (zPay.of q350 q74) (fun H ls hH h2 => zInv_S C (As := [.int p2, .int 0, .int 9]) (rest := []) q348 q349 q74 (Or.inl rfl) q350 mh_X0 np_X0_in dX0_isOfShip_8) (tX0_in l w zLx σ p2 0 9) (Nat.le_of_ble_eq_true rfl) (Nat.le_of_ble_eq_true rfl) ?_
    refine z_goto C 33 dX0_isOfShip_11 (by decide) ?_
    subst hf
    exact hjj_1
def fX0_isAhead (p1 : Int32) : Int32 := fX0_in p1 0 60
set_option maxHeartbeats 4000000 in
set_option maxRecDepth 100000 in
theorem tX0_isAhead (l : Launch) (w : ZW) (L : ZL) (σ : ZS) (p1 : Int32) : zC l w L yX0_isAhead (ws_ yX0_isAhead cX0_isAhead 1 (some .boolean)) 1 14 [.int p1] σ (.returned (some (.int (fX0_isAhead p1)))) σ := by
  obtain ⟨r, hf⟩ : ∃ r, r = fX0_isAhead p1 := ⟨_, rfl⟩
  rw [← hf]
  refine zC.of (plainFor_of_name (by decide)) (Nat.le_of_ble_eq_true rfl) ?_
  intro p e s m args below meth c C hnm
  show Z p l e _ s m args below meth c _ w _ _ 1 σ 0 [(0, .int p1)] []
  unfold fX0_isAhead at hf
  refine z_iload_n C 0 dX0_isAhead_0 rfl rfl ?_
  refine z_iconst C 0 dX0_isAhead_1 (by decide) ?_
  refine z_bipush C 60 dX0_isAhead_2 (by decide) ?_
  refine z_calli C (rest := []) (av := [.int p1, .int 0, .int 60]) (zPay.of q350 q74) (fun H ls hH h2 => zInv_S C (As := [.int p1, .int 0, .int 60]) (rest := []) q348 q349 q74 (Or.inl rfl) q350 mh_X0 np_X0_in dX0_isAhead_4) (tX0_in l w L σ p1 0 60) (Nat.le_of_ble_eq_true rfl) (Nat.le_of_ble_eq_true rfl) ?_
  subst hf
  exact z_iret C (b01 (bX0_in p1 0 60)) dX0_isAhead_7
theorem bX0_isAhead (p1 : Int32) : fX0_isAhead p1 = 0 ∨ fX0_isAhead p1 = 1 := by
  exact bX0_in p1 0 60
def fX0_isSheet (p1 : Int32) : Int32 := fX0_in p1 0 3
set_option maxHeartbeats 4000000 in
set_option maxRecDepth 100000 in
theorem tX0_isSheet (l : Launch) (w : ZW) (L : ZL) (σ : ZS) (p1 : Int32) : zC l w L yX0_isSheet (ws_ yX0_isSheet cX0_isSheet 1 (some .boolean)) 1 14 [.int p1] σ (.returned (some (.int (fX0_isSheet p1)))) σ := by
  obtain ⟨r, hf⟩ : ∃ r, r = fX0_isSheet p1 := ⟨_, rfl⟩
  rw [← hf]
  refine zC.of (plainFor_of_name (by decide)) (Nat.le_of_ble_eq_true rfl) ?_
  intro p e s m args below meth c C hnm
  show Z p l e _ s m args below meth c _ w _ _ 1 σ 0 [(0, .int p1)] []
  unfold fX0_isSheet at hf
  refine z_iload_n C 0 dX0_isSheet_0 rfl rfl ?_
  refine z_iconst C 0 dX0_isSheet_1 (by decide) ?_
  refine z_iconst C 3 dX0_isSheet_2 (by decide) ?_
  refine z_calli C (rest := []) (av := [.int p1, .int 0, .int 3]) (zPay.of q350 q74) (fun H ls hH h2 => zInv_S C (As := [.int p1, .int 0, .int 3]) (rest := []) q348 q349 q74 (Or.inl rfl) q350 mh_X0 np_X0_in dX0_isSheet_3) (tX0_in l w L σ p1 0 3) (Nat.le_of_ble_eq_true rfl) (Nat.le_of_ble_eq_true rfl) ?_
  subst hf
  exact z_iret C (b01 (bX0_in p1 0 3)) dX0_isSheet_6
theorem bX0_isSheet (p1 : Int32) : fX0_isSheet p1 = 0 ∨ fX0_isSheet p1 = 1 := by
  exact bX0_in p1 0 3
def fX0_common_L4 (y0 : Int32) (y1 : Int32) : Nat → Int32 → Int32 → Option (Int32 × Int32)
  | 0, _, _ => none
  | n + 1, y2, y3 => if y3 = 0 then (some (y2, y3)) else (nm (y2 - y2 / y3 * y3) (fun (x4_4 : Int32) => fX0_common_L4 y0 y1 n y3 x4_4))
def fX0_common (σ : ZS) (p1 : Int32) (p2 : Int32) : Option Int32 := bo (fX0_common_L4 p1 p2 10000 p1 p2) (fun uu7 => some (uu7.1))
set_option maxHeartbeats 4000000 in
set_option maxRecDepth 100000 in
theorem lfX0_common_L4 {p : Program} {l : Launch} {e : Env} {R : Room} {s : State} {m : MethodId} {args : Array Value} {below : List Frame} {meth : Method} {c : Code} {Q : State → Prop} {w : ZW} {A : Nat → Prop} {ret : Option FieldType} {hh : List (Nat × Nat × Nat × Nat)} (C : zCx p s m args meth c w zLx A 5 cX0_common RX0 ret hh) (hfr : 0 ≤ R.frames) (hlo : 0 ≤ R.locals) (σ : ZS) (y0 : Int32) (y1 : Int32) {z2 : Int32} {z3 : Int32} (hk : Z p l e R s m args below meth c Q w zLx A 5 σ 21 [(0, .int y0), (1, .int y1), (2, .int z2), (3, .int z3)] []) : ∀ (n : Nat) (y2 : Int32) (y3 : Int32), fX0_common_L4 y0 y1 n y2 y3 = some (z2, z3) → Z p l e R s m args below meth c Q w zLx A 5 σ 4 [(0, .int y0), (1, .int y1), (2, .int y2), (3, .int y3)] [] := by
  intro n
  induction n with
  | zero => intro y2 y3 hf; exact none_ hf
  | succ n ih =>
    intro y2 y3 hf
    rw [fX0_common_L4] at hf
    refine z_iload_n C 3 dX0_common_4 rfl rfl ?_
    refine z_if_eq C 21 dX0_common_5 (by decide) (fun c_3 => ?_) (fun c_3 => ?_)
    · replace hf := if_t c_3 hf
      have hf1 := fino_ hf
      simp only [Prod.mk.injEq] at hf1
      obtain ⟨rfl, rfl⟩ := hf1
      exact hk
    · replace hf := if_f c_3 hf
      refine z_iload_n C 2 dX0_common_8 rfl rfl ?_
      refine z_iload_n C 3 dX0_common_9 rfl rfl ?_
      refine z_irem C dX0_common_10 c_3 ?_
      obtain ⟨x4_4, ex4_4, hf⟩ := nmo_ hf
      refine z_top ex4_4 ?_
      refine z_istore C dX0_common_11 (by decide) rfl (lv' := [(4, .int x4_4), (0, .int y0), (1, .int y1), (2, .int y2), (3, .int y3)]) ?_
      refine z_iload_n C 4 dX0_common_13 rfl rfl ?_
      refine z_istore_n C dX0_common_14 rfl (by decide) rfl (lv' := [(2, .int y3), (4, .int x4_4), (0, .int y0), (1, .int y1), (3, .int y3)]) ?_
      refine z_iload C 1 dX0_common_15 rfl ?_
      refine z_istore_n C dX0_common_17 rfl (by decide) rfl (lv' := [(3, .int x4_4), (2, .int y3), (4, .int x4_4), (0, .int y0), (1, .int y1)]) ?_
      refine z_goto C 4 dX0_common_18 (by decide) ?_
      exact z_lv [3, 4, 1, 0] rfl (ih _ _ hf)
set_option maxHeartbeats 4000000 in
set_option maxRecDepth 100000 in
theorem tX0_common (l : Launch) (w : ZW) {σ : ZS} {p1 : Int32} {p2 : Int32} {r : Int32} (hf : fX0_common σ p1 p2 = some r) : zC l w zLx yX0_common (ws_ yX0_common cX0_common 5 (some .int)) 0 0 [.int p1, .int p2] σ (.returned (some (.int r))) σ := by
  refine zC.of (plainFor_of_name (by decide)) (Nat.le_of_ble_eq_true rfl) ?_
  intro p e s m args below meth c C hnm
  show Z p l e _ s m args below meth c _ w _ _ 5 σ 0 [(0, .int p1), (1, .int p2)] []
  unfold fX0_common at hf
  refine z_iload_n C 0 dX0_common_0 rfl rfl ?_
  refine z_istore_n C dX0_common_1 rfl (by decide) rfl (lv' := [(2, .int p1), (0, .int p1), (1, .int p2)]) ?_
  refine z_iload_n C 2 dX0_common_2 rfl rfl ?_
  refine z_istore_n C dX0_common_3 rfl (by decide) rfl (lv' := [(3, .int p2), (2, .int p1), (0, .int p1), (1, .int p2)]) ?_
  obtain ⟨⟨x2_5, x3_6⟩, e_8, hf⟩ := bo_ hf
  try dsimp only at hf
  refine z_lv (lv' := [(0, .int p1), (1, .int p2), (2, .int p1), (3, .int p2)]) [2, 3, 1, 0] rfl ?_
  refine lfX0_common_L4 C (Nat.le_of_ble_eq_true rfl) (Nat.le_of_ble_eq_true rfl) σ p1 p2 ?_ _ _ _ e_8
  refine z_iload_n C 2 dX0_common_21 rfl rfl ?_
  obtain rfl := fino_ hf
  exact z_iret C rfl dX0_common_22
def fX0_seed (σ : ZS) (p1 : Int32) : Option (Int32 × ZS) := nm (σ.1 100 14) (fun (x2_1 : Int32) => some (x2_1, sI σ 100 14 p1))
set_option maxHeartbeats 4000000 in
set_option maxRecDepth 100000 in
theorem tX0_seed (l : Launch) (w : ZW) {σ σ' : ZS} {p1 : Int32} {r : Int32} (hf : fX0_seed σ p1 = some (r, σ')) : zC l w zLx yX0_seed (ws_ yX0_seed cX0_seed 3 (some .int)) 0 0 [.ref (w.2.2 0), .int p1] σ (.returned (some (.int r))) σ' := by
  refine zC.of (plainFor_of_name (by decide)) (Nat.le_of_ble_eq_true rfl) ?_
  intro p e s m args below meth c C hnm
  show Z p l e _ s m args below meth c _ w _ _ 3 σ 0 [(0, .ref (w.2.2 0)), (1, .int p1)] []
  unfold fX0_seed at hf
  refine z_aload_n C 0 dX0_seed_0 rfl rfl ?_
  refine z_getR C ly_x0 (Cn := RX0) (T := TX0) (N := 8) rfl in_X0 1 (by decide) q320 (Or.inl rfl) rfl dX0_seed_1 ?_
  refine z_getIN C (ly_b0 zb100) (Cn := RX2) (T := TX2) (N := 20) rfl in_X2 14 (by decide) q242 (Or.inl rfl) rfl dX0_seed_4 ?_
  obtain ⟨x2_1, ex2_1, hf⟩ := nmo_ hf
  refine z_top ex2_1 ?_
  refine z_istore_n C dX0_seed_7 rfl (by decide) rfl (lv' := [(2, .int x2_1), (0, .ref (w.2.2 0)), (1, .int p1)]) ?_
  refine z_aload_n C 1 dX0_seed_8 rfl rfl ?_
  refine z_getR C ly_x0 (Cn := RX0) (T := TX0) (N := 8) rfl in_X0 1 (by decide) q320 (Or.inl rfl) rfl dX0_seed_9 ?_
  refine z_iload_n C 2 dX0_seed_12 rfl rfl ?_
  refine z_putI C (ly_b0 zb100) (k := 14) rfl (zPutN C (Cn := RX2) (T := TX2) (N := 20) rfl in_X2 tyX2 tyX2_ok nmX2 14 (by decide) q242 (Or.inl rfl) rfl rfl rfl (zFs_lt (Nat.le_of_ble_eq_true rfl)) dX0_seed_13) ?_
  refine z_iload_n C 0 dX0_seed_16 rfl rfl ?_
  obtain ⟨rfl, rfl⟩ := fin_ hf
  exact z_iret C rfl dX0_seed_17
def fX0_isWidth (p1 : Int32) : Int32 := nm (if p1 = 8 then 1 else (if p1 = 16 then 1 else (if p1 = 32 then 1 else 0))) (fun (j_1 : Int32) => j_1)
set_option maxHeartbeats 4000000 in
set_option maxRecDepth 100000 in
theorem tX0_isWidth (l : Launch) (w : ZW) (L : ZL) (σ : ZS) (p1 : Int32) : zC l w L yX0_isWidth (ws_ yX0_isWidth cX0_isWidth 1 (some .boolean)) 0 0 [.int p1] σ (.returned (some (.int (fX0_isWidth p1)))) σ := by
  obtain ⟨r, hf⟩ : ∃ r, r = fX0_isWidth p1 := ⟨_, rfl⟩
  rw [← hf]
  refine zC.of (plainFor_of_name (by decide)) (Nat.le_of_ble_eq_true rfl) ?_
  intro p e s m args below meth c C hnm
  show Z p l e _ s m args below meth c _ w _ _ 1 σ 0 [(0, .int p1)] []
  unfold fX0_isWidth at hf
  refine z_iload_n C 0 dX0_isWidth_0 rfl rfl ?_
  refine z_bipush C 8 dX0_isWidth_1 (by decide) ?_
  obtain ⟨j_1, ej_1, hf⟩ := nmp_ hf
  have hj_1 : j_1 = 0 ∨ j_1 = 1 := by rw [ej_1]; (try dsimp only [nm]); (repeat' split) <;> first | exact Or.inl rfl | exact Or.inr rfl
  have hjj_1 : Z p l e (zRm 0 0 σ) s m args below meth c (zQ below w L σ (.returned (some (.int r))) σ args s) w L (zA w L σ) 1 σ 23 [(0, .int p1)] [.int j_1] := by
    subst hf
    exact z_iret C (b01 hj_1) dX0_isWidth_23
  replace hf := ej_1
  refine z_icmp_eq C 18 dX0_isWidth_3 (by decide) (fun c_2 => ?_) (fun c_2 => ?_)
  · replace hf := ifp_t c_2 hf
    refine z_iconst C 1 dX0_isWidth_18 (by decide) ?_
    refine z_goto C 23 dX0_isWidth_19 (by decide) ?_
    subst hf
    exact hjj_1
  · replace hf := ifp_f c_2 hf
    refine z_iload_n C 0 dX0_isWidth_6 rfl rfl ?_
    refine z_bipush C 16 dX0_isWidth_7 (by decide) ?_
    refine z_icmp_eq C 18 dX0_isWidth_9 (by decide) (fun c_3 => ?_) (fun c_3 => ?_)
    · replace hf := ifp_t c_3 hf
      refine z_iconst C 1 dX0_isWidth_18 (by decide) ?_
      refine z_goto C 23 dX0_isWidth_19 (by decide) ?_
      subst hf
      exact hjj_1
    · replace hf := ifp_f c_3 hf
      refine z_iload_n C 0 dX0_isWidth_12 rfl rfl ?_
      refine z_bipush C 32 dX0_isWidth_13 (by decide) ?_
      refine z_icmp_ne C 22 dX0_isWidth_15 (by decide) (fun c_4 => ?_) (fun c_4 => ?_)
      · replace hf := ifp_f c_4 hf
        refine z_iconst C 0 dX0_isWidth_22 (by decide) ?_
        subst hf
        exact hjj_1
      · replace hf := ifp_t c_4 hf
        refine z_iconst C 1 dX0_isWidth_18 (by decide) ?_
        refine z_goto C 23 dX0_isWidth_19 (by decide) ?_
        subst hf
        exact hjj_1
theorem bX0_isWidth (p1 : Int32) : fX0_isWidth p1 = 0 ∨ fX0_isWidth p1 = 1 := by
  unfold fX0_isWidth
  simp only [nm]
  repeat' split
  all_goals first | exact Or.inl rfl | exact Or.inr rfl
def fX1_of (σ : ZS) (p1 : Int32) : Option (Unit × ZS) := some ((), sI σ 1 6 p1)
set_option maxHeartbeats 4000000 in
set_option maxRecDepth 100000 in
theorem tX1_of (l : Launch) (w : ZW) {σ σ' : ZS} {p1 : Int32} (hf : fX1_of σ p1 = some ((), σ')) : zC l w zLx yX1_of (ws_ yX1_of cX1_of 2 (some (.object "OldLight$Finding"))) 0 0 [.ref (w.2.2 1), .int p1] σ (.returned (some (.ref (w.2.2 1)))) σ' := by
  refine zC.of (plainFor_of_name (by decide)) (Nat.le_of_ble_eq_true rfl) ?_
  intro p e s m args below meth c C hnm
  show Z p l e _ s m args below meth c _ w _ _ 2 σ 0 [(0, .ref (w.2.2 1)), (1, .int p1)] []
  unfold fX1_of at hf
  refine z_aload_n C 0 dX1_of_0 rfl rfl ?_
  refine z_iload_n C 1 dX1_of_1 rfl rfl ?_
  refine z_putI C ly_x1 (k := 6) rfl (zPut C (Cn := RX1) (T := TX1) (N := 7) rfl in_X1 tyX1 tyX1_ok nmX1 6 (by decide) q170 (Or.inl rfl) rfl rfl rfl (zFs_lt (Nat.le_of_ble_eq_true rfl)) dX1_of_2) ?_
  refine z_aload_n C 0 dX1_of_5 rfl rfl ?_
  obtain ⟨-, rfl⟩ := fin_ hf
  exact z_aret C (Or.inl ⟨_, rfl⟩) (Or.inr ⟨_, rfl⟩) dX1_of_6
def fX2_held (p1 : Int32) (p2 : Int32) (p3 : Int32) : Int32 := fJ3_max p2 (fJ3_min p3 p1)
set_option maxHeartbeats 4000000 in
set_option maxRecDepth 100000 in
theorem tX2_held (l : Launch) (w : ZW) (L : ZL) (σ : ZS) (p1 : Int32) (p2 : Int32) (p3 : Int32) : zC l w L yX2_held (ws_ yX2_held cX2_held 3 (some .int)) 1 14 [.int p1, .int p2, .int p3] σ (.returned (some (.int (fX2_held p1 p2 p3)))) σ := by
  obtain ⟨r, hf⟩ : ∃ r, r = fX2_held p1 p2 p3 := ⟨_, rfl⟩
  rw [← hf]
  refine zC.of (plainFor_of_name (by decide)) (Nat.le_of_ble_eq_true rfl) ?_
  intro p e s m args below meth c C hnm
  show Z p l e _ s m args below meth c _ w _ _ 3 σ 0 [(0, .int p1), (1, .int p2), (2, .int p3)] []
  unfold fX2_held at hf
  refine z_iload_n C 1 dX2_held_0 rfl rfl ?_
  refine z_iload_n C 2 dX2_held_1 rfl rfl ?_
  refine z_iload_n C 0 dX2_held_2 rfl rfl ?_
  refine z_calli C (rest := [.int p2]) (av := [.int p3, .int p1]) (zPay.of q424 q84) (fun H ls hH h2 => zInv_S C (As := [.int p3, .int p1]) (rest := [.int p2]) q422 q423 q84 (Or.inl rfl) q424 mh_J3 np_J3_min dX2_held_3) (tJ3_min l w L σ p3 p1) (Nat.le_of_ble_eq_true rfl) (Nat.le_of_ble_eq_true rfl) ?_
  refine z_calli C (rest := []) (av := [.int p2, .int (fJ3_min p3 p1)]) (zPay.of q390 q84) (fun H ls hH h2 => zInv_S C (As := [.int p2, .int (fJ3_min p3 p1)]) (rest := []) q388 q389 q84 (Or.inl rfl) q390 mh_J3 np_J3_max dX2_held_6) (tJ3_max l w L σ p2 (fJ3_min p3 p1)) (Nat.le_of_ble_eq_true rfl) (Nat.le_of_ble_eq_true rfl) ?_
  subst hf
  exact z_iret C rfl dX2_held_9
def fX2_whoAreAt_L4 (σ : ZS) (b : Nat) (y1 : Int32) : Nat → Int32 → Int32 → Option (Int32 × Int32)
  | 0, _, _ => none
  | n + 1, y2, y3 => if (σ.1 b 8) ≤ y3 then (some (y2, y3)) else (gd (¬ (y3 < 0 ∨ 7 ≤ y3.toNatClampNeg)) (nm (if (σ.1 (b + 12) y3.toNatClampNeg) = y1 then (1 <<< (y3 &&& 31)) else 0) (fun (j_9 : Int32) => nm (y2 ||| j_9) (fun (x2_10 : Int32) => nm (y3 + 1) (fun (x3_11 : Int32) => fX2_whoAreAt_L4 σ b y1 n x2_10 x3_11)))))
def fX2_whoAreAt (σ : ZS) (b : Nat) (p1 : Int32) : Option Int32 := bo (fX2_whoAreAt_L4 σ b p1 10000 0 0) (fun uu15 => some (uu15.1))
set_option maxHeartbeats 4000000 in
set_option maxRecDepth 100000 in
theorem lfX2_whoAreAt_L4 {p : Program} {l : Launch} {e : Env} {R : Room} {s : State} {m : MethodId} {args : Array Value} {below : List Frame} {meth : Method} {c : Code} {Q : State → Prop} {w : ZW} {A : Nat → Prop} {ret : Option FieldType} {hh : List (Nat × Nat × Nat × Nat)} (C : zCx p s m args meth c w zLx A 4 cX2_whoAreAt RX2 ret hh) (hfr : 0 ≤ R.frames) (hlo : 0 ≤ R.locals) (σ : ZS) {b : Nat} (hb : zBay b) (y1 : Int32) {z2 : Int32} {z3 : Int32} (hk : Z p l e R s m args below meth c Q w zLx A 4 σ 38 [(0, .ref (w.2.2 b)), (1, .int y1), (2, .int z2), (3, .int z3)] []) : ∀ (n : Nat) (y2 : Int32) (y3 : Int32), fX2_whoAreAt_L4 σ b y1 n y2 y3 = some (z2, z3) → Z p l e R s m args below meth c Q w zLx A 4 σ 4 [(0, .ref (w.2.2 b)), (1, .int y1), (2, .int y2), (3, .int y3)] [] := by
  intro n
  induction n with
  | zero => intro y2 y3 hf; exact none_ hf
  | succ n ih =>
    intro y2 y3 hf
    rw [fX2_whoAreAt_L4] at hf
    refine z_iload_n C 3 dX2_whoAreAt_4 rfl rfl ?_
    refine z_aload_n C 0 dX2_whoAreAt_5 rfl rfl ?_
    refine z_getI C (ly_b0 hb) (Cn := RX2) (T := TX2) (N := 20) rfl in_X2 8 (by decide) q229 (Or.inl rfl) rfl dX2_whoAreAt_6 ?_
    refine z_icmp_ge C 38 dX2_whoAreAt_9 (by decide) (fun c_7 => ?_) (fun c_7 => ?_)
    · replace hf := if_t c_7 hf
      have hf1 := fino_ hf
      simp only [Prod.mk.injEq] at hf1
      obtain ⟨rfl, rfl⟩ := hf1
      exact hk
    · replace hf := if_f c_7 hf
      refine z_iload_n C 2 dX2_whoAreAt_12 rfl rfl ?_
      refine z_aload_n C 0 dX2_whoAreAt_13 rfl rfl ?_
      refine z_getR C (ly_b0 hb) (Cn := RX2) (T := TX2) (N := 20) rfl in_X2 11 (by decide) q235 (Or.inl rfl) rfl dX2_whoAreAt_14 ?_
      refine z_iload_n C 3 dX2_whoAreAt_17 rfl rfl ?_
      obtain ⟨g_8, hf⟩ := gd_ hf
      refine z_ialoadF C (ly_b12 hb) g_8 dX2_whoAreAt_18 ?_
      refine z_iload_n C 1 dX2_whoAreAt_19 rfl rfl ?_
      obtain ⟨j_9, ej_9, hf⟩ := nmo_ hf
      have hjj_9 : Z p l e R s m args below meth c Q w zLx A 4 σ 30 [(0, .ref (w.2.2 b)), (1, .int y1), (2, .int y2), (3, .int y3)] [.int j_9, .int y2] := by
        refine z_ior C dX2_whoAreAt_30 ?_
        obtain ⟨x2_10, ex2_10, hf⟩ := nmo_ hf
        refine z_top ex2_10 ?_
        refine z_istore_n C dX2_whoAreAt_31 rfl (by decide) rfl (lv' := [(2, .int x2_10), (0, .ref (w.2.2 b)), (1, .int y1), (3, .int y3)]) ?_
        obtain ⟨x3_11, ex3_11, hf⟩ := nmo_ hf
        refine z_iinc C x3_11 3 dX2_whoAreAt_32 rfl (by rw [ex3_11]; rfl) (by decide) rfl (lv' := [(3, .int x3_11), (2, .int x2_10), (0, .ref (w.2.2 b)), (1, .int y1)]) ?_
        refine z_goto C 4 dX2_whoAreAt_35 (by decide) ?_
        exact z_lv [2, 3, 1, 0] rfl (ih _ _ hf)
      replace hf := ej_9
      refine z_icmp_ne C 29 dX2_whoAreAt_20 (by decide) (fun c_12 => ?_) (fun c_12 => ?_)
      · replace hf := ifp_f c_12 hf
        refine z_iconst C 0 dX2_whoAreAt_29 (by decide) ?_
        subst hf
        exact hjj_9
      · replace hf := ifp_t c_12 hf
        refine z_iconst C 1 dX2_whoAreAt_23 (by decide) ?_
        refine z_iload_n C 3 dX2_whoAreAt_24 rfl rfl ?_
        refine z_ishl C dX2_whoAreAt_25 ?_
        refine z_goto C 30 dX2_whoAreAt_26 (by decide) ?_
        subst hf
        exact hjj_9
set_option maxHeartbeats 4000000 in
set_option maxRecDepth 100000 in
theorem tX2_whoAreAt (l : Launch) (w : ZW) {σ : ZS} {b : Nat} {p1 : Int32} (hb : zBay b) {r : Int32} (hf : fX2_whoAreAt σ b p1 = some r) : zC l w zLx yX2_whoAreAt (ws_ yX2_whoAreAt cX2_whoAreAt 4 (some .int)) 0 0 [.ref (w.2.2 b), .int p1] σ (.returned (some (.int r))) σ := by
  refine zC.of (plainFor_of_name (by decide)) (Nat.le_of_ble_eq_true rfl) ?_
  intro p e s m args below meth c C hnm
  show Z p l e _ s m args below meth c _ w _ _ 4 σ 0 [(0, .ref (w.2.2 b)), (1, .int p1)] []
  unfold fX2_whoAreAt at hf
  refine z_iconst C 0 dX2_whoAreAt_0 (by decide) ?_
  refine z_istore_n C dX2_whoAreAt_1 rfl (by decide) rfl (lv' := [(2, .int 0), (0, .ref (w.2.2 b)), (1, .int p1)]) ?_
  refine z_iconst C 0 dX2_whoAreAt_2 (by decide) ?_
  refine z_istore_n C dX2_whoAreAt_3 rfl (by decide) rfl (lv' := [(3, .int 0), (2, .int 0), (0, .ref (w.2.2 b)), (1, .int p1)]) ?_
  obtain ⟨⟨x2_13, x3_14⟩, e_16, hf⟩ := bo_ hf
  try dsimp only at hf
  refine z_lv (lv' := [(0, .ref (w.2.2 b)), (1, .int p1), (2, .int 0), (3, .int 0)]) [2, 3, 1, 0] rfl ?_
  refine lfX2_whoAreAt_L4 C (Nat.le_of_ble_eq_true rfl) (Nat.le_of_ble_eq_true rfl) σ hb p1 ?_ _ _ _ e_16
  refine z_iload_n C 2 dX2_whoAreAt_38 rfl rfl ?_
  obtain rfl := fino_ hf
  exact z_iret C rfl dX2_whoAreAt_39
def fX2_atHome_L4 (σ : ZS) (b : Nat) : Nat → Int32 → Int32 → Option (Int32 × Int32)
  | 0, _, _ => none
  | n + 1, y1, y2 => if (σ.1 b 8) ≤ y2 then (some (y1, y2)) else (gd (¬ (y2 < 0 ∨ 7 ≤ y2.toNatClampNeg)) (nm (if (σ.1 (b + 12) y2.toNatClampNeg) = 0 then 1 else 0) (fun (j_9 : Int32) => nm (y1 + j_9) (fun (x1_10 : Int32) => nm (y2 + 1) (fun (x2_11 : Int32) => fX2_atHome_L4 σ b n x1_10 x2_11)))))
def fX2_atHome (σ : ZS) (b : Nat) : Option Int32 := bo (fX2_atHome_L4 σ b 10000 0 0) (fun uu15 => some (uu15.1))
set_option maxHeartbeats 4000000 in
set_option maxRecDepth 100000 in
theorem lfX2_atHome_L4 {p : Program} {l : Launch} {e : Env} {R : Room} {s : State} {m : MethodId} {args : Array Value} {below : List Frame} {meth : Method} {c : Code} {Q : State → Prop} {w : ZW} {A : Nat → Prop} {ret : Option FieldType} {hh : List (Nat × Nat × Nat × Nat)} (C : zCx p s m args meth c w zLx A 3 cX2_atHome RX2 ret hh) (hfr : 0 ≤ R.frames) (hlo : 0 ≤ R.locals) (σ : ZS) {b : Nat} (hb : zBay b) {z1 : Int32} {z2 : Int32} (hk : Z p l e R s m args below meth c Q w zLx A 3 σ 35 [(0, .ref (w.2.2 b)), (1, .int z1), (2, .int z2)] []) : ∀ (n : Nat) (y1 : Int32) (y2 : Int32), fX2_atHome_L4 σ b n y1 y2 = some (z1, z2) → Z p l e R s m args below meth c Q w zLx A 3 σ 4 [(0, .ref (w.2.2 b)), (1, .int y1), (2, .int y2)] [] := by
  intro n
  induction n with
  | zero => intro y1 y2 hf; exact none_ hf
  | succ n ih =>
    intro y1 y2 hf
    rw [fX2_atHome_L4] at hf
    refine z_iload_n C 2 dX2_atHome_4 rfl rfl ?_
    refine z_aload_n C 0 dX2_atHome_5 rfl rfl ?_
    refine z_getI C (ly_b0 hb) (Cn := RX2) (T := TX2) (N := 20) rfl in_X2 8 (by decide) q229 (Or.inl rfl) rfl dX2_atHome_6 ?_
    refine z_icmp_ge C 35 dX2_atHome_9 (by decide) (fun c_7 => ?_) (fun c_7 => ?_)
    · replace hf := if_t c_7 hf
      have hf1 := fino_ hf
      simp only [Prod.mk.injEq] at hf1
      obtain ⟨rfl, rfl⟩ := hf1
      exact hk
    · replace hf := if_f c_7 hf
      refine z_iload_n C 1 dX2_atHome_12 rfl rfl ?_
      refine z_aload_n C 0 dX2_atHome_13 rfl rfl ?_
      refine z_getR C (ly_b0 hb) (Cn := RX2) (T := TX2) (N := 20) rfl in_X2 11 (by decide) q235 (Or.inl rfl) rfl dX2_atHome_14 ?_
      refine z_iload_n C 2 dX2_atHome_17 rfl rfl ?_
      obtain ⟨g_8, hf⟩ := gd_ hf
      refine z_ialoadF C (ly_b12 hb) g_8 dX2_atHome_18 ?_
      obtain ⟨j_9, ej_9, hf⟩ := nmo_ hf
      have hj_9 : j_9 = 0 ∨ j_9 = 1 := by rw [ej_9]; (try dsimp only [nm]); (repeat' split) <;> first | exact Or.inl rfl | exact Or.inr rfl
      have hjj_9 : Z p l e R s m args below meth c Q w zLx A 3 σ 27 [(0, .ref (w.2.2 b)), (1, .int y1), (2, .int y2)] [.int j_9, .int y1] := by
        refine z_iadd C dX2_atHome_27 ?_
        obtain ⟨x1_10, ex1_10, hf⟩ := nmo_ hf
        refine z_top ex1_10 ?_
        refine z_istore_n C dX2_atHome_28 rfl (by decide) rfl (lv' := [(1, .int x1_10), (0, .ref (w.2.2 b)), (2, .int y2)]) ?_
        obtain ⟨x2_11, ex2_11, hf⟩ := nmo_ hf
        refine z_iinc C x2_11 2 dX2_atHome_29 rfl (by rw [ex2_11]; rfl) (by decide) rfl (lv' := [(2, .int x2_11), (1, .int x1_10), (0, .ref (w.2.2 b))]) ?_
        refine z_goto C 4 dX2_atHome_32 (by decide) ?_
        exact z_lv [2, 1, 0] rfl (ih _ _ hf)
      replace hf := ej_9
      refine z_if_ne C 26 dX2_atHome_19 (by decide) (fun c_12 => ?_) (fun c_12 => ?_)
      · replace hf := ifp_f c_12 hf
        refine z_iconst C 0 dX2_atHome_26 (by decide) ?_
        subst hf
        exact hjj_9
      · replace hf := ifp_t c_12 hf
        refine z_iconst C 1 dX2_atHome_22 (by decide) ?_
        refine z_goto C 27 dX2_atHome_23 (by decide) ?_
        subst hf
        exact hjj_9
set_option maxHeartbeats 4000000 in
set_option maxRecDepth 100000 in
theorem tX2_atHome (l : Launch) (w : ZW) {σ : ZS} {b : Nat} (hb : zBay b) {r : Int32} (hf : fX2_atHome σ b = some r) : zC l w zLx yX2_atHome (ws_ yX2_atHome cX2_atHome 3 (some .int)) 0 0 [.ref (w.2.2 b)] σ (.returned (some (.int r))) σ := by
  refine zC.of (plainFor_of_name (by decide)) (Nat.le_of_ble_eq_true rfl) ?_
  intro p e s m args below meth c C hnm
  show Z p l e _ s m args below meth c _ w _ _ 3 σ 0 [(0, .ref (w.2.2 b))] []
  unfold fX2_atHome at hf
  refine z_iconst C 0 dX2_atHome_0 (by decide) ?_
  refine z_istore_n C dX2_atHome_1 rfl (by decide) rfl (lv' := [(1, .int 0), (0, .ref (w.2.2 b))]) ?_
  refine z_iconst C 0 dX2_atHome_2 (by decide) ?_
  refine z_istore_n C dX2_atHome_3 rfl (by decide) rfl (lv' := [(2, .int 0), (1, .int 0), (0, .ref (w.2.2 b))]) ?_
  obtain ⟨⟨x1_13, x2_14⟩, e_16, hf⟩ := bo_ hf
  try dsimp only at hf
  refine z_lv (lv' := [(0, .ref (w.2.2 b)), (1, .int 0), (2, .int 0)]) [2, 1, 0] rfl ?_
  refine lfX2_atHome_L4 C (Nat.le_of_ble_eq_true rfl) (Nat.le_of_ble_eq_true rfl) σ hb ?_ _ _ _ e_16
  refine z_iload_n C 1 dX2_atHome_35 rfl rfl ?_
  obtain rfl := fino_ hf
  exact z_iret C rfl dX2_atHome_36
def fX2_draw (σ : ZS) (b : Nat) : Option (Int32 × ZS) := nm (((σ.1 b 14) * 1103515245) + 12345) (fun (f_1 : Int32) => some ((((sI σ b 14 f_1).1 b 14).toUInt32 >>> ((8 : Int32).toUInt32 &&& Int32.toUInt32 31)).toInt32, sI σ b 14 f_1))
set_option maxHeartbeats 4000000 in
set_option maxRecDepth 100000 in
theorem tX2_draw (l : Launch) (w : ZW) {σ σ' : ZS} {b : Nat} (hb : zBay b) {r : Int32} (hf : fX2_draw σ b = some (r, σ')) : zC l w zLx yX2_draw (ws_ yX2_draw cX2_draw 1 (some .int)) 0 0 [.ref (w.2.2 b)] σ (.returned (some (.int r))) σ' := by
  refine zC.of (plainFor_of_name (by decide)) (Nat.le_of_ble_eq_true rfl) ?_
  intro p e s m args below meth c C hnm
  show Z p l e _ s m args below meth c _ w _ _ 1 σ 0 [(0, .ref (w.2.2 b))] []
  unfold fX2_draw at hf
  refine z_aload_n C 0 dX2_draw_0 rfl rfl ?_
  refine z_aload_n C 0 dX2_draw_1 rfl rfl ?_
  refine z_getI C (ly_b0 hb) (Cn := RX2) (T := TX2) (N := 20) rfl in_X2 14 (by decide) q241 (Or.inl rfl) rfl dX2_draw_2 ?_
  refine z_ldc C dX2_draw_5 q956 ?_
  refine z_imul C dX2_draw_7 ?_
  refine z_sipush C 12345 dX2_draw_8 (by decide) ?_
  refine z_iadd C dX2_draw_11 ?_
  obtain ⟨f_1, ef_1, hf⟩ := nmo_ hf
  refine z_top ef_1 ?_
  refine z_putI C (ly_b0 hb) (k := 14) rfl (zPut C (Cn := RX2) (T := TX2) (N := 20) rfl in_X2 tyX2 tyX2_ok nmX2 14 (by decide) q241 (Or.inl rfl) rfl rfl rfl (zFs_lt (Nat.le_of_ble_eq_true rfl)) dX2_draw_12) ?_
  refine z_aload_n C 0 dX2_draw_15 rfl rfl ?_
  refine z_getI C (ly_b0 hb) (Cn := RX2) (T := TX2) (N := 20) rfl in_X2 14 (by decide) q241 (Or.inl rfl) rfl dX2_draw_16 ?_
  refine z_bipush C 8 dX2_draw_19 (by decide) ?_
  refine z_iushr C dX2_draw_21 ?_
  obtain ⟨rfl, rfl⟩ := fin_ hf
  exact z_iret C rfl dX2_draw_22
def fX2_become (σ : ZS) (b : Nat) (b2 : Nat) : Option (Unit × ZS) := nm (σ.1 b2 0) (fun (f_1 : Int32) => nm (sR (sI σ b 0 f_1) (b + 2) (va_cpy ((sI σ b 0 f_1).1 (b2 + 2)) ((sI σ b 0 f_1).1 (b + 2)) 0 0 8)) (fun (σ_2 : ZS) => nm (sR σ_2 (b + 3) (va_cpy (σ_2.1 (b2 + 3)) (σ_2.1 (b + 3)) 0 0 8)) (fun (σ_3 : ZS) => nm (sR σ_3 (b + 4) (va_cpy (σ_3.1 (b2 + 4)) (σ_3.1 (b + 4)) 0 0 8)) (fun (σ_4 : ZS) => nm (σ_4.1 b2 4) (fun (f_5 : Int32) => nm ((sI σ_4 b 4 f_5).1 b2 5) (fun (f_6 : Int32) => nm ((sI (sI σ_4 b 4 f_5) b 5 f_6).1 b2 6) (fun (f_7 : Int32) => nm ((sI (sI (sI σ_4 b 4 f_5) b 5 f_6) b 6 f_7).1 b2 7) (fun (f_8 : Int32) => nm ((sI (sI (sI (sI σ_4 b 4 f_5) b 5 f_6) b 6 f_7) b 7 f_8).1 b2 8) (fun (f_9 : Int32) => gd (zElB (sI (sI (sI (sI (sI σ_4 b 4 f_5) b 5 f_6) b 6 f_7) b 7 f_8) b 8 f_9) (b2 + 10) 7 [8, 9, 10, 11, 12, 13, 14] = true) (nm (sRG (sI (sI (sI (sI (sI σ_4 b 4 f_5) b 5 f_6) b 6 f_7) b 7 f_8) b 8 f_9) (b + 10) (va_cpy ((sI (sI (sI (sI (sI σ_4 b 4 f_5) b 5 f_6) b 6 f_7) b 7 f_8) b 8 f_9).2.1 (b2 + 10)) ((sI (sI (sI (sI (sI σ_4 b 4 f_5) b 5 f_6) b 6 f_7) b 7 f_8) b 8 f_9).2.1 (b + 10)) 0 0 7)) (fun (σ_11 : ZS) => nm (sR σ_11 (b + 11) (va_cpy (σ_11.1 (b2 + 11)) (σ_11.1 (b + 11)) 0 0 7)) (fun (σ_12 : ZS) => nm (sR σ_12 (b + 12) (va_cpy (σ_12.1 (b2 + 12)) (σ_12.1 (b + 12)) 0 0 7)) (fun (σ_13 : ZS) => nm (sR σ_13 (b + 13) (va_cpy (σ_13.1 (b2 + 13)) (σ_13.1 (b + 13)) 0 0 7)) (fun (σ_14 : ZS) => gd (zElB σ_14 (b2 + 14) 2 [7, 16, 18, 19] = true) (nm (sRG σ_14 (b + 14) (va_cpy (σ_14.2.1 (b2 + 14)) (σ_14.2.1 (b + 14)) 0 0 2)) (fun (σ_16 : ZS) => nm (σ_16.1 b2 14) (fun (f_17 : Int32) => gd (∀ q, q < 50 → fits .byte (.int ((sI σ_16 b 14 f_17).1 (b2 + 16) q)) = true) (nm (sR (sI σ_16 b 14 f_17) (b + 16) (va_cpy ((sI σ_16 b 14 f_17).1 (b2 + 16)) ((sI σ_16 b 14 f_17).1 (b + 16)) 0 0 50)) (fun (σ_19 : ZS) => nm (σ_19.1 b2 16) (fun (f_20 : Int32) => nm (sR (sI σ_19 b 16 f_20) (b + 18) (va_cpy ((sI σ_19 b 16 f_20).1 (b2 + 18)) ((sI σ_19 b 16 f_20).1 (b + 18)) 0 0 20)) (fun (σ_21 : ZS) => nm (σ_21.1 b2 18) (fun (f_22 : Int32) => some ((), sI σ_21 b 18 f_22)))))))))))))))))))))))
set_option maxHeartbeats 4000000 in
set_option maxRecDepth 100000 in
theorem tX2_become (l : Launch) (w : ZW) {σ σ' : ZS} {b : Nat} {b2 : Nat} (hb : zBay b) (hb2 : zBay b2) (hf : fX2_become σ b b2 = some ((), σ')) : zC l w zLx yX2_become (ws_ yX2_become cX2_become 2 (some (.object "OldLight$Bay"))) 1 311 [.ref (w.2.2 b), .ref (w.2.2 b2)] σ (.returned (some (.ref (w.2.2 b)))) σ' := by
  refine zC.of (plainFor_of_name (by decide)) (Nat.le_of_ble_eq_true rfl) ?_
  intro p e s m args below meth c C hnm
  show Z p l e _ s m args below meth c _ w _ _ 2 σ 0 [(0, .ref (w.2.2 b)), (1, .ref (w.2.2 b2))] []
  unfold fX2_become at hf
  refine z_aload_n C 0 dX2_become_0 rfl rfl ?_
  refine z_aload_n C 1 dX2_become_1 rfl rfl ?_
  refine z_getI C (ly_b0 hb2) (Cn := RX2) (T := TX2) (N := 20) rfl in_X2 0 (by decide) q210 (Or.inl rfl) rfl dX2_become_2 ?_
  obtain ⟨f_1, ef_1, hf⟩ := nmo_ hf
  refine z_top ef_1 ?_
  refine z_putI C (ly_b0 hb) (k := 0) rfl (zPut C (Cn := RX2) (T := TX2) (N := 20) rfl in_X2 tyX2 tyX2_ok nmX2 0 (by decide) q210 (Or.inl rfl) rfl rfl rfl (zFs_lt (Nat.le_of_ble_eq_true rfl)) dX2_become_5) ?_
  refine z_aload_n C 1 dX2_become_8 rfl rfl ?_
  refine z_getR C (ly_b0 hb2) (Cn := RX2) (T := TX2) (N := 20) rfl in_X2 1 (by decide) q212 (Or.inl rfl) rfl dX2_become_9 ?_
  refine z_iconst C 0 dX2_become_12 (by decide) ?_
  refine z_aload_n C 0 dX2_become_13 rfl rfl ?_
  refine z_getR C (ly_b0 hb) (Cn := RX2) (T := TX2) (N := 20) rfl in_X2 1 (by decide) q212 (Or.inl rfl) rfl dX2_become_14 ?_
  refine z_iconst C 0 dX2_become_17 (by decide) ?_
  refine z_bipush C 8 dX2_become_18 (by decide) ?_
  refine z_copyI C (ly_b2 hb2) (ly_b2 hb) rfl rfl (fun _ _ => rfl) (by decide) (by decide) q973 dX2_become_20 (Nat.le_of_ble_eq_true rfl) (Nat.le_of_ble_eq_true rfl) ?_
  obtain ⟨σ_2, eσ_2, hf⟩ := nmo_ hf
  refine z_w eσ_2.symm ?_
  refine z_aload_n C 1 dX2_become_23 rfl rfl ?_
  refine z_getR C (ly_b0 hb2) (Cn := RX2) (T := TX2) (N := 20) rfl in_X2 2 (by decide) q214 (Or.inl rfl) rfl dX2_become_24 ?_
  refine z_iconst C 0 dX2_become_27 (by decide) ?_
  refine z_aload_n C 0 dX2_become_28 rfl rfl ?_
  refine z_getR C (ly_b0 hb) (Cn := RX2) (T := TX2) (N := 20) rfl in_X2 2 (by decide) q214 (Or.inl rfl) rfl dX2_become_29 ?_
  refine z_iconst C 0 dX2_become_32 (by decide) ?_
  refine z_bipush C 8 dX2_become_33 (by decide) ?_
  refine z_copyI C (ly_b3 hb2) (ly_b3 hb) rfl rfl (fun _ _ => rfl) (by decide) (by decide) q973 dX2_become_35 (Nat.le_of_ble_eq_true rfl) (Nat.le_of_ble_eq_true rfl) ?_
  obtain ⟨σ_3, eσ_3, hf⟩ := nmo_ hf
  refine z_w eσ_3.symm ?_
  refine z_aload_n C 1 dX2_become_38 rfl rfl ?_
  refine z_getR C (ly_b0 hb2) (Cn := RX2) (T := TX2) (N := 20) rfl in_X2 3 (by decide) q216 (Or.inl rfl) rfl dX2_become_39 ?_
  refine z_iconst C 0 dX2_become_42 (by decide) ?_
  refine z_aload_n C 0 dX2_become_43 rfl rfl ?_
  refine z_getR C (ly_b0 hb) (Cn := RX2) (T := TX2) (N := 20) rfl in_X2 3 (by decide) q216 (Or.inl rfl) rfl dX2_become_44 ?_
  refine z_iconst C 0 dX2_become_47 (by decide) ?_
  refine z_bipush C 8 dX2_become_48 (by decide) ?_
  refine z_copyI C (ly_b4 hb2) (ly_b4 hb) rfl rfl (fun _ _ => rfl) (by decide) (by decide) q973 dX2_become_50 (Nat.le_of_ble_eq_true rfl) (Nat.le_of_ble_eq_true rfl) ?_
  obtain ⟨σ_4, eσ_4, hf⟩ := nmo_ hf
  refine z_w eσ_4.symm ?_
  refine z_aload_n C 0 dX2_become_53 rfl rfl ?_
  refine z_aload_n C 1 dX2_become_54 rfl rfl ?_
  refine z_getI C (ly_b0 hb2) (Cn := RX2) (T := TX2) (N := 20) rfl in_X2 4 (by decide) q218 (Or.inl rfl) rfl dX2_become_55 ?_
  obtain ⟨f_5, ef_5, hf⟩ := nmo_ hf
  refine z_top ef_5 ?_
  refine z_putI C (ly_b0 hb) (k := 4) rfl (zPut C (Cn := RX2) (T := TX2) (N := 20) rfl in_X2 tyX2 tyX2_ok nmX2 4 (by decide) q218 (Or.inl rfl) rfl rfl rfl (zFs_lt (Nat.le_of_ble_eq_true rfl)) dX2_become_58) ?_
  refine z_aload_n C 0 dX2_become_61 rfl rfl ?_
  refine z_aload_n C 1 dX2_become_62 rfl rfl ?_
  refine z_getI C (ly_b0 hb2) (Cn := RX2) (T := TX2) (N := 20) rfl in_X2 5 (by decide) q220 (Or.inl rfl) rfl dX2_become_63 ?_
  obtain ⟨f_6, ef_6, hf⟩ := nmo_ hf
  refine z_top ef_6 ?_
  refine z_putI C (ly_b0 hb) (k := 5) rfl (zPut C (Cn := RX2) (T := TX2) (N := 20) rfl in_X2 tyX2 tyX2_ok nmX2 5 (by decide) q220 (Or.inl rfl) rfl rfl rfl (zFs_lt (Nat.le_of_ble_eq_true rfl)) dX2_become_66) ?_
  refine z_aload_n C 0 dX2_become_69 rfl rfl ?_
  refine z_aload_n C 1 dX2_become_70 rfl rfl ?_
  refine z_getI C (ly_b0 hb2) (Cn := RX2) (T := TX2) (N := 20) rfl in_X2 6 (by decide) q225 (Or.inl rfl) rfl dX2_become_71 ?_
  obtain ⟨f_7, ef_7, hf⟩ := nmo_ hf
  refine z_top ef_7 ?_
  refine z_putI C (ly_b0 hb) (k := 6) rfl (zPut C (Cn := RX2) (T := TX2) (N := 20) rfl in_X2 tyX2 tyX2_ok nmX2 6 (by decide) q225 (Or.inl rfl) rfl rfl rfl (zFs_lt (Nat.le_of_ble_eq_true rfl)) dX2_become_74) ?_
  refine z_aload_n C 0 dX2_become_77 rfl rfl ?_
  refine z_aload_n C 1 dX2_become_78 rfl rfl ?_
  refine z_getI C (ly_b0 hb2) (Cn := RX2) (T := TX2) (N := 20) rfl in_X2 7 (by decide) q227 (Or.inl rfl) rfl dX2_become_79 ?_
  obtain ⟨f_8, ef_8, hf⟩ := nmo_ hf
  refine z_top ef_8 ?_
  refine z_putI C (ly_b0 hb) (k := 7) rfl (zPut C (Cn := RX2) (T := TX2) (N := 20) rfl in_X2 tyX2 tyX2_ok nmX2 7 (by decide) q227 (Or.inl rfl) rfl rfl rfl (zFs_lt (Nat.le_of_ble_eq_true rfl)) dX2_become_82) ?_
  refine z_aload_n C 0 dX2_become_85 rfl rfl ?_
  refine z_aload_n C 1 dX2_become_86 rfl rfl ?_
  refine z_getI C (ly_b0 hb2) (Cn := RX2) (T := TX2) (N := 20) rfl in_X2 8 (by decide) q229 (Or.inl rfl) rfl dX2_become_87 ?_
  obtain ⟨f_9, ef_9, hf⟩ := nmo_ hf
  refine z_top ef_9 ?_
  refine z_putI C (ly_b0 hb) (k := 8) rfl (zPut C (Cn := RX2) (T := TX2) (N := 20) rfl in_X2 tyX2 tyX2_ok nmX2 8 (by decide) q229 (Or.inl rfl) rfl rfl rfl (zFs_lt (Nat.le_of_ble_eq_true rfl)) dX2_become_90) ?_
  refine z_aload_n C 1 dX2_become_93 rfl rfl ?_
  refine z_getR C (ly_b0 hb2) (Cn := RX2) (T := TX2) (N := 20) rfl in_X2 9 (by decide) q231 (Or.inl rfl) rfl dX2_become_94 ?_
  refine z_iconst C 0 dX2_become_97 (by decide) ?_
  refine z_aload_n C 0 dX2_become_98 rfl rfl ?_
  refine z_getR C (ly_b0 hb) (Cn := RX2) (T := TX2) (N := 20) rfl in_X2 9 (by decide) q231 (Or.inl rfl) rfl dX2_become_99 ?_
  refine z_iconst C 0 dX2_become_102 (by decide) ?_
  refine z_bipush C 7 dX2_become_103 (by decide) ?_
  obtain ⟨g_10, hf⟩ := gd_ hf
  refine z_copyG C [8, 9, 10, 11, 12, 13, 14] (ly_b10 hb2) (ly_b10 hb) (by decide) rfl (zElB_ok g_10) zCs_ship (by decide) (by decide) q973 dX2_become_105 (Nat.le_of_ble_eq_true rfl) (Nat.le_of_ble_eq_true rfl) ?_
  obtain ⟨σ_11, eσ_11, hf⟩ := nmo_ hf
  refine z_w eσ_11.symm ?_
  refine z_aload_n C 1 dX2_become_108 rfl rfl ?_
  refine z_getR C (ly_b0 hb2) (Cn := RX2) (T := TX2) (N := 20) rfl in_X2 10 (by decide) q233 (Or.inl rfl) rfl dX2_become_109 ?_
  refine z_iconst C 0 dX2_become_112 (by decide) ?_
  refine z_aload_n C 0 dX2_become_113 rfl rfl ?_
  refine z_getR C (ly_b0 hb) (Cn := RX2) (T := TX2) (N := 20) rfl in_X2 10 (by decide) q233 (Or.inl rfl) rfl dX2_become_114 ?_
  refine z_iconst C 0 dX2_become_117 (by decide) ?_
  refine z_bipush C 7 dX2_become_118 (by decide) ?_
  refine z_copyI C (ly_b11 hb2) (ly_b11 hb) rfl rfl (fun _ _ => rfl) (by decide) (by decide) q973 dX2_become_120 (Nat.le_of_ble_eq_true rfl) (Nat.le_of_ble_eq_true rfl) ?_
  obtain ⟨σ_12, eσ_12, hf⟩ := nmo_ hf
  refine z_w eσ_12.symm ?_
  refine z_aload_n C 1 dX2_become_123 rfl rfl ?_
  refine z_getR C (ly_b0 hb2) (Cn := RX2) (T := TX2) (N := 20) rfl in_X2 11 (by decide) q235 (Or.inl rfl) rfl dX2_become_124 ?_
  refine z_iconst C 0 dX2_become_127 (by decide) ?_
  refine z_aload_n C 0 dX2_become_128 rfl rfl ?_
  refine z_getR C (ly_b0 hb) (Cn := RX2) (T := TX2) (N := 20) rfl in_X2 11 (by decide) q235 (Or.inl rfl) rfl dX2_become_129 ?_
  refine z_iconst C 0 dX2_become_132 (by decide) ?_
  refine z_bipush C 7 dX2_become_133 (by decide) ?_
  refine z_copyI C (ly_b12 hb2) (ly_b12 hb) rfl rfl (fun _ _ => rfl) (by decide) (by decide) q973 dX2_become_135 (Nat.le_of_ble_eq_true rfl) (Nat.le_of_ble_eq_true rfl) ?_
  obtain ⟨σ_13, eσ_13, hf⟩ := nmo_ hf
  refine z_w eσ_13.symm ?_
  refine z_aload_n C 1 dX2_become_138 rfl rfl ?_
  refine z_getR C (ly_b0 hb2) (Cn := RX2) (T := TX2) (N := 20) rfl in_X2 12 (by decide) q237 (Or.inl rfl) rfl dX2_become_139 ?_
  refine z_iconst C 0 dX2_become_142 (by decide) ?_
  refine z_aload_n C 0 dX2_become_143 rfl rfl ?_
  refine z_getR C (ly_b0 hb) (Cn := RX2) (T := TX2) (N := 20) rfl in_X2 12 (by decide) q237 (Or.inl rfl) rfl dX2_become_144 ?_
  refine z_iconst C 0 dX2_become_147 (by decide) ?_
  refine z_bipush C 7 dX2_become_148 (by decide) ?_
  refine z_copyI C (ly_b13 hb2) (ly_b13 hb) rfl rfl (fun _ _ => rfl) (by decide) (by decide) q973 dX2_become_150 (Nat.le_of_ble_eq_true rfl) (Nat.le_of_ble_eq_true rfl) ?_
  obtain ⟨σ_14, eσ_14, hf⟩ := nmo_ hf
  refine z_w eσ_14.symm ?_
  refine z_aload_n C 1 dX2_become_153 rfl rfl ?_
  refine z_getR C (ly_b0 hb2) (Cn := RX2) (T := TX2) (N := 20) rfl in_X2 13 (by decide) q239 (Or.inl rfl) rfl dX2_become_154 ?_
  refine z_iconst C 0 dX2_become_157 (by decide) ?_
  refine z_aload_n C 0 dX2_become_158 rfl rfl ?_
  refine z_getR C (ly_b0 hb) (Cn := RX2) (T := TX2) (N := 20) rfl in_X2 13 (by decide) q239 (Or.inl rfl) rfl dX2_become_159 ?_
  refine z_iconst C 0 dX2_become_162 (by decide) ?_
  refine z_iconst C 2 dX2_become_163 (by decide) ?_
  obtain ⟨g_15, hf⟩ := gd_ hf
  refine z_copyG C [7, 16, 18, 19] (ly_b14 hb2) (ly_b14 hb) (by decide) rfl (zElB_ok g_15) zCs_term (by decide) (by decide) q973 dX2_become_164 (Nat.le_of_ble_eq_true rfl) (Nat.le_of_ble_eq_true rfl) ?_
  obtain ⟨σ_16, eσ_16, hf⟩ := nmo_ hf
  refine z_w eσ_16.symm ?_
  refine z_aload_n C 0 dX2_become_167 rfl rfl ?_
  refine z_aload_n C 1 dX2_become_168 rfl rfl ?_
  refine z_getI C (ly_b0 hb2) (Cn := RX2) (T := TX2) (N := 20) rfl in_X2 14 (by decide) q241 (Or.inl rfl) rfl dX2_become_169 ?_
  obtain ⟨f_17, ef_17, hf⟩ := nmo_ hf
  refine z_top ef_17 ?_
  refine z_putI C (ly_b0 hb) (k := 14) rfl (zPut C (Cn := RX2) (T := TX2) (N := 20) rfl in_X2 tyX2 tyX2_ok nmX2 14 (by decide) q241 (Or.inl rfl) rfl rfl rfl (zFs_lt (Nat.le_of_ble_eq_true rfl)) dX2_become_172) ?_
  refine z_aload_n C 1 dX2_become_175 rfl rfl ?_
  refine z_getR C (ly_b0 hb2) (Cn := RX2) (T := TX2) (N := 20) rfl in_X2 15 (by decide) q243 (Or.inl rfl) rfl dX2_become_176 ?_
  refine z_iconst C 0 dX2_become_179 (by decide) ?_
  refine z_aload_n C 0 dX2_become_180 rfl rfl ?_
  refine z_getR C (ly_b0 hb) (Cn := RX2) (T := TX2) (N := 20) rfl in_X2 15 (by decide) q243 (Or.inl rfl) rfl dX2_become_181 ?_
  refine z_iconst C 0 dX2_become_184 (by decide) ?_
  refine z_bipush C 50 dX2_become_185 (by decide) ?_
  obtain ⟨g_18, hf⟩ := gd_ hf
  refine z_copyI C (ly_b16 hb2) (ly_b16 hb) rfl rfl g_18 (by decide) (by decide) q973 dX2_become_187 (Nat.le_of_ble_eq_true rfl) (Nat.le_of_ble_eq_true rfl) ?_
  obtain ⟨σ_19, eσ_19, hf⟩ := nmo_ hf
  refine z_w eσ_19.symm ?_
  refine z_aload_n C 0 dX2_become_190 rfl rfl ?_
  refine z_aload_n C 1 dX2_become_191 rfl rfl ?_
  refine z_getI C (ly_b0 hb2) (Cn := RX2) (T := TX2) (N := 20) rfl in_X2 16 (by decide) q245 (Or.inl rfl) rfl dX2_become_192 ?_
  obtain ⟨f_20, ef_20, hf⟩ := nmo_ hf
  refine z_top ef_20 ?_
  refine z_putI C (ly_b0 hb) (k := 16) rfl (zPut C (Cn := RX2) (T := TX2) (N := 20) rfl in_X2 tyX2 tyX2_ok nmX2 16 (by decide) q245 (Or.inl rfl) rfl rfl rfl (zFs_lt (Nat.le_of_ble_eq_true rfl)) dX2_become_195) ?_
  refine z_aload_n C 1 dX2_become_198 rfl rfl ?_
  refine z_getR C (ly_b0 hb2) (Cn := RX2) (T := TX2) (N := 20) rfl in_X2 17 (by decide) q247 (Or.inl rfl) rfl dX2_become_199 ?_
  refine z_iconst C 0 dX2_become_202 (by decide) ?_
  refine z_aload_n C 0 dX2_become_203 rfl rfl ?_
  refine z_getR C (ly_b0 hb) (Cn := RX2) (T := TX2) (N := 20) rfl in_X2 17 (by decide) q247 (Or.inl rfl) rfl dX2_become_204 ?_
  refine z_iconst C 0 dX2_become_207 (by decide) ?_
  refine z_bipush C 20 dX2_become_208 (by decide) ?_
  refine z_copyI C (ly_b18 hb2) (ly_b18 hb) rfl rfl (fun _ _ => rfl) (by decide) (by decide) q973 dX2_become_210 (Nat.le_of_ble_eq_true rfl) (Nat.le_of_ble_eq_true rfl) ?_
  obtain ⟨σ_21, eσ_21, hf⟩ := nmo_ hf
  refine z_w eσ_21.symm ?_
  refine z_aload_n C 0 dX2_become_213 rfl rfl ?_
  refine z_aload_n C 1 dX2_become_214 rfl rfl ?_
  refine z_getI C (ly_b0 hb2) (Cn := RX2) (T := TX2) (N := 20) rfl in_X2 18 (by decide) q249 (Or.inl rfl) rfl dX2_become_215 ?_
  obtain ⟨f_22, ef_22, hf⟩ := nmo_ hf
  refine z_top ef_22 ?_
  refine z_putI C (ly_b0 hb) (k := 18) rfl (zPut C (Cn := RX2) (T := TX2) (N := 20) rfl in_X2 tyX2 tyX2_ok nmX2 18 (by decide) q249 (Or.inl rfl) rfl rfl rfl (zFs_lt (Nat.le_of_ble_eq_true rfl)) dX2_become_218) ?_
  refine z_aload_n C 0 dX2_become_221 rfl rfl ?_
  obtain ⟨-, rfl⟩ := fin_ hf
  exact z_aret C (Or.inl ⟨_, rfl⟩) (Or.inr ⟨_, rfl⟩) dX2_become_222
def fX2_whoAreLost_L4 (σ : ZS) (b : Nat) : Nat → Int32 → Int32 → Option (Int32 × Int32)
  | 0, _, _ => none
  | n + 1, y1, y2 => if (σ.1 b 8) ≤ y2 then (some (y1, y2)) else (gd (¬ (y2 < 0 ∨ 7 ≤ y2.toNatClampNeg)) (nm (y1 ||| ((σ.1 (b + 13) y2.toNatClampNeg) <<< (y2 &&& 31))) (fun (x1_7 : Int32) => nm (y2 + 1) (fun (x2_8 : Int32) => fX2_whoAreLost_L4 σ b n x1_7 x2_8))))
def fX2_whoAreLost (σ : ZS) (b : Nat) : Option Int32 := bo (fX2_whoAreLost_L4 σ b 10000 0 0) (fun uu11 => some (uu11.1))
set_option maxHeartbeats 4000000 in
set_option maxRecDepth 100000 in
theorem lfX2_whoAreLost_L4 {p : Program} {l : Launch} {e : Env} {R : Room} {s : State} {m : MethodId} {args : Array Value} {below : List Frame} {meth : Method} {c : Code} {Q : State → Prop} {w : ZW} {A : Nat → Prop} {ret : Option FieldType} {hh : List (Nat × Nat × Nat × Nat)} (C : zCx p s m args meth c w zLx A 3 cX2_whoAreLost RX2 ret hh) (hfr : 0 ≤ R.frames) (hlo : 0 ≤ R.locals) (σ : ZS) {b : Nat} (hb : zBay b) {z1 : Int32} {z2 : Int32} (hk : Z p l e R s m args below meth c Q w zLx A 3 σ 29 [(0, .ref (w.2.2 b)), (1, .int z1), (2, .int z2)] []) : ∀ (n : Nat) (y1 : Int32) (y2 : Int32), fX2_whoAreLost_L4 σ b n y1 y2 = some (z1, z2) → Z p l e R s m args below meth c Q w zLx A 3 σ 4 [(0, .ref (w.2.2 b)), (1, .int y1), (2, .int y2)] [] := by
  intro n
  induction n with
  | zero => intro y1 y2 hf; exact none_ hf
  | succ n ih =>
    intro y1 y2 hf
    rw [fX2_whoAreLost_L4] at hf
    refine z_iload_n C 2 dX2_whoAreLost_4 rfl rfl ?_
    refine z_aload_n C 0 dX2_whoAreLost_5 rfl rfl ?_
    refine z_getI C (ly_b0 hb) (Cn := RX2) (T := TX2) (N := 20) rfl in_X2 8 (by decide) q229 (Or.inl rfl) rfl dX2_whoAreLost_6 ?_
    refine z_icmp_ge C 29 dX2_whoAreLost_9 (by decide) (fun c_5 => ?_) (fun c_5 => ?_)
    · replace hf := if_t c_5 hf
      have hf1 := fino_ hf
      simp only [Prod.mk.injEq] at hf1
      obtain ⟨rfl, rfl⟩ := hf1
      exact hk
    · replace hf := if_f c_5 hf
      refine z_iload_n C 1 dX2_whoAreLost_12 rfl rfl ?_
      refine z_aload_n C 0 dX2_whoAreLost_13 rfl rfl ?_
      refine z_getR C (ly_b0 hb) (Cn := RX2) (T := TX2) (N := 20) rfl in_X2 12 (by decide) q237 (Or.inl rfl) rfl dX2_whoAreLost_14 ?_
      refine z_iload_n C 2 dX2_whoAreLost_17 rfl rfl ?_
      obtain ⟨g_6, hf⟩ := gd_ hf
      refine z_ialoadF C (ly_b13 hb) g_6 dX2_whoAreLost_18 ?_
      refine z_iload_n C 2 dX2_whoAreLost_19 rfl rfl ?_
      refine z_ishl C dX2_whoAreLost_20 ?_
      refine z_ior C dX2_whoAreLost_21 ?_
      obtain ⟨x1_7, ex1_7, hf⟩ := nmo_ hf
      refine z_top ex1_7 ?_
      refine z_istore_n C dX2_whoAreLost_22 rfl (by decide) rfl (lv' := [(1, .int x1_7), (0, .ref (w.2.2 b)), (2, .int y2)]) ?_
      obtain ⟨x2_8, ex2_8, hf⟩ := nmo_ hf
      refine z_iinc C x2_8 2 dX2_whoAreLost_23 rfl (by rw [ex2_8]; rfl) (by decide) rfl (lv' := [(2, .int x2_8), (1, .int x1_7), (0, .ref (w.2.2 b))]) ?_
      refine z_goto C 4 dX2_whoAreLost_26 (by decide) ?_
      exact z_lv [2, 1, 0] rfl (ih _ _ hf)
set_option maxHeartbeats 4000000 in
set_option maxRecDepth 100000 in
theorem tX2_whoAreLost (l : Launch) (w : ZW) {σ : ZS} {b : Nat} (hb : zBay b) {r : Int32} (hf : fX2_whoAreLost σ b = some r) : zC l w zLx yX2_whoAreLost (ws_ yX2_whoAreLost cX2_whoAreLost 3 (some .int)) 0 0 [.ref (w.2.2 b)] σ (.returned (some (.int r))) σ := by
  refine zC.of (plainFor_of_name (by decide)) (Nat.le_of_ble_eq_true rfl) ?_
  intro p e s m args below meth c C hnm
  show Z p l e _ s m args below meth c _ w _ _ 3 σ 0 [(0, .ref (w.2.2 b))] []
  unfold fX2_whoAreLost at hf
  refine z_iconst C 0 dX2_whoAreLost_0 (by decide) ?_
  refine z_istore_n C dX2_whoAreLost_1 rfl (by decide) rfl (lv' := [(1, .int 0), (0, .ref (w.2.2 b))]) ?_
  refine z_iconst C 0 dX2_whoAreLost_2 (by decide) ?_
  refine z_istore_n C dX2_whoAreLost_3 rfl (by decide) rfl (lv' := [(2, .int 0), (1, .int 0), (0, .ref (w.2.2 b))]) ?_
  obtain ⟨⟨x1_9, x2_10⟩, e_12, hf⟩ := bo_ hf
  try dsimp only at hf
  refine z_lv (lv' := [(0, .ref (w.2.2 b)), (1, .int 0), (2, .int 0)]) [2, 1, 0] rfl ?_
  refine lfX2_whoAreLost_L4 C (Nat.le_of_ble_eq_true rfl) (Nat.le_of_ble_eq_true rfl) σ hb ?_ _ _ _ e_12
  refine z_iload_n C 1 dX2_whoAreLost_29 rfl rfl ?_
  obtain rfl := fino_ hf
  exact z_iret C rfl dX2_whoAreLost_30
def fX3_with (σ : ZS) (b : Nat) (p1 : Int32) (p2 : Int32) : Option (Unit × ZS) := gd (¬ (p1 < 0 ∨ 128 ≤ p1.toNatClampNeg)) (some ((), sI σ (b + 21) (p1.toNatClampNeg) p2))
set_option maxHeartbeats 4000000 in
set_option maxRecDepth 100000 in
theorem tX3_with (l : Launch) (w : ZW) {σ σ' : ZS} {b : Nat} {p1 : Int32} {p2 : Int32} (hb : zBay b) (hf : fX3_with σ b p1 p2 = some ((), σ')) : zC l w zLx yX3_with (ws_ yX3_with cX3_with 3 (some (.object "OldLight$Facts"))) 0 0 [.ref (w.2.2 (b + 20)), .int p1, .int p2] σ (.returned (some (.ref (w.2.2 (b + 20))))) σ' := by
  refine zC.of (plainFor_of_name (by decide)) (Nat.le_of_ble_eq_true rfl) ?_
  intro p e s m args below meth c C hnm
  show Z p l e _ s m args below meth c _ w _ _ 3 σ 0 [(0, .ref (w.2.2 (b + 20))), (1, .int p1), (2, .int p2)] []
  unfold fX3_with at hf
  refine z_aload_n C 0 dX3_with_0 rfl rfl ?_
  refine z_getR C (ly_b20 hb) (Cn := RX3) (T := TX3) (N := 1) rfl in_X3 0 (by decide) q203 (Or.inl rfl) rfl dX3_with_1 ?_
  refine z_iload_n C 1 dX3_with_4 rfl rfl ?_
  refine z_iload_n C 2 dX3_with_5 rfl rfl ?_
  obtain ⟨g_1, hf⟩ := gd_ hf
  refine z_iastore C (ly_b21 hb) g_1 dX3_with_6 ?_
  refine z_aload_n C 0 dX3_with_7 rfl rfl ?_
  obtain ⟨-, rfl⟩ := fin_ hf
  exact z_aret C (Or.inl ⟨_, rfl⟩) (Or.inr ⟨_, rfl⟩) dX3_with_8
def fX4_begins (σ : ZS) (p1 : Int32) : Option (Unit × ZS) := bd (if 40 ≤ (σ.1 4 1) then (some ((), σ)) else (gd (¬ ((σ.1 4 1) < 0 ∨ 40 ≤ (σ.1 4 1).toNatClampNeg)) (nm (((sI σ 5 ((σ.1 4 1).toNatClampNeg) p1).1 4 1) + 1) (fun (f_5 : Int32) => some ((), sI (sI σ 5 ((σ.1 4 1).toNatClampNeg) p1) 4 1 f_5))))) (fun (_ : Unit) σ_1 => some ((), σ_1))
set_option maxHeartbeats 4000000 in
set_option maxRecDepth 100000 in
theorem tX4_begins (l : Launch) (w : ZW) {σ σ' : ZS} {p1 : Int32} (hf : fX4_begins σ p1 = some ((), σ')) : zC l w zLx yX4_begins (ws_ yX4_begins cX4_begins 2 none) 0 0 [.ref (w.2.2 4), .int p1] σ (.returned none) σ' := by
  refine zC.of (plainFor_of_name (by decide)) (Nat.le_of_ble_eq_true rfl) ?_
  intro p e s m args below meth c C hnm
  show Z p l e _ s m args below meth c _ w _ _ 2 σ 0 [(0, .ref (w.2.2 4)), (1, .int p1)] []
  unfold fX4_begins at hf
  refine z_aload_n C 0 dX4_begins_0 rfl rfl ?_
  refine z_getI C ly_x4 (Cn := RX4) (T := TX4) (N := 2) rfl in_X4 1 (by decide) q301 (Or.inl rfl) rfl dX4_begins_1 ?_
  refine z_bipush C 40 dX4_begins_4 (by decide) ?_
  obtain ⟨⟨⟩, σ_1, e_2, hf⟩ := bd_ hf
  have hje_2 : Z p l e (zRm 0 0 σ) s m args below meth c (zQ below w zLx σ (.returned none) σ' args s) w zLx (zA w zLx σ) 2 σ_1 29 [(0, .ref (w.2.2 4)), (1, .int p1)] [] := by
    obtain ⟨-, rfl⟩ := fin_ hf
    exact z_vret C dX4_begins_29
  replace hf := e_2
  refine z_icmp_ge C 29 dX4_begins_6 (by decide) (fun c_3 => ?_) (fun c_3 => ?_)
  · replace hf := if_t c_3 hf
    obtain ⟨-, rfl⟩ := fin_ hf
    exact hje_2
  · replace hf := if_f c_3 hf
    refine z_aload_n C 0 dX4_begins_9 rfl rfl ?_
    refine z_getR C ly_x4 (Cn := RX4) (T := TX4) (N := 2) rfl in_X4 0 (by decide) q299 (Or.inl rfl) rfl dX4_begins_10 ?_
    refine z_aload_n C 0 dX4_begins_13 rfl rfl ?_
    refine z_getI C ly_x4 (Cn := RX4) (T := TX4) (N := 2) rfl in_X4 1 (by decide) q301 (Or.inl rfl) rfl dX4_begins_14 ?_
    refine z_iload_n C 1 dX4_begins_17 rfl rfl ?_
    obtain ⟨g_4, hf⟩ := gd_ hf
    refine z_iastore C ly_x5 g_4 dX4_begins_18 ?_
    refine z_aload_n C 0 dX4_begins_19 rfl rfl ?_
    refine z_dup C dX4_begins_20 rfl ?_
    refine z_getI C ly_x4 (Cn := RX4) (T := TX4) (N := 2) rfl in_X4 1 (by decide) q301 (Or.inl rfl) rfl dX4_begins_21 ?_
    refine z_iconst C 1 dX4_begins_24 (by decide) ?_
    refine z_iadd C dX4_begins_25 ?_
    obtain ⟨f_5, ef_5, hf⟩ := nmo_ hf
    refine z_top ef_5 ?_
    refine z_putI C ly_x4 (k := 1) rfl (zPut C (Cn := RX4) (T := TX4) (N := 2) rfl in_X4 tyX4 tyX4_ok nmX4 1 (by decide) q301 (Or.inl rfl) rfl rfl rfl (zFs_lt (Nat.le_of_ble_eq_true rfl)) dX4_begins_26) ?_
    obtain ⟨-, rfl⟩ := fin_ hf
    exact hje_2
def fX10_kind (a : Nat) (ci : Nat) (n : Int32) (k : Int32) : Int32 := 1
set_option maxHeartbeats 4000000 in
set_option maxRecDepth 100000 in
theorem tX10_kind (l : Launch) (w : ZW) (L : ZL) (σ : ZS) (a : Nat) (ci : Nat) (n : Int32) (k : Int32) (hci : zShipC ci) (hP : σ.2.2.1 a = some (.inr (ci, [.ref (w.2.2 4), .int n, .int k]))) : zC l w L yX10_kind (ws_ yX10_kind cX10_kind 1 (some .int)) 0 0 [.ref a] σ (.returned (some (.int (fX10_kind a ci n k)))) σ := by
  obtain ⟨r, hf⟩ : ∃ r, r = fX10_kind a ci n k := ⟨_, rfl⟩
  rw [← hf]
  refine zC.of (plainFor_of_name (by decide)) (Nat.le_of_ble_eq_true rfl) ?_
  intro p e s m args below meth c C hnm
  show Z p l e _ s m args below meth c _ w _ _ 1 σ 0 [(0, .ref a)] []
  unfold fX10_kind at hf
  refine z_iconst C 1 dX10_kind_0 (by decide) ?_
  subst hf
  exact z_iret C rfl dX10_kind_1
def fX11_kind (a : Nat) (ci : Nat) (n : Int32) (k : Int32) : Int32 := 2
set_option maxHeartbeats 4000000 in
set_option maxRecDepth 100000 in
theorem tX11_kind (l : Launch) (w : ZW) (L : ZL) (σ : ZS) (a : Nat) (ci : Nat) (n : Int32) (k : Int32) (hci : zShipC ci) (hP : σ.2.2.1 a = some (.inr (ci, [.ref (w.2.2 4), .int n, .int k]))) : zC l w L yX11_kind (ws_ yX11_kind cX11_kind 1 (some .int)) 0 0 [.ref a] σ (.returned (some (.int (fX11_kind a ci n k)))) σ := by
  obtain ⟨r, hf⟩ : ∃ r, r = fX11_kind a ci n k := ⟨_, rfl⟩
  rw [← hf]
  refine zC.of (plainFor_of_name (by decide)) (Nat.le_of_ble_eq_true rfl) ?_
  intro p e s m args below meth c C hnm
  show Z p l e _ s m args below meth c _ w _ _ 1 σ 0 [(0, .ref a)] []
  unfold fX11_kind at hf
  refine z_iconst C 2 dX11_kind_0 (by decide) ?_
  subst hf
  exact z_iret C rfl dX11_kind_1
def fX12_kind (a : Nat) (ci : Nat) (n : Int32) (k : Int32) : Int32 := 3
set_option maxHeartbeats 4000000 in
set_option maxRecDepth 100000 in
theorem tX12_kind (l : Launch) (w : ZW) (L : ZL) (σ : ZS) (a : Nat) (ci : Nat) (n : Int32) (k : Int32) (hci : zShipC ci) (hP : σ.2.2.1 a = some (.inr (ci, [.ref (w.2.2 4), .int n, .int k]))) : zC l w L yX12_kind (ws_ yX12_kind cX12_kind 1 (some .int)) 0 0 [.ref a] σ (.returned (some (.int (fX12_kind a ci n k)))) σ := by
  obtain ⟨r, hf⟩ : ∃ r, r = fX12_kind a ci n k := ⟨_, rfl⟩
  rw [← hf]
  refine zC.of (plainFor_of_name (by decide)) (Nat.le_of_ble_eq_true rfl) ?_
  intro p e s m args below meth c C hnm
  show Z p l e _ s m args below meth c _ w _ _ 1 σ 0 [(0, .ref a)] []
  unfold fX12_kind at hf
  refine z_iconst C 3 dX12_kind_0 (by decide) ?_
  subst hf
  exact z_iret C rfl dX12_kind_1
def fX13_kind (a : Nat) (ci : Nat) (n : Int32) (k : Int32) : Int32 := 4
set_option maxHeartbeats 4000000 in
set_option maxRecDepth 100000 in
theorem tX13_kind (l : Launch) (w : ZW) (L : ZL) (σ : ZS) (a : Nat) (ci : Nat) (n : Int32) (k : Int32) (hci : zShipC ci) (hP : σ.2.2.1 a = some (.inr (ci, [.ref (w.2.2 4), .int n, .int k]))) : zC l w L yX13_kind (ws_ yX13_kind cX13_kind 1 (some .int)) 0 0 [.ref a] σ (.returned (some (.int (fX13_kind a ci n k)))) σ := by
  obtain ⟨r, hf⟩ : ∃ r, r = fX13_kind a ci n k := ⟨_, rfl⟩
  rw [← hf]
  refine zC.of (plainFor_of_name (by decide)) (Nat.le_of_ble_eq_true rfl) ?_
  intro p e s m args below meth c C hnm
  show Z p l e _ s m args below meth c _ w _ _ 1 σ 0 [(0, .ref a)] []
  unfold fX13_kind at hf
  refine z_iconst C 4 dX13_kind_0 (by decide) ?_
  subst hf
  exact z_iret C rfl dX13_kind_1
def fX14_kind (a : Nat) (ci : Nat) (n : Int32) (k : Int32) : Int32 := 5
set_option maxHeartbeats 4000000 in
set_option maxRecDepth 100000 in
theorem tX14_kind (l : Launch) (w : ZW) (L : ZL) (σ : ZS) (a : Nat) (ci : Nat) (n : Int32) (k : Int32) (hci : zShipC ci) (hP : σ.2.2.1 a = some (.inr (ci, [.ref (w.2.2 4), .int n, .int k]))) : zC l w L yX14_kind (ws_ yX14_kind cX14_kind 1 (some .int)) 0 0 [.ref a] σ (.returned (some (.int (fX14_kind a ci n k)))) σ := by
  obtain ⟨r, hf⟩ : ∃ r, r = fX14_kind a ci n k := ⟨_, rfl⟩
  rw [← hf]
  refine zC.of (plainFor_of_name (by decide)) (Nat.le_of_ble_eq_true rfl) ?_
  intro p e s m args below meth c C hnm
  show Z p l e _ s m args below meth c _ w _ _ 1 σ 0 [(0, .ref a)] []
  unfold fX14_kind at hf
  refine z_iconst C 5 dX14_kind_0 (by decide) ?_
  subst hf
  exact z_iret C rfl dX14_kind_1
def fX15_kind (a : Nat) (ci : Nat) (n : Int32) (k : Int32) : Int32 := 6
set_option maxHeartbeats 4000000 in
set_option maxRecDepth 100000 in
theorem tX15_kind (l : Launch) (w : ZW) (L : ZL) (σ : ZS) (a : Nat) (ci : Nat) (n : Int32) (k : Int32) (hci : zShipC ci) (hP : σ.2.2.1 a = some (.inr (ci, [.ref (w.2.2 4), .int n, .int k]))) : zC l w L yX15_kind (ws_ yX15_kind cX15_kind 1 (some .int)) 0 0 [.ref a] σ (.returned (some (.int (fX15_kind a ci n k)))) σ := by
  obtain ⟨r, hf⟩ : ∃ r, r = fX15_kind a ci n k := ⟨_, rfl⟩
  rw [← hf]
  refine zC.of (plainFor_of_name (by decide)) (Nat.le_of_ble_eq_true rfl) ?_
  intro p e s m args below meth c C hnm
  show Z p l e _ s m args below meth c _ w _ _ 1 σ 0 [(0, .ref a)] []
  unfold fX15_kind at hf
  refine z_bipush C 6 dX15_kind_0 (by decide) ?_
  subst hf
  exact z_iret C rfl dX15_kind_2
def fX16_init (w : ZW) (σ : ZS) (a : Nat) (i : Nat) (p3 : Int32) : Option (Unit × ZS) := bo (oC5 15 (σ.2.2.1 a)) (fun oc1 => nm (sP σ a (.inr (15, [.ref (zsK w i), (oc1.2.1), (oc1.2.2.1), (oc1.2.2.2.1), (oc1.2.2.2.2)]))) (fun (σ_4 : ZS) => nm (sP σ_4 a (.inr (15, [.ref (zsK w i), .ref (w.2.2 (100 + 16)), (oc1.2.2.1), (oc1.2.2.2.1), (oc1.2.2.2.2)]))) (fun (σ_6 : ZS) => nm (sP σ_6 a (.inr (15, [.ref (zsK w i), .ref (w.2.2 (100 + 16)), .int p3, (oc1.2.2.2.1), (oc1.2.2.2.2)]))) (fun (σ_8 : ZS) => some ((), σ_8)))))
set_option maxHeartbeats 4000000 in
set_option maxRecDepth 100000 in
theorem tX16_init (l : Launch) (w : ZW) {σ σ' : ZS} {a : Nat} {i : Nat} {p3 : Int32} (hf : fX16_init w σ a i p3 = some ((), σ')) : zC l w zLx yX16_init (ws_ yX16_init cX16_init 4 none) 1 12 [.ref a, .ref (zsK w i), .ref (w.2.2 (100 + 16)), .int p3] σ (.returned none) σ' := by
  refine zC.of (plainFor_of_name (by decide)) (Nat.le_of_ble_eq_true rfl) ?_
  intro p e s m args below meth c C hnm
  show Z p l e _ s m args below meth c _ w _ _ 4 σ 0 [(0, .ref a), (1, .ref (zsK w i)), (2, .ref (w.2.2 (100 + 16))), (3, .int p3)] []
  unfold fX16_init at hf
  refine z_aload_n C 0 dX16_init_0 rfl rfl ?_
  refine z_objInit C q686 dX16_init_1 (Nat.le_of_ble_eq_true rfl) (Nat.le_of_ble_eq_true rfl) ?_
  refine z_aload_n C 0 dX16_init_4 rfl rfl ?_
  refine z_aload_n C 1 dX16_init_5 rfl rfl ?_
  obtain ⟨⟨c0v1, c1v1, c2v1, c3v1, c4v1⟩, e_2, hf⟩ := bo_ hf
  try dsimp only at hf
  have hP_3 := oC5_ e_2
  refine z_putP C hP_3 (zPutF C (T := TX16) (N := 5) rfl in_X16 tyX16 tyX16_ok nmX16 0 (by decide) q687 (Or.inl rfl) rfl hnm rfl rfl rfl (Nat.le_of_ble_eq_true rfl) dX16_init_6) ?_
  obtain ⟨σ_4, eσ_4, hf⟩ := nmo_ hf
  refine z_w eσ_4.symm ?_
  have hP_5 : σ_4.2.2.1 a = some (.inr (15, [.ref (zsK w i), c1v1, c2v1, c3v1, c4v1])) := by rw [eσ_4]; exact sP_self
  refine z_aload_n C 0 dX16_init_9 rfl rfl ?_
  refine z_aload_n C 2 dX16_init_10 rfl rfl ?_
  refine z_putP C hP_5 (zPutF C (T := TX16) (N := 5) rfl in_X16 tyX16 tyX16_ok nmX16 1 (by decide) q688 (Or.inl rfl) rfl hnm rfl rfl rfl (Nat.le_of_ble_eq_true rfl) dX16_init_11) ?_
  obtain ⟨σ_6, eσ_6, hf⟩ := nmo_ hf
  refine z_w eσ_6.symm ?_
  have hP_7 : σ_6.2.2.1 a = some (.inr (15, [.ref (zsK w i), .ref (w.2.2 (100 + 16)), c2v1, c3v1, c4v1])) := by rw [eσ_6]; exact sP_self
  refine z_aload_n C 0 dX16_init_14 rfl rfl ?_
  refine z_iload_n C 3 dX16_init_15 rfl rfl ?_
  refine z_putP C hP_7 (zPutF C (T := TX16) (N := 5) rfl in_X16 tyX16 tyX16_ok nmX16 2 (by decide) q689 (Or.inl rfl) rfl hnm rfl rfl rfl (Nat.le_of_ble_eq_true rfl) dX16_init_16) ?_
  obtain ⟨σ_8, eσ_8, hf⟩ := nmo_ hf
  refine z_w eσ_8.symm ?_
  have hP_9 : σ_8.2.2.1 a = some (.inr (15, [.ref (zsK w i), .ref (w.2.2 (100 + 16)), .int p3, c3v1, c4v1])) := by rw [eσ_8]; exact sP_self
  obtain ⟨-, rfl⟩ := fin_ hf
  exact z_vret C dX16_init_19
def fX16_look (w : ZW) (σ : ZS) (a : Nat) (i : Nat) (bn : List Int32) : Option Int32 := bo (oRd w i (σ.2.2.1 a)) (fun rd1 => bo (if (rd1.1) ≤ (rd1.2.1) then (some (-1)) else (gd (¬ ((rd1.2.1) < 0 ∨ 50 ≤ (rd1.2.1).toNatClampNeg)) (some ((σ.1 (100 + 16) ((rd1.2.1).toNatClampNeg)) &&& 255)))) (fun (j_6 : Int32) => some j_6))
set_option maxHeartbeats 4000000 in
set_option maxRecDepth 100000 in
theorem tX16_look (l : Launch) (w : ZW) {σ : ZS} {a : Nat} {i : Nat} {bn : List Int32} (hbn : zsB[i]? = some bn) {r : Int32} (hf : fX16_look w σ a i bn = some r) : zC l w zLx yX16_look (ws_ yX16_look cX16_look 1 (some .int)) 0 0 [.ref a] σ (.returned (some (.int r))) σ := by
  refine zC.of (plainFor_of_name (by decide)) (Nat.le_of_ble_eq_true rfl) ?_
  intro p e s m args below meth c C hnm
  show Z p l e _ s m args below meth c _ w _ _ 1 σ 0 [(0, .ref a)] []
  unfold fX16_look at hf
  refine z_aload_n C 0 dX16_look_0 rfl rfl ?_
  obtain ⟨⟨rs_1, rt_2, ro_3⟩, e_4, hf⟩ := bo_ hf
  try dsimp only at hf
  have hP_5 := oRd_ e_4
  refine z_get C (ci := 15) (Cn := RX16) (T := TX16) (N := 5) (fs := [.ref (zsK w i), .ref (w.2.2 (100 + 16)), .int rs_1, .int rt_2, .int ro_3]) (v := .int rt_2) rfl in_X16 (zSee.pool hP_5) 3 (by decide) q690 (Or.inl rfl) rfl dX16_look_1 ?_
  refine z_aload_n C 0 dX16_look_4 rfl rfl ?_
  refine z_get C (ci := 15) (Cn := RX16) (T := TX16) (N := 5) (fs := [.ref (zsK w i), .ref (w.2.2 (100 + 16)), .int rs_1, .int rt_2, .int ro_3]) (v := .int rs_1) rfl in_X16 (zSee.pool hP_5) 2 (by decide) q689 (Or.inl rfl) rfl dX16_look_5 ?_
  obtain ⟨j_6, e_8, hf⟩ := bo_ hf
  have hje_8 : Z p l e (zRm 0 0 σ) s m args below meth c (zQ below w zLx σ (.returned (some (.int r))) σ args s) w zLx (zA w zLx σ) 1 σ 28 [(0, .ref a)] [.int j_6] := by
    obtain rfl := fino_ hf
    exact z_iret C rfl dX16_look_28
  replace hf := e_8
  refine z_icmp_ge C 27 dX16_look_8 (by decide) (fun c_9 => ?_) (fun c_9 => ?_)
  · replace hf := if_t c_9 hf
    refine z_iconst C (-1) dX16_look_27 (by decide) ?_
    obtain rfl := fino_ hf
    exact hje_8
  · replace hf := if_f c_9 hf
    refine z_aload_n C 0 dX16_look_11 rfl rfl ?_
    refine z_get C (ci := 15) (Cn := RX16) (T := TX16) (N := 5) (fs := [.ref (zsK w i), .ref (w.2.2 (100 + 16)), .int rs_1, .int rt_2, .int ro_3]) (v := .ref (w.2.2 (100 + 16))) rfl in_X16 (zSee.pool hP_5) 1 (by decide) q688 (Or.inl rfl) rfl dX16_look_12 ?_
    refine z_aload_n C 0 dX16_look_15 rfl rfl ?_
    refine z_get C (ci := 15) (Cn := RX16) (T := TX16) (N := 5) (fs := [.ref (zsK w i), .ref (w.2.2 (100 + 16)), .int rs_1, .int rt_2, .int ro_3]) (v := .int rt_2) rfl in_X16 (zSee.pool hP_5) 3 (by decide) q690 (Or.inl rfl) rfl dX16_look_16 ?_
    obtain ⟨g_10, hf⟩ := gd_ hf
    refine z_baloadF C (ly_b16 zb100) g_10 dX16_look_19 ?_
    refine z_sipush C 255 dX16_look_20 (by decide) ?_
    refine z_iand C dX16_look_23 ?_
    refine z_goto C 28 dX16_look_24 (by decide) ?_
    obtain rfl := fino_ hf
    exact hje_8
def fX16_fault (w : ZW) (σ : ZS) (a : Nat) (i : Nat) (bn : List Int32) (p1 : Int32) : Option ((Unit ⊕ Nat) × ZS) := if p1 = 0 then (gd (1 ≤ σ.2.2.2.2.1) (gd (7 ≤ σ.2.2.2.2.2) (nm (σ.2.2.2.1) (fun (a_5 : Nat) => nm (sN σ (.inr (17, [.null, .null, .null, .null, .null, .int 0, .int 0])) 7) (fun (σ_4 : ZS) => bo (oRd w i (σ_4.2.2.1 a)) (fun rd7 => bd (fX18_init w σ_4 a_5 (rd7.2.1)) (fun _ σ_14 => some (.inr a_5, σ_14)))))))) else (some (.inl (), σ))
set_option maxHeartbeats 4000000 in
set_option maxRecDepth 100000 in
theorem tX16_fault (l : Launch) (w : ZW) {σ σ' : ZS} {a : Nat} {i : Nat} {bn : List Int32} {p1 : Int32} (hbn : zsB[i]? = some bn) {r : Unit ⊕ Nat} (hf : fX16_fault w σ a i bn p1 = some (r, σ')) : zC l w zLx yX16_fault (ws_ yX16_fault cX16_fault 2 none) 5 74 [.ref a, .int p1] σ (ocV2 r) σ' := by
  refine zC.of (plainFor_of_name (by decide)) (Nat.le_of_ble_eq_true rfl) ?_
  intro p e s m args below meth c C hnm
  show Z p l e _ s m args below meth c _ w _ _ 2 σ 0 [(0, .ref a), (1, .int p1)] []
  unfold fX16_fault at hf
  refine z_iload_n C 1 dX16_fault_0 rfl rfl ?_
  refine z_if_ne C 16 dX16_fault_1 (by decide) (fun c_1 => ?_) (fun c_1 => ?_)
  · replace hf := if_f c_1 hf
    obtain ⟨rfl, rfl⟩ := fin_ hf
    exact z_vret C dX16_fault_16
  · replace hf := if_t c_1 hf
    obtain ⟨g_2, hf⟩ := gd_ hf
    obtain ⟨g_3, hf⟩ := gd_ hf
    refine z_new C (ci := 17) (Cn := RX18) (T := TX18) (N := 7) rfl in_X18 tyX18 tyX18_ok q843 q844 q101 [.null, .null, .null, .null, .null, .int 0, .int 0] (fun j hj => by rcases (show j = 0 ∨ j = 1 ∨ j = 2 ∨ j = 3 ∨ j = 4 ∨ j = 5 ∨ j = 6 by omega) with rfl | rfl | rfl | rfl | rfl | rfl | rfl <;> rfl) g_2 g_3 dX16_fault_4 ?_
    obtain ⟨a_5, ea_5, hf⟩ := nmo_ hf
    refine z_eq (congrArg Value.ref ea_5.symm) ?_
    obtain ⟨σ_4, eσ_4, hf⟩ := nmo_ hf
    refine z_w eσ_4.symm ?_
    refine z_dup C dX16_fault_7 rfl ?_
    refine z_aload_n C 0 dX16_fault_8 rfl rfl ?_
    obtain ⟨⟨rs_7, rt_8, ro_9⟩, e_10, hf⟩ := bo_ hf
    try dsimp only at hf
    have hP_11 := oRd_ e_10
    refine z_get C (ci := 15) (Cn := RX16) (T := TX16) (N := 5) (fs := [.ref (zsK w i), .ref (w.2.2 (100 + 16)), .int rs_7, .int rt_8, .int ro_9]) (v := .int rt_8) rfl in_X16 (zSee.pool hP_11) 3 (by decide) q690 (Or.inl rfl) rfl dX16_fault_9 ?_
    obtain ⟨⟨⟩, σ_14, e_13, hf⟩ := bd_ hf
    refine z_callv C (rest := [.ref a_5]) (av := (.ref a_5 :: [.int rt_8])) (zPay.of q854 q101) (fun H ls hH h2 => zInv_I C (As := [.int rt_8]) (rest := [.ref a_5]) q852 q853 q854 rfl mh_X18 np_X18_init dX16_fault_12) (tX18_init l w e_13) (Nat.le_of_ble_eq_true rfl) (Nat.le_of_ble_eq_true rfl) ?_
    obtain ⟨rfl, rfl⟩ := fin_ hf
    exact z_athrow C (by decide) dX16_fault_15
def fX21_init (a : Nat) : Option Unit := some ()
set_option maxHeartbeats 4000000 in
set_option maxRecDepth 100000 in
theorem tX21_init (l : Launch) (w : ZW) (L : ZL) (σ : ZS) {a : Nat} (hf : fX21_init a = some ()) : zC l w L yX21_init (ws_ yX21_init cX21_init 1 none) 1 12 [.ref a] σ (.returned none) σ := by
  refine zC.of (plainFor_of_name (by decide)) (Nat.le_of_ble_eq_true rfl) ?_
  intro p e s m args below meth c C hnm
  show Z p l e _ s m args below meth c _ w _ _ 1 σ 0 [(0, .ref a)] []
  unfold fX21_init at hf
  refine z_aload_n C 0 dX21_init_0 rfl rfl ?_
  refine z_objInit C q1288 dX21_init_1 (Nat.le_of_ble_eq_true rfl) (Nat.le_of_ble_eq_true rfl) ?_
  exact z_vret C dX21_init_4
def fX22_size (w : ZW) (σ : ZS) (ro : Nat) : Option Int32 := bo (oRow w 1 (σ.2.2.1 ro)) (fun rw1 => some (Int32.ofNat (rw1.1)))
set_option maxHeartbeats 4000000 in
set_option maxRecDepth 100000 in
theorem tX22_size (l : Launch) (w : ZW) {σ : ZS} {ro : Nat} {a : Nat} (hP : σ.2.2.1 a = some (.inr (20, [.ref ro]))) {r : Int32} (hf : fX22_size w σ ro = some r) : zC l w zLx yX22_size (ws_ yX22_size cX22_size 1 (some .int)) 0 0 [.ref a] σ (.returned (some (.int r))) σ := by
  refine zC.of (plainFor_of_name (by decide)) (Nat.le_of_ble_eq_true rfl) ?_
  intro p e s m args below meth c C hnm
  show Z p l e _ s m args below meth c _ w _ _ 1 σ 0 [(0, .ref a)] []
  unfold fX22_size at hf
  refine z_aload_n C 0 dX22_size_0 rfl rfl ?_
  refine z_get C (ci := 20) (Cn := RX22) (T := TX22) (N := 1) (fs := [.ref ro]) (v := .ref ro) rfl in_X22 (zSee.pool hP) 0 (by decide) q1289 (Or.inl rfl) rfl dX22_size_1 ?_
  obtain ⟨⟨n_1, f_2⟩, e_3, hf⟩ := bo_ hf
  try dsimp only at hf
  have hP_4 := oRow_ e_3
  refine z_alen C 1 (zSee.pool hP_4) rfl dX22_size_4 ?_
  obtain rfl := fino_ hf
  exact z_iret C rfl dX22_size_5
def fX22_get (w : ZW) (σ : ZS) (ro : Nat) (p1 : Int32) : Option Int32 := bo (oRow w 1 (σ.2.2.1 ro)) (fun rw1 => gd (¬ (p1 < 0 ∨ (rw1.1) ≤ p1.toNatClampNeg)) (some ((rw1.2) (p1.toNatClampNeg))))
set_option maxHeartbeats 4000000 in
set_option maxRecDepth 100000 in
theorem tX22_get (l : Launch) (w : ZW) {σ : ZS} {ro : Nat} {p1 : Int32} {a : Nat} (hP : σ.2.2.1 a = some (.inr (20, [.ref ro]))) {r : Int32} (hf : fX22_get w σ ro p1 = some r) : zC l w zLx yX22_get (ws_ yX22_get cX22_get 2 (some .int)) 0 0 [.ref a, .int p1] σ (.returned (some (.int r))) σ := by
  refine zC.of (plainFor_of_name (by decide)) (Nat.le_of_ble_eq_true rfl) ?_
  intro p e s m args below meth c C hnm
  show Z p l e _ s m args below meth c _ w _ _ 2 σ 0 [(0, .ref a), (1, .int p1)] []
  unfold fX22_get at hf
  refine z_aload_n C 0 dX22_get_0 rfl rfl ?_
  refine z_get C (ci := 20) (Cn := RX22) (T := TX22) (N := 1) (fs := [.ref ro]) (v := .ref ro) rfl in_X22 (zSee.pool hP) 0 (by decide) q1289 (Or.inl rfl) rfl dX22_get_1 ?_
  refine z_iload_n C 1 dX22_get_4 rfl rfl ?_
  obtain ⟨⟨n_1, f_2⟩, e_3, hf⟩ := bo_ hf
  try dsimp only at hf
  have hP_4 := oRow_ e_3
  obtain ⟨g_5, hf⟩ := gd_ hf
  refine z_baload C (zSee.pool hP_4) g_5 dX22_get_5 ?_
  obtain rfl := fino_ hf
  exact z_iret C rfl dX22_get_6
def fX22_init (w : ZW) (σ : ZS) (a : Nat) (p1 : Int32) : Option (Unit × ZS) := bo (fX21_init a) (fun _ => gd (¬ p1 < 0) (gd (p1.toNatClampNeg ≤ 1000) (gd (1 ≤ σ.2.2.2.2.1) (gd (p1.toNatClampNeg ≤ σ.2.2.2.2.2) (nm (σ.2.2.2.1) (fun (a_7 : Nat) => nm (sN σ (.inl (w.2.1 1, p1.toNatClampNeg, .inl (fun _ => 0))) p1.toNatClampNeg) (fun (σ_8 : ZS) => gd (oNul (σ_8.2.2.1 a) = some 20) (nm (sP σ_8 a (.inr (20, [.ref a_7]))) (fun (σ_11 : ZS) => some ((), σ_11))))))))))
set_option maxHeartbeats 4000000 in
set_option maxRecDepth 100000 in
theorem tX22_init (l : Launch) (w : ZW) {σ σ' : ZS} {a : Nat} {p1 : Int32} (hf : fX22_init w σ a p1 = some ((), σ')) : zC l w zLx yX22_init (ws_ yX22_init cX22_init 2 none) 2 24 [.ref a, .int p1] σ (.returned none) σ' := by
  refine zC.of (plainFor_of_name (by decide)) (Nat.le_of_ble_eq_true rfl) ?_
  intro p e s m args below meth c C hnm
  show Z p l e _ s m args below meth c _ w _ _ 2 σ 0 [(0, .ref a), (1, .int p1)] []
  unfold fX22_init at hf
  refine z_aload_n C 0 dX22_init_0 rfl rfl ?_
  obtain ⟨⟨⟩, e_2, hf⟩ := bo_ hf
  refine z_callv C (rest := []) (av := (.ref a :: [])) (zPay.of q1287 q106) (fun H ls hH h2 => zInv_IN C (As := []) (rest := []) q1285 q1286 q1287 rfl mh_X21 np_X21_init dX22_init_1) (tX21_init l w zLx σ e_2) (Nat.le_of_ble_eq_true rfl) (Nat.le_of_ble_eq_true rfl) ?_
  refine z_aload_n C 0 dX22_init_4 rfl rfl ?_
  refine z_iload_n C 1 dX22_init_5 rfl rfl ?_
  obtain ⟨g_3, hf⟩ := gd_ hf
  obtain ⟨g_4, hf⟩ := gd_ hf
  obtain ⟨g_5, hf⟩ := gd_ hf
  obtain ⟨g_6, hf⟩ := gd_ hf
  refine z_newa C (atype := .byte) (ty := .byte) 1 rfl q209 rfl (fun _ h => by cases h) rfl g_3 (Nat.le_trans (Nat.mul_le_mul_right _ g_4) (by decide)) g_5 g_6 dX22_init_6 ?_
  obtain ⟨a_7, ea_7, hf⟩ := nmo_ hf
  refine z_eq (congrArg Value.ref ea_7.symm) ?_
  obtain ⟨σ_8, eσ_8, hf⟩ := nmo_ hf
  refine z_w eσ_8.symm ?_
  obtain ⟨g_10, hf⟩ := gd_ hf
  refine z_putP C (oNul_ g_10) (zPutF C (T := TX22) (N := 1) rfl in_X22 tyX22 tyX22_ok nmX22 0 (by decide) q1289 (Or.inl rfl) rfl hnm rfl rfl rfl (Nat.le_of_ble_eq_true rfl) dX22_init_8) ?_
  obtain ⟨σ_11, eσ_11, hf⟩ := nmo_ hf
  refine z_w eσ_11.symm ?_
  obtain ⟨-, rfl⟩ := fin_ hf
  exact z_vret C dX22_init_11
def fX22_put (w : ZW) (σ : ZS) (ro : Nat) (p1 : Int32) (p2 : Int32) : Option (Unit × ZS) := nm (p2.toInt8.toInt32) (fun (v_1 : Int32) => bo (oRow w 1 (σ.2.2.1 ro)) (fun rw2 => gd (¬ (p1 < 0 ∨ (rw2.1) ≤ p1.toNatClampNeg)) (nm (sP σ ro (.inl (w.2.1 1, (rw2.1), .inl (upd (rw2.2) (p1.toNatClampNeg) (vp_nar .byte v_1))))) (fun (σ_7 : ZS) => some ((), σ_7)))))
set_option maxHeartbeats 4000000 in
set_option maxRecDepth 100000 in
theorem tX22_put (l : Launch) (w : ZW) {σ σ' : ZS} {ro : Nat} {p1 : Int32} {p2 : Int32} {a : Nat} (hP : σ.2.2.1 a = some (.inr (20, [.ref ro]))) (hf : fX22_put w σ ro p1 p2 = some ((), σ')) : zC l w zLx yX22_put (ws_ yX22_put cX22_put 3 none) 0 0 [.ref a, .int p1, .int p2] σ (.returned none) σ' := by
  refine zC.of (plainFor_of_name (by decide)) (Nat.le_of_ble_eq_true rfl) ?_
  intro p e s m args below meth c C hnm
  show Z p l e _ s m args below meth c _ w _ _ 3 σ 0 [(0, .ref a), (1, .int p1), (2, .int p2)] []
  unfold fX22_put at hf
  refine z_aload_n C 0 dX22_put_0 rfl rfl ?_
  refine z_get C (ci := 20) (Cn := RX22) (T := TX22) (N := 1) (fs := [.ref ro]) (v := .ref ro) rfl in_X22 (zSee.pool hP) 0 (by decide) q1289 (Or.inl rfl) rfl dX22_put_1 ?_
  refine z_iload_n C 1 dX22_put_4 rfl rfl ?_
  refine z_iload_n C 2 dX22_put_5 rfl rfl ?_
  refine z_i2b C dX22_put_6 ?_
  obtain ⟨v_1, ev_1, hf⟩ := nmo_ hf
  refine z_top ev_1 ?_
  obtain ⟨⟨n_2, f_3⟩, e_4, hf⟩ := bo_ hf
  try dsimp only at hf
  have hP_5 := oRow_ e_4
  obtain ⟨g_6, hf⟩ := gd_ hf
  refine z_bastoreP C hP_5 g_6 dX22_put_7 ?_
  obtain ⟨σ_7, eσ_7, hf⟩ := nmo_ hf
  refine z_w eσ_7.symm ?_
  obtain ⟨-, rfl⟩ := fin_ hf
  exact z_vret C dX22_put_8
def fX22_width (σ : ZS) (ro : Nat) : Int32 := 8
set_option maxHeartbeats 4000000 in
set_option maxRecDepth 100000 in
theorem tX22_width (l : Launch) (w : ZW) (σ : ZS) (ro : Nat) {a : Nat} (hP : σ.2.2.1 a = some (.inr (20, [.ref ro]))) : zC l w zLx yX22_width (ws_ yX22_width cX22_width 1 (some .int)) 0 0 [.ref a] σ (.returned (some (.int (fX22_width σ ro)))) σ := by
  obtain ⟨r, hf⟩ : ∃ r, r = fX22_width σ ro := ⟨_, rfl⟩
  rw [← hf]
  refine zC.of (plainFor_of_name (by decide)) (Nat.le_of_ble_eq_true rfl) ?_
  intro p e s m args below meth c C hnm
  show Z p l e _ s m args below meth c _ w _ _ 1 σ 0 [(0, .ref a)] []
  unfold fX22_width at hf
  refine z_bipush C 8 dX22_width_0 (by decide) ?_
  subst hf
  exact z_iret C rfl dX22_width_2
def fX23_size (w : ZW) (σ : ZS) (ro : Nat) : Option Int32 := bo (oRow w 2 (σ.2.2.1 ro)) (fun rw1 => some (Int32.ofNat (rw1.1)))
set_option maxHeartbeats 4000000 in
set_option maxRecDepth 100000 in
theorem tX23_size (l : Launch) (w : ZW) {σ : ZS} {ro : Nat} {a : Nat} (hP : σ.2.2.1 a = some (.inr (21, [.ref ro]))) {r : Int32} (hf : fX23_size w σ ro = some r) : zC l w zLx yX23_size (ws_ yX23_size cX23_size 1 (some .int)) 0 0 [.ref a] σ (.returned (some (.int r))) σ := by
  refine zC.of (plainFor_of_name (by decide)) (Nat.le_of_ble_eq_true rfl) ?_
  intro p e s m args below meth c C hnm
  show Z p l e _ s m args below meth c _ w _ _ 1 σ 0 [(0, .ref a)] []
  unfold fX23_size at hf
  refine z_aload_n C 0 dX23_size_0 rfl rfl ?_
  refine z_get C (ci := 21) (Cn := RX23) (T := TX23) (N := 1) (fs := [.ref ro]) (v := .ref ro) rfl in_X23 (zSee.pool hP) 0 (by decide) q1299 (Or.inl rfl) rfl dX23_size_1 ?_
  obtain ⟨⟨n_1, f_2⟩, e_3, hf⟩ := bo_ hf
  try dsimp only at hf
  have hP_4 := oRow_ e_3
  refine z_alen C 2 (zSee.pool hP_4) rfl dX23_size_4 ?_
  obtain rfl := fino_ hf
  exact z_iret C rfl dX23_size_5
def fX23_get (w : ZW) (σ : ZS) (ro : Nat) (p1 : Int32) : Option Int32 := bo (oRow w 2 (σ.2.2.1 ro)) (fun rw1 => gd (¬ (p1 < 0 ∨ (rw1.1) ≤ p1.toNatClampNeg)) (some ((rw1.2) (p1.toNatClampNeg))))
set_option maxHeartbeats 4000000 in
set_option maxRecDepth 100000 in
theorem tX23_get (l : Launch) (w : ZW) {σ : ZS} {ro : Nat} {p1 : Int32} {a : Nat} (hP : σ.2.2.1 a = some (.inr (21, [.ref ro]))) {r : Int32} (hf : fX23_get w σ ro p1 = some r) : zC l w zLx yX23_get (ws_ yX23_get cX23_get 2 (some .int)) 0 0 [.ref a, .int p1] σ (.returned (some (.int r))) σ := by
  refine zC.of (plainFor_of_name (by decide)) (Nat.le_of_ble_eq_true rfl) ?_
  intro p e s m args below meth c C hnm
  show Z p l e _ s m args below meth c _ w _ _ 2 σ 0 [(0, .ref a), (1, .int p1)] []
  unfold fX23_get at hf
  refine z_aload_n C 0 dX23_get_0 rfl rfl ?_
  refine z_get C (ci := 21) (Cn := RX23) (T := TX23) (N := 1) (fs := [.ref ro]) (v := .ref ro) rfl in_X23 (zSee.pool hP) 0 (by decide) q1299 (Or.inl rfl) rfl dX23_get_1 ?_
  refine z_iload_n C 1 dX23_get_4 rfl rfl ?_
  obtain ⟨⟨n_1, f_2⟩, e_3, hf⟩ := bo_ hf
  try dsimp only at hf
  have hP_4 := oRow_ e_3
  obtain ⟨g_5, hf⟩ := gd_ hf
  refine z_saload C (zSee.pool hP_4) g_5 dX23_get_5 ?_
  obtain rfl := fino_ hf
  exact z_iret C rfl dX23_get_6
def fX23_init (w : ZW) (σ : ZS) (a : Nat) (p1 : Int32) : Option (Unit × ZS) := bo (fX21_init a) (fun _ => gd (¬ p1 < 0) (gd (p1.toNatClampNeg ≤ 1000) (gd (1 ≤ σ.2.2.2.2.1) (gd (p1.toNatClampNeg ≤ σ.2.2.2.2.2) (nm (σ.2.2.2.1) (fun (a_7 : Nat) => nm (sN σ (.inl (w.2.1 2, p1.toNatClampNeg, .inl (fun _ => 0))) p1.toNatClampNeg) (fun (σ_8 : ZS) => gd (oNul (σ_8.2.2.1 a) = some 21) (nm (sP σ_8 a (.inr (21, [.ref a_7]))) (fun (σ_11 : ZS) => some ((), σ_11))))))))))
set_option maxHeartbeats 4000000 in
set_option maxRecDepth 100000 in
theorem tX23_init (l : Launch) (w : ZW) {σ σ' : ZS} {a : Nat} {p1 : Int32} (hf : fX23_init w σ a p1 = some ((), σ')) : zC l w zLx yX23_init (ws_ yX23_init cX23_init 2 none) 2 24 [.ref a, .int p1] σ (.returned none) σ' := by
  refine zC.of (plainFor_of_name (by decide)) (Nat.le_of_ble_eq_true rfl) ?_
  intro p e s m args below meth c C hnm
  show Z p l e _ s m args below meth c _ w _ _ 2 σ 0 [(0, .ref a), (1, .int p1)] []
  unfold fX23_init at hf
  refine z_aload_n C 0 dX23_init_0 rfl rfl ?_
  obtain ⟨⟨⟩, e_2, hf⟩ := bo_ hf
  refine z_callv C (rest := []) (av := (.ref a :: [])) (zPay.of q1287 q106) (fun H ls hH h2 => zInv_IN C (As := []) (rest := []) q1298 q1286 q1287 rfl mh_X21 np_X21_init dX23_init_1) (tX21_init l w zLx σ e_2) (Nat.le_of_ble_eq_true rfl) (Nat.le_of_ble_eq_true rfl) ?_
  refine z_aload_n C 0 dX23_init_4 rfl rfl ?_
  refine z_iload_n C 1 dX23_init_5 rfl rfl ?_
  obtain ⟨g_3, hf⟩ := gd_ hf
  obtain ⟨g_4, hf⟩ := gd_ hf
  obtain ⟨g_5, hf⟩ := gd_ hf
  obtain ⟨g_6, hf⟩ := gd_ hf
  refine z_newa C (atype := .short) (ty := .short) 2 rfl q1303 rfl (fun _ h => by cases h) rfl g_3 (Nat.le_trans (Nat.mul_le_mul_right _ g_4) (by decide)) g_5 g_6 dX23_init_6 ?_
  obtain ⟨a_7, ea_7, hf⟩ := nmo_ hf
  refine z_eq (congrArg Value.ref ea_7.symm) ?_
  obtain ⟨σ_8, eσ_8, hf⟩ := nmo_ hf
  refine z_w eσ_8.symm ?_
  obtain ⟨g_10, hf⟩ := gd_ hf
  refine z_putP C (oNul_ g_10) (zPutF C (T := TX23) (N := 1) rfl in_X23 tyX23 tyX23_ok nmX23 0 (by decide) q1299 (Or.inl rfl) rfl hnm rfl rfl rfl (Nat.le_of_ble_eq_true rfl) dX23_init_8) ?_
  obtain ⟨σ_11, eσ_11, hf⟩ := nmo_ hf
  refine z_w eσ_11.symm ?_
  obtain ⟨-, rfl⟩ := fin_ hf
  exact z_vret C dX23_init_11
