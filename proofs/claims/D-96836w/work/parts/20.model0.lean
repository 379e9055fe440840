/-! the reference, walked (written by gen/main_m.py) -/
theorem np_J3_max : zNp yJ3_max.desc 2 := by unfold zNp; decide +kernel
theorem mh_J3 : zMH RJ3 := by unfold zMH; decide
theorem np_J3_min : zNp yJ3_min.desc 2 := by unfold zNp; decide +kernel
theorem np_J4_isLatin1 : zNp yJ4_isLatin1.desc 0 := by unfold zNp; decide +kernel
theorem mh_J4 : zMH RJ4 := by unfold zMH; decide
theorem np_J4_coder : zNp yJ4_coder.desc 0 := by unfold zNp; decide +kernel
theorem np_J4_length : zNp yJ4_length.desc 0 := by unfold zNp; decide +kernel
theorem np_J5_canEncode : zNp yJ5_canEncode.desc 1 := by unfold zNp; decide +kernel
theorem mh_J5 : zMH RJ5 := by unfold zMH; decide
theorem np_J7_checkIndex : zNp yJ7_checkIndex.desc 3 := by unfold zNp; decide +kernel
theorem mh_J7 : zMH RJ7 := by unfold zMH; decide
theorem np_J4_checkIndex : zNp yJ4_checkIndex.desc 2 := by unfold zNp; decide +kernel
theorem np_J5_charAt : zNp yJ5_charAt.desc 2 := by unfold zNp; decide +kernel
theorem np_J4_charAt : zNp yJ4_charAt.desc 1 := by unfold zNp; decide +kernel
theorem np_J5_indexOfChar : zNp yJ5_indexOfChar.desc 4 := by unfold zNp; decide +kernel
theorem np_J5_indexOf : zNp yJ5_indexOf.desc 4 := by unfold zNp; decide +kernel
theorem np_J4_indexOf_2 : zNp yJ4_indexOf_2.desc 2 := by unfold zNp; decide +kernel
theorem np_J4_indexOf : zNp yJ4_indexOf.desc 1 := by unfold zNp; decide +kernel
theorem np_J9_bitCount : zNp yJ9_bitCount.desc 1 := by unfold zNp; decide +kernel
theorem mh_J9 : zMH RJ9 := by unfold zMH; decide
theorem np_J9_numberOfTrailingZeros : zNp yJ9_numberOfTrailingZeros.desc 1 := by unfold zNp; decide +kernel
theorem np_X6_cellAt : zNp yX6_cellAt.desc 2 := by unfold zNp; decide +kernel
theorem mh_X6 : zMH RX6 := by unfold zMH; decide
theorem np_X6_forgetDepths : zNp yX6_forgetDepths.desc 0 := by unfold zNp; decide +kernel
theorem np_X6_turn : zNp yX6_turn.desc 2 := by unfold zNp; decide +kernel
theorem np_X6_within : zNp yX6_within.desc 3 := by unfold zNp; decide +kernel
theorem np_X6_finding : zNp yX6_finding.desc 1 := by unfold zNp; decide +kernel
theorem np_X6_here : zNp yX6_here.desc 0 := by unfold zNp; decide +kernel
theorem np_X6_codes : zNp yX6_codes.desc 1 := by unfold zNp; decide +kernel
theorem np_X6_takes : zNp yX6_takes.desc 1 := by unfold zNp; decide +kernel
theorem np_X6_nameOf : zNp yX6_nameOf.desc 1 := by unfold zNp; decide +kernel
theorem np_X6_hasText : zNp yX6_hasText.desc 1 := by unfold zNp; decide +kernel
theorem np_X6_done : zNp yX6_done.desc 3 := by unfold zNp; decide +kernel
theorem np_X6_held : zNp yX6_held.desc 3 := by unfold zNp; decide +kernel
theorem np_X6_isCell : zNp yX6_isCell.desc 1 := by unfold zNp; decide +kernel
theorem np_X6_cellIs : zNp yX6_cellIs.desc 2 := by unfold zNp; decide +kernel
theorem np_X6_hasBit : zNp yX6_hasBit.desc 2 := by unfold zNp; decide +kernel
theorem np_X6_shipAt : zNp yX6_shipAt.desc 2 := by unfold zNp; decide +kernel
theorem np_X6_isYear : zNp yX6_isYear.desc 1 := by unfold zNp; decide +kernel
theorem np_X6_isKindM : zNp yX6_isKindM.desc 1 := by unfold zNp; decide +kernel
theorem np_X6_isDigit : zNp yX6_isDigit.desc 1 := by unfold zNp; decide +kernel
theorem np_X6_shipComes : zNp yX6_shipComes.desc 3 := by unfold zNp; decide +kernel
theorem np_X6_isShip : zNp yX6_isShip.desc 1 := by unfold zNp; decide +kernel
theorem np_X6_change : zNp yX6_change.desc 3 := by unfold zNp; decide +kernel
theorem np_X6_become : zNp yX6_become.desc 2 := by unfold zNp; decide +kernel
theorem np_X6_above : zNp yX6_above.desc 1 := by unfold zNp; decide +kernel
theorem np_X6_bits : zNp yX6_bits.desc 1 := by unfold zNp; decide +kernel
theorem np_X6_drawn : zNp yX6_drawn.desc 0 := by unfold zNp; decide +kernel
theorem np_X6_isBehind : zNp yX6_isBehind.desc 1 := by unfold zNp; decide +kernel
theorem np_X6_copy : zNp yX6_copy.desc 2 := by unfold zNp; decide +kernel
theorem np_X6_putBack : zNp yX6_putBack.desc 1 := by unfold zNp; decide +kernel
theorem np_X6_isSheet : zNp yX6_isSheet.desc 1 := by unfold zNp; decide +kernel
theorem np_X6_seed : zNp yX6_seed.desc 1 := by unfold zNp; decide +kernel
theorem np_X6_ran : zNp yX6_ran.desc 1 := by unfold zNp; decide +kernel
theorem np_X6_trace : zNp yX6_trace.desc 1 := by unfold zNp; decide +kernel
theorem np_X6_sheet : zNp yX6_sheet.desc 3 := by unfold zNp; decide +kernel
theorem np_X6_put : zNp yX6_put.desc 3 := by unfold zNp; decide +kernel
theorem np_X6_move : zNp yX6_move.desc 5 := by unfold zNp; decide +kernel
theorem np_X6_beds : zNp yX6_beds.desc 1 := by unfold zNp; decide +kernel
theorem np_X6_image : zNp yX6_image.desc 0 := by unfold zNp; decide +kernel
theorem np_X6_restore : zNp yX6_restore.desc 0 := by unfold zNp; decide +kernel
theorem np_X6_tell : zNp yX6_tell.desc 1 := by unfold zNp; decide +kernel
theorem np_X6_told : zNp yX6_told.desc 1 := by unfold zNp; decide +kernel
theorem np_X6_flat : zNp yX6_flat.desc 1 := by unfold zNp; decide +kernel
theorem np_X6_feed : zNp yX6_feed.desc 2 := by unfold zNp; decide +kernel
theorem np_X6_worked : zNp yX6_worked.desc 1 := by unfold zNp; decide +kernel
theorem np_X6_bay : zNp yX6_bay.desc 1 := by unfold zNp; decide +kernel
theorem np_X6_lay : zNp yX6_lay.desc 3 := by unfold zNp; decide +kernel
theorem np_X6_shipIs : zNp yX6_shipIs.desc 2 := by unfold zNp; decide +kernel
theorem np_X6_set : zNp yX6_set.desc 2 := by unfold zNp; decide +kernel
theorem np_X6_ship : zNp yX6_ship.desc 3 := by unfold zNp; decide +kernel
theorem np_X6_isUnder : zNp yX6_isUnder.desc 2 := by unfold zNp; decide +kernel
theorem np_X6_lostNow : zNp yX6_lostNow.desc 0 := by unfold zNp; decide +kernel
theorem np_X6_sailsOf : zNp yX6_sailsOf.desc 1 := by unfold zNp; decide +kernel
theorem np_X6_soundsOf : zNp yX6_soundsOf.desc 1 := by unfold zNp; decide +kernel
theorem np_X6_judge : zNp yX6_judge.desc 1 := by unfold zNp; decide +kernel
theorem np_X6_given : zNp yX6_given.desc 4 := by unfold zNp; decide +kernel
theorem np_X6_depthFor : zNp yX6_depthFor.desc 2 := by unfold zNp; decide +kernel
theorem np_X6_shipsAt : zNp yX6_shipsAt.desc 1 := by unfold zNp; decide +kernel
theorem np_X6_as : zNp yX6_as.desc 2 := by unfold zNp; decide +kernel
theorem np_X6_manyIn : zNp yX6_manyIn.desc 0 := by unfold zNp; decide +kernel
theorem np_X6_steersOf : zNp yX6_steersOf.desc 1 := by unfold zNp; decide +kernel
theorem np_X6_plainLogs : zNp yX6_plainLogs.desc 1 := by unfold zNp; decide +kernel
theorem np_X6_count : zNp yX6_count.desc 1 := by unfold zNp; decide +kernel
theorem np_X6_law : zNp yX6_law.desc 4 := by unfold zNp; decide +kernel
theorem np_X6_depthIn : zNp yX6_depthIn.desc 2 := by unfold zNp; decide +kernel
theorem np_X6_shown : zNp yX6_shown.desc 2 := by unfold zNp; decide +kernel
theorem np_X6_depth : zNp yX6_depth.desc 2 := by unfold zNp; decide +kernel
theorem np_X6_isShownSo : zNp yX6_isShownSo.desc 2 := by unfold zNp; decide +kernel
theorem np_X6_deep : zNp yX6_deep.desc 2 := by unfold zNp; decide +kernel
theorem np_X6_logsOf : zNp yX6_logsOf.desc 1 := by unfold zNp; decide +kernel
theorem np_X6_trueDepth : zNp yX6_trueDepth.desc 1 := by unfold zNp; decide +kernel
theorem np_X6_believes : zNp yX6_believes.desc 2 := by unfold zNp; decide +kernel
theorem np_X6_sails : zNp yX6_sails.desc 1 := by unfold zNp; decide +kernel
theorem np_X6_falseBy : zNp yX6_falseBy.desc 1 := by unfold zNp; decide +kernel
theorem np_X6_which : zNp yX6_which.desc 2 := by unfold zNp; decide +kernel
theorem np_X6_voice : zNp yX6_voice.desc 3 := by unfold zNp; decide +kernel
theorem np_X6_ofCell : zNp yX6_ofCell.desc 2 := by unfold zNp; decide +kernel
theorem np_X6_ofShip : zNp yX6_ofShip.desc 2 := by unfold zNp; decide +kernel
theorem np_X6_hour : zNp yX6_hour.desc 0 := by unfold zNp; decide +kernel
theorem np_X6_loose : zNp yX6_loose.desc 1 := by unfold zNp; decide +kernel
theorem np_X6_lost : zNp yX6_lost.desc 1 := by unfold zNp; decide +kernel
theorem np_X6_leastFalse : zNp yX6_leastFalse.desc 1 := by unfold zNp; decide +kernel
theorem np_X6_check : zNp yX6_check.desc 0 := by unfold zNp; decide +kernel
theorem np_X6_hoursGo : zNp yX6_hoursGo.desc 1 := by unfold zNp; decide +kernel
theorem np_X6_then : zNp yX6_then.desc 3 := by unfold zNp; decide +kernel
theorem np_X6_inBehind : zNp yX6_inBehind.desc 1 := by unfold zNp; decide +kernel
theorem np_X6_struck : zNp yX6_struck.desc 1 := by unfold zNp; decide +kernel
theorem np_X6_dark : zNp yX6_dark.desc 1 := by unfold zNp; decide +kernel
theorem np_X6_draws : zNp yX6_draws.desc 1 := by unfold zNp; decide +kernel
theorem np_X6_traffic : zNp yX6_traffic.desc 2 := by unfold zNp; decide +kernel
theorem np_X6_odds : zNp yX6_odds.desc 3 := by unfold zNp; decide +kernel
theorem np_X6_hours : zNp yX6_hours.desc 1 := by unfold zNp; decide +kernel
theorem np_X6_setting : zNp yX6_setting.desc 2 := by unfold zNp; decide +kernel
theorem np_X6_either : zNp yX6_either.desc 0 := by unfold zNp; decide +kernel
theorem np_X6_both : zNp yX6_both.desc 0 := by unfold zNp; decide +kernel
theorem np_X6_compared : zNp yX6_compared.desc 0 := by unfold zNp; decide +kernel
theorem np_X6_sum : zNp yX6_sum.desc 0 := by unfold zNp; decide +kernel
theorem np_X6_product : zNp yX6_product.desc 0 := by unfold zNp; decide +kernel
theorem np_X6_one : zNp yX6_one.desc 0 := by unfold zNp; decide +kernel
theorem np_X6_text : zNp yX6_text.desc 1 := by unfold zNp; decide +kernel
def fJ3_max (p1 : Int32) (p2 : Int32) : Int32 := nm (if p1 < p2 then p2 else p1) (fun (j_1 : Int32) => j_1)
set_option maxHeartbeats 4000000 in
set_option maxRecDepth 100000 in
theorem tJ3_max (l : Launch) (w : ZW) (L : ZL) (σ : ZS) (p1 : Int32) (p2 : Int32) : zC l w L yJ3_max (ws_ yJ3_max cJ3_max 2 (some .int)) 0 0 [.int p1, .int p2] σ (.returned (some (.int (fJ3_max p1 p2)))) σ := by
  obtain ⟨r, hf⟩ : ∃ r, r = fJ3_max p1 p2 := ⟨_, rfl⟩
  rw [← hf]
  refine zC.of (by decide +kernel) (Nat.le_of_ble_eq_true rfl) ?_
  intro p e s m args below meth c C hnm
  show Z p l e _ s m args below meth c _ w _ _ 2 σ 0 [(0, .int p1), (1, .int p2)] []
  unfold fJ3_max at hf
  refine z_iload_n C 0 dJ3_max_0 rfl rfl ?_
  refine z_iload_n C 1 dJ3_max_1 rfl rfl ?_
  obtain ⟨j_1, ej_1, hf⟩ := nmp_ hf
  have hjj_1 : Z p l e (zRm 0 0 σ) s m args below meth c (zQ below w L σ (.returned (some (.int r))) σ args s) w L (zA w L σ) 2 σ 10 [(0, .int p1), (1, .int p2)] [.int j_1] := by
    subst hf
    exact z_iret C rfl dJ3_max_10
  replace hf := ej_1
  refine z_icmp_lt C 9 dJ3_max_2 (by decide) (fun c_2 => ?_) (fun c_2 => ?_)
  · replace hf := ifp_t c_2 hf
    refine z_iload_n C 1 dJ3_max_9 rfl rfl ?_
    subst hf
    exact hjj_1
  · replace hf := ifp_f c_2 hf
    refine z_iload_n C 0 dJ3_max_5 rfl rfl ?_
    refine z_goto C 10 dJ3_max_6 (by decide) ?_
    subst hf
    exact hjj_1
def fJ3_min (p1 : Int32) (p2 : Int32) : Int32 := nm (if p2 < p1 then p2 else p1) (fun (j_1 : Int32) => j_1)
set_option maxHeartbeats 4000000 in
set_option maxRecDepth 100000 in
theorem tJ3_min (l : Launch) (w : ZW) (L : ZL) (σ : ZS) (p1 : Int32) (p2 : Int32) : zC l w L yJ3_min (ws_ yJ3_min cJ3_min 2 (some .int)) 0 0 [.int p1, .int p2] σ (.returned (some (.int (fJ3_min p1 p2)))) σ := by
  obtain ⟨r, hf⟩ : ∃ r, r = fJ3_min p1 p2 := ⟨_, rfl⟩
  rw [← hf]
  refine zC.of (by decide +kernel) (Nat.le_of_ble_eq_true rfl) ?_
  intro p e s m args below meth c C hnm
  show Z p l e _ s m args below meth c _ w _ _ 2 σ 0 [(0, .int p1), (1, .int p2)] []
  unfold fJ3_min at hf
  refine z_iload_n C 0 dJ3_min_0 rfl rfl ?_
  refine z_iload_n C 1 dJ3_min_1 rfl rfl ?_
  obtain ⟨j_1, ej_1, hf⟩ := nmp_ hf
  have hjj_1 : Z p l e (zRm 0 0 σ) s m args below meth c (zQ below w L σ (.returned (some (.int r))) σ args s) w L (zA w L σ) 2 σ 10 [(0, .int p1), (1, .int p2)] [.int j_1] := by
    subst hf
    exact z_iret C rfl dJ3_min_10
  replace hf := ej_1
  refine z_icmp_gt C 9 dJ3_min_2 (by decide) (fun c_2 => ?_) (fun c_2 => ?_)
  · replace hf := ifp_t c_2 hf
    refine z_iload_n C 1 dJ3_min_9 rfl rfl ?_
    subst hf
    exact hjj_1
  · replace hf := ifp_f c_2 hf
    refine z_iload_n C 0 dJ3_min_5 rfl rfl ?_
    refine z_goto C 10 dJ3_min_6 (by decide) ?_
    subst hf
    exact hjj_1
def fJ4_isLatin1 (bk : List Int32) : Int32 := 1
set_option maxHeartbeats 4000000 in
set_option maxRecDepth 100000 in
theorem tJ4_isLatin1 (l : Launch) (w : ZW) (L : ZL) (σ : ZS) (bk : List Int32) {ik : Nat} (hbk : zsB[ik]? = some bk) : zC l w L yJ4_isLatin1 (ws_ yJ4_isLatin1 cJ4_isLatin1 1 (some .boolean)) 0 0 [.ref (zsK w ik)] σ (.returned (some (.int (fJ4_isLatin1 bk)))) σ := by
  obtain ⟨r, hf⟩ : ∃ r, r = fJ4_isLatin1 bk := ⟨_, rfl⟩
  rw [← hf]
  refine zC.of (by decide +kernel) (Nat.le_of_ble_eq_true rfl) ?_
  intro p e s m args below meth c C hnm
  show Z p l e _ s m args below meth c _ w _ _ 1 σ 0 [(0, .ref (zsK w ik))] []
  unfold fJ4_isLatin1 at hf
  refine z_scompact C q751 dJ4_isLatin1_0 ?_
  refine z_if_eq C 17 dJ4_isLatin1_3 (by decide) (fun c_1 => absurd c_1 (by decide)) (fun _ => ?_)
  refine z_aload_n C 0 dJ4_isLatin1_6 rfl rfl ?_
  refine z_kcoder C hbk q1920 dJ4_isLatin1_7 ?_
  refine z_if_ne C 17 dJ4_isLatin1_10 (by decide) (fun c_2 => absurd c_2 (by decide)) (fun _ => ?_)
  refine z_iconst C 1 dJ4_isLatin1_13 (by decide) ?_
  refine z_goto C 18 dJ4_isLatin1_14 (by decide) ?_
  subst hf
  exact z_iret C (b01 (by decide)) dJ4_isLatin1_18
theorem bJ4_isLatin1 (bk : List Int32) : fJ4_isLatin1 bk = 0 ∨ fJ4_isLatin1 bk = 1 := by
  exact Or.inr rfl
def fJ4_coder (bk : List Int32) : Int32 := 0
set_option maxHeartbeats 4000000 in
set_option maxRecDepth 100000 in
theorem tJ4_coder (l : Launch) (w : ZW) (L : ZL) (σ : ZS) (bk : List Int32) {ik : Nat} (hbk : zsB[ik]? = some bk) : zC l w L yJ4_coder (ws_ yJ4_coder cJ4_coder 1 (some .byte)) 0 0 [.ref (zsK w ik)] σ (.returned (some (.int (fJ4_coder bk)))) σ := by
  obtain ⟨r, hf⟩ : ∃ r, r = fJ4_coder bk := ⟨_, rfl⟩
  rw [← hf]
  refine zC.of (by decide +kernel) (Nat.le_of_ble_eq_true rfl) ?_
  intro p e s m args below meth c C hnm
  show Z p l e _ s m args below meth c _ w _ _ 1 σ 0 [(0, .ref (zsK w ik))] []
  unfold fJ4_coder at hf
  refine z_scompact C q751 dJ4_coder_0 ?_
  refine z_if_eq C 13 dJ4_coder_3 (by decide) (fun c_1 => absurd c_1 (by decide)) (fun _ => ?_)
  refine z_aload_n C 0 dJ4_coder_6 rfl rfl ?_
  refine z_kcoder C hbk q1920 dJ4_coder_7 ?_
  refine z_goto C 14 dJ4_coder_10 (by decide) ?_
  subst hf
  exact z_iret C rfl dJ4_coder_14
def fJ4_length (bk : List Int32) : Int32 := (Int32.ofNat bk.length) >>> (0 &&& 31)
set_option maxHeartbeats 4000000 in
set_option maxRecDepth 100000 in
theorem tJ4_length (l : Launch) (w : ZW) (L : ZL) (σ : ZS) (bk : List Int32) {ik : Nat} (hbk : zsB[ik]? = some bk) : zC l w L yJ4_length (ws_ yJ4_length cJ4_length 1 (some .int)) 1 13 [.ref (zsK w ik)] σ (.returned (some (.int (fJ4_length bk)))) σ := by
  obtain ⟨r, hf⟩ : ∃ r, r = fJ4_length bk := ⟨_, rfl⟩
  rw [← hf]
  refine zC.of (by decide +kernel) (Nat.le_of_ble_eq_true rfl) ?_
  intro p e s m args below meth c C hnm
  show Z p l e _ s m args below meth c _ w _ _ 1 σ 0 [(0, .ref (zsK w ik))] []
  unfold fJ4_length at hf
  refine z_aload_n C 0 dJ4_length_0 rfl rfl ?_
  refine z_kvalue C hbk q1921 dJ4_length_1 ?_
  refine z_kalen C hbk dJ4_length_4 ?_
  refine z_aload_n C 0 dJ4_length_5 rfl rfl ?_
  refine z_calli C (rest := [.int (Int32.ofNat bk.length)]) (av := (.ref (zsK w ik) :: [])) (zPay.of q760 q95) (fun H ls hH h2 => zInv_K C (As := []) (rest := [.int (Int32.ofNat bk.length)]) hbk h2 q757 q758 q759 (Or.inl rfl) q760 mh_J4 np_J4_coder dJ4_length_6) (tJ4_coder l w L σ bk hbk) (Nat.le_of_ble_eq_true rfl) (Nat.le_of_ble_eq_true rfl) ?_
  refine z_top (v' := 0) rfl ?_
  refine z_ishr C dJ4_length_9 ?_
  subst hf
  exact z_iret C rfl dJ4_length_10
def fJ5_canEncode (p1 : Int32) : Int32 := nm (if p1 < 0 then 0 else (if 255 < p1 then 0 else 1)) (fun (j_1 : Int32) => j_1)
set_option maxHeartbeats 4000000 in
set_option maxRecDepth 100000 in
theorem tJ5_canEncode (l : Launch) (w : ZW) (L : ZL) (σ : ZS) (p1 : Int32) : zC l w L yJ5_canEncode (ws_ yJ5_canEncode cJ5_canEncode 1 (some .boolean)) 0 0 [.int p1] σ (.returned (some (.int (fJ5_canEncode p1)))) σ := by
  obtain ⟨r, hf⟩ : ∃ r, r = fJ5_canEncode p1 := ⟨_, rfl⟩
  rw [← hf]
  refine zC.of (by decide +kernel) (Nat.le_of_ble_eq_true rfl) ?_
  intro p e s m args below meth c C hnm
  show Z p l e _ s m args below meth c _ w _ _ 1 σ 0 [(0, .int p1)] []
  unfold fJ5_canEncode at hf
  refine z_iload_n C 0 dJ5_canEncode_0 rfl rfl ?_
  obtain ⟨j_1, ej_1, hf⟩ := nmp_ hf
  have hj_1 : j_1 = 0 ∨ j_1 = 1 := by rw [ej_1]; (repeat' split) <;> first | exact Or.inl rfl | exact Or.inr rfl
  have hjj_1 : Z p l e (zRm 0 0 σ) s m args below meth c (zQ below w L σ (.returned (some (.int r))) σ args s) w L (zA w L σ) 1 σ 16 [(0, .int p1)] [.int j_1] := by
    subst hf
    exact z_iret C (b01 hj_1) dJ5_canEncode_16
  replace hf := ej_1
  refine z_if_lt C 15 dJ5_canEncode_1 (by decide) (fun c_2 => ?_) (fun c_2 => ?_)
  · replace hf := ifp_t c_2 hf
    refine z_iconst C 0 dJ5_canEncode_15 (by decide) ?_
    subst hf
    exact hjj_1
  · replace hf := ifp_f c_2 hf
    refine z_iload_n C 0 dJ5_canEncode_4 rfl rfl ?_
    refine z_sipush C 255 dJ5_canEncode_5 (by decide) ?_
    refine z_icmp_gt C 15 dJ5_canEncode_8 (by decide) (fun c_3 => ?_) (fun c_3 => ?_)
    · replace hf := ifp_t c_3 hf
      refine z_iconst C 0 dJ5_canEncode_15 (by decide) ?_
      subst hf
      exact hjj_1
    · replace hf := ifp_f c_3 hf
      refine z_iconst C 1 dJ5_canEncode_11 (by decide) ?_
      refine z_goto C 16 dJ5_canEncode_12 (by decide) ?_
      subst hf
      exact hjj_1
theorem bJ5_canEncode (p1 : Int32) : fJ5_canEncode p1 = 0 ∨ fJ5_canEncode p1 = 1 := by
  unfold fJ5_canEncode
  simp only [nm]
  repeat' split
  all_goals first | exact Or.inl rfl | exact Or.inr rfl
def fJ7_checkIndex (p1 : Int32) (p2 : Int32) : Option Int32 := if p1 < 0 then none else (if p1 < p2 then (some p1) else none)
set_option maxHeartbeats 4000000 in
set_option maxRecDepth 100000 in
theorem tJ7_checkIndex (l : Launch) (w : ZW) (L : ZL) (σ : ZS) {p1 : Int32} {p2 : Int32} {r : Int32} {v : Value} (hv : v = .null ∨ ∃ a, v = .ref a) (hf : fJ7_checkIndex p1 p2 = some r) : zC l w L yJ7_checkIndex (ws_ yJ7_checkIndex cJ7_checkIndex 3 (some .int)) 0 0 [.int p1, .int p2, v] σ (.returned (some (.int r))) σ := by
  refine zC.of (by decide +kernel) (by rcases hv with rfl | ⟨a, rfl⟩ <;> exact Nat.le_of_ble_eq_true rfl) ?_
  intro p e s m args below meth c C hnm
  have hlv : lv_args 0 [.int p1, .int p2, v] = [(0, .int p1), (1, .int p2), (2, v)] := by rcases hv with rfl | ⟨a, rfl⟩ <;> rfl
  rw [hlv]
  unfold fJ7_checkIndex at hf
  refine z_iload_n C 0 dJ7_checkIndex_0 rfl rfl ?_
  refine z_if_lt C 9 dJ7_checkIndex_1 (by decide) (fun c_1 => ?_) (fun c_1 => ?_)
  · replace hf := if_t c_1 hf
    exact none_ hf
  · replace hf := if_f c_1 hf
    refine z_iload_n C 0 dJ7_checkIndex_4 rfl rfl ?_
    refine z_iload_n C 1 dJ7_checkIndex_5 rfl rfl ?_
    refine z_icmp_lt C 16 dJ7_checkIndex_6 (by decide) (fun c_2 => ?_) (fun c_2 => ?_)
    · replace hf := if_t c_2 hf
      refine z_iload_n C 0 dJ7_checkIndex_16 rfl rfl ?_
      obtain rfl := fino_ hf
      exact z_iret C rfl dJ7_checkIndex_17
    · replace hf := if_f c_2 hf
      exact none_ hf
def fJ4_checkIndex (p1 : Int32) (p2 : Int32) : Option Unit := bo (fJ7_checkIndex p1 p2) (fun r_1 => some ())
set_option maxHeartbeats 4000000 in
set_option maxRecDepth 100000 in
theorem tJ4_checkIndex (l : Launch) (w : ZW) (L : ZL) (σ : ZS) {p1 : Int32} {p2 : Int32} (hf : fJ4_checkIndex p1 p2 = some ()) : zC l w L yJ4_checkIndex (ws_ yJ4_checkIndex cJ4_checkIndex 2 none) 1 14 [.int p1, .int p2] σ (.returned none) σ := by
  refine zC.of (by decide +kernel) (Nat.le_of_ble_eq_true rfl) ?_
  intro p e s m args below meth c C hnm
  show Z p l e _ s m args below meth c _ w _ _ 2 σ 0 [(0, .int p1), (1, .int p2)] []
  unfold fJ4_checkIndex at hf
  refine z_iload_n C 0 dJ4_checkIndex_0 rfl rfl ?_
  refine z_iload_n C 1 dJ4_checkIndex_1 rfl rfl ?_
  refine z_ssioobe C q790 dJ4_checkIndex_2 ?_
  obtain ⟨r_1, e_2, hf⟩ := bo_ hf
  refine z_calli C (rest := []) (av := [.int p1, .int p2, zsW w 2]) (zPay.of q1549 q98) (fun H ls hH h2 => zInv_S C (As := [.int p1, .int p2, zsW w 2]) (rest := []) q1547 q1548 q98 (Or.inl rfl) q1549 mh_J7 np_J7_checkIndex dJ4_checkIndex_5) (tJ7_checkIndex l w L σ (zsW_c w 2) e_2) (Nat.le_of_ble_eq_true rfl) (Nat.le_of_ble_eq_true rfl) ?_
  refine z_pop C dJ4_checkIndex_8 rfl ?_
  exact z_vret C dJ4_checkIndex_9
def fJ5_charAt (bk : List Int32) (p2 : Int32) : Option Int32 := bo (fJ4_checkIndex p2 (Int32.ofNat bk.length)) (fun _ => gd (¬ (p2 < 0 ∨ bk.length ≤ p2.toNatClampNeg)) (some ((((bk.getD (p2.toNatClampNeg) 0) &&& 255).toUInt32 % 65536).toInt32)))
set_option maxHeartbeats 4000000 in
set_option maxRecDepth 100000 in
theorem tJ5_charAt (l : Launch) (w : ZW) (L : ZL) (σ : ZS) {bk : List Int32} {p2 : Int32} {ik : Nat} (hbk : zsB[ik]? = some bk) {r : Int32} (hf : fJ5_charAt bk p2 = some r) : zC l w L yJ5_charAt (ws_ yJ5_charAt cJ5_charAt 2 (some .char)) 2 27 [.ref (zsV w ik), .int p2] σ (.returned (some (.int r))) σ := by
  refine zC.of (by decide +kernel) (Nat.le_of_ble_eq_true rfl) ?_
  intro p e s m args below meth c C hnm
  show Z p l e _ s m args below meth c _ w _ _ 2 σ 0 [(0, .ref (zsV w ik)), (1, .int p2)] []
  unfold fJ5_charAt at hf
  refine z_iload_n C 1 dJ5_charAt_0 rfl rfl ?_
  refine z_aload_n C 0 dJ5_charAt_1 rfl rfl ?_
  refine z_kalen C hbk dJ5_charAt_2 ?_
  obtain ⟨⟨⟩, e_2, hf⟩ := bo_ hf
  refine z_callv C (rest := []) (av := [.int p2, .int (Int32.ofNat bk.length)]) (zPay.of q1546 q95) (fun H ls hH h2 => zInv_S C (As := [.int p2, .int (Int32.ofNat bk.length)]) (rest := []) q1544 q1545 q95 (Or.inl rfl) q1546 mh_J4 np_J4_checkIndex dJ5_charAt_3) (tJ4_checkIndex l w L σ e_2) (Nat.le_of_ble_eq_true rfl) (Nat.le_of_ble_eq_true rfl) ?_
  refine z_aload_n C 0 dJ5_charAt_6 rfl rfl ?_
  refine z_iload_n C 1 dJ5_charAt_7 rfl rfl ?_
  obtain ⟨g_3, hf⟩ := gd_ hf
  refine z_kbaload C hbk g_3 dJ5_charAt_8 ?_
  refine z_sipush C 255 dJ5_charAt_9 (by decide) ?_
  refine z_iand C dJ5_charAt_12 ?_
  refine z_i2c C dJ5_charAt_13 ?_
  obtain rfl := fino_ hf
  exact z_iret C (pk_nc _) dJ5_charAt_14
def fJ4_charAt (bk : List Int32) (p1 : Int32) : Option Int32 := bo (fJ5_charAt bk p1) (fun r_2 => gd (r_2 = (r_2.toUInt32 % 65536).toInt32) (some r_2))
set_option maxHeartbeats 4000000 in
set_option maxRecDepth 100000 in
theorem tJ4_charAt (l : Launch) (w : ZW) (L : ZL) (σ : ZS) {bk : List Int32} {p1 : Int32} {ik : Nat} (hbk : zsB[ik]? = some bk) {r : Int32} (hf : fJ4_charAt bk p1 = some r) : zC l w L yJ4_charAt (ws_ yJ4_charAt cJ4_charAt 2 (some .char)) 3 40 [.ref (zsK w ik), .int p1] σ (.returned (some (.int r))) σ := by
  refine zC.of (by decide +kernel) (Nat.le_of_ble_eq_true rfl) ?_
  intro p e s m args below meth c C hnm
  show Z p l e _ s m args below meth c _ w _ _ 2 σ 0 [(0, .ref (zsK w ik)), (1, .int p1)] []
  unfold fJ4_charAt at hf
  refine z_aload_n C 0 dJ4_charAt_0 rfl rfl ?_
  refine z_calli C (rest := []) (av := (.ref (zsK w ik) :: [])) (zPay.of q750 q95) (fun H ls hH h2 => zInv_K C (As := []) (rest := []) hbk h2 q747 q748 q749 (Or.inl rfl) q750 mh_J4 np_J4_isLatin1 dJ4_charAt_1) (tJ4_isLatin1 l w L σ bk hbk) (Nat.le_of_ble_eq_true rfl) (Nat.le_of_ble_eq_true rfl) ?_
  refine z_top (v' := 1) rfl ?_
  refine z_if_eq C 16 dJ4_charAt_4 (by decide) (fun c_1 => absurd c_1 (by decide)) (fun _ => ?_)
  refine z_aload_n C 0 dJ4_charAt_7 rfl rfl ?_
  refine z_kvalue C hbk q1921 dJ4_charAt_8 ?_
  refine z_iload_n C 1 dJ4_charAt_11 rfl rfl ?_
  obtain ⟨r_2, e_3, hf⟩ := bo_ hf
  refine z_calli C (rest := []) (av := [.ref (zsV w ik), .int p1]) (zPay.of q1543 q96) (fun H ls hH h2 => zInv_S C (As := [.ref (zsV w ik), .int p1]) (rest := []) q1541 q1542 q96 (Or.inl rfl) q1543 mh_J5 np_J5_charAt dJ4_charAt_12) (tJ5_charAt l w L σ hbk e_3) (Nat.le_of_ble_eq_true rfl) (Nat.le_of_ble_eq_true rfl) ?_
  obtain ⟨g_4, hf⟩ := gd_ hf
  obtain rfl := fino_ hf
  exact z_iret C (nchar g_4) dJ4_charAt_15
def fJ5_indexOfChar_L7 (bk : List Int32) (y1 : Int32) (y2 : Int32) (y3 : Int32) (y4 : Int32) : Nat → Int32 → Option (Nat × Int32)
  | 0, _ => none
  | n + 1, y5 => if y3 ≤ y5 then (some (1, y5)) else (gd (¬ (y5 < 0 ∨ bk.length ≤ y5.toNatClampNeg)) (if (bk.getD (y5.toNatClampNeg) 0) = y4 then (some (0, y5)) else (nm (y5 + 1) (fun (x5_9 : Int32) => fJ5_indexOfChar_L7 bk y1 y2 y3 y4 n x5_9))))
def fJ5_indexOfChar (σ : ZS) (bk : List Int32) (p2 : Int32) (p3 : Int32) (p4 : Int32) : Option Int32 := nm (p2.toInt8.toInt32) (fun (x4_1 : Int32) => bo (fJ5_indexOfChar_L7 bk p2 p3 p4 x4_1 10000 p3) (fun uu11 => if (uu11.1) = 0 then (some (uu11.2)) else (some (-1))))
set_option maxHeartbeats 4000000 in
set_option maxRecDepth 100000 in
theorem lfJ5_indexOfChar_L7 {p : Program} {l : Launch} {e : Env} {R : Room} {s : State} {m : MethodId} {args : Array Value} {below : List Frame} {meth : Method} {c : Code} {Q : State → Prop} {w : ZW} {A : Nat → Prop} {ret : Option FieldType} {hh : List (Nat × Nat × Nat × Nat)} (C : zCx p s m args meth c w zLm A 6 cJ5_indexOfChar RJ5 ret hh) (hfr : 0 ≤ R.frames) (hlo : 0 ≤ R.locals) (σ : ZS) {ik : Nat} {bk : List Int32} (hbk : zsB[ik]? = some bk) (y1 : Int32) (y2 : Int32) (y3 : Int32) (y4 : Int32) {tg : Nat} {z5 : Int32} (hk0 : tg = 0 → Z p l e R s m args below meth c Q w zLm A 6 σ 22 [(0, .ref (zsV w ik)), (1, .int y1), (2, .int y2), (3, .int y3), (4, .int y4), (5, .int z5)] []) (hk1 : tg = 1 → Z p l e R s m args below meth c Q w zLm A 6 σ 31 [(0, .ref (zsV w ik)), (1, .int y1), (2, .int y2), (3, .int y3), (4, .int y4), (5, .int z5)] []) : ∀ (n : Nat) (y5 : Int32), fJ5_indexOfChar_L7 bk y1 y2 y3 y4 n y5 = some (tg, z5) → Z p l e R s m args below meth c Q w zLm A 6 σ 7 [(0, .ref (zsV w ik)), (1, .int y1), (2, .int y2), (3, .int y3), (4, .int y4), (5, .int y5)] [] := by
  intro n
  induction n with
  | zero => intro y5 hf; exact none_ hf
  | succ n ih =>
    intro y5 hf
    rw [fJ5_indexOfChar_L7] at hf
    refine z_iload C 5 dJ5_indexOfChar_7 rfl ?_
    refine z_iload_n C 3 dJ5_indexOfChar_9 rfl rfl ?_
    refine z_icmp_ge C 31 dJ5_indexOfChar_10 (by decide) (fun c_6 => ?_) (fun c_6 => ?_)
    · replace hf := if_t c_6 hf
      have hf1 := fino_ hf
      simp only [Prod.mk.injEq] at hf1
      obtain ⟨rfl, rfl⟩ := hf1
      exact (hk1 rfl)
    · replace hf := if_f c_6 hf
      refine z_aload_n C 0 dJ5_indexOfChar_13 rfl rfl ?_
      refine z_iload C 5 dJ5_indexOfChar_14 rfl ?_
      obtain ⟨g_7, hf⟩ := gd_ hf
      refine z_kbaload C hbk g_7 dJ5_indexOfChar_16 ?_
      refine z_iload C 4 dJ5_indexOfChar_17 rfl ?_
      refine z_icmp_ne C 25 dJ5_indexOfChar_19 (by decide) (fun c_8 => ?_) (fun c_8 => ?_)
      · replace hf := if_f c_8 hf
        obtain ⟨x5_9, ex5_9, hf⟩ := nmo_ hf
        refine z_iinc C x5_9 5 dJ5_indexOfChar_25 rfl (by rw [ex5_9]; rfl) (by decide) rfl (lv' := [(5, .int x5_9), (0, .ref (zsV w ik)), (1, .int y1), (2, .int y2), (3, .int y3), (4, .int y4)]) ?_
        refine z_goto C 7 dJ5_indexOfChar_28 (by decide) ?_
        exact z_lv [1, 2, 3, 4, 5, 0] rfl (ih _ hf)
      · replace hf := if_t c_8 hf
        have hf1 := fino_ hf
        simp only [Prod.mk.injEq] at hf1
        obtain ⟨rfl, rfl⟩ := hf1
        exact (hk0 rfl)
set_option maxHeartbeats 4000000 in
set_option maxRecDepth 100000 in
theorem tJ5_indexOfChar (l : Launch) (w : ZW) {σ : ZS} {bk : List Int32} {p2 : Int32} {p3 : Int32} {p4 : Int32} {ik : Nat} (hbk : zsB[ik]? = some bk) {r : Int32} (hf : fJ5_indexOfChar σ bk p2 p3 p4 = some r) : zC l w zLm yJ5_indexOfChar (ws_ yJ5_indexOfChar cJ5_indexOfChar 6 (some .int)) 0 0 [.ref (zsV w ik), .int p2, .int p3, .int p4] σ (.returned (some (.int r))) σ := by
  refine zC.of (by decide +kernel) (Nat.le_of_ble_eq_true rfl) ?_
  intro p e s m args below meth c C hnm
  show Z p l e _ s m args below meth c _ w _ _ 6 σ 0 [(0, .ref (zsV w ik)), (1, .int p2), (2, .int p3), (3, .int p4)] []
  unfold fJ5_indexOfChar at hf
  refine z_iload_n C 1 dJ5_indexOfChar_0 rfl rfl ?_
  refine z_i2b C dJ5_indexOfChar_1 ?_
  obtain ⟨x4_1, ex4_1, hf⟩ := nmo_ hf
  refine z_top ex4_1 ?_
  refine z_istore C dJ5_indexOfChar_2 (by decide) rfl (lv' := [(4, .int x4_1), (0, .ref (zsV w ik)), (1, .int p2), (2, .int p3), (3, .int p4)]) ?_
  refine z_iload_n C 3 dJ5_indexOfChar_4 rfl rfl ?_
  refine z_istore C dJ5_indexOfChar_5 (by decide) rfl (lv' := [(5, .int p3), (4, .int x4_1), (0, .ref (zsV w ik)), (1, .int p2), (2, .int p3), (3, .int p4)]) ?_
  obtain ⟨⟨tg_13, x5_10⟩, e_12, hf⟩ := bo_ hf
  try dsimp only at hf
  refine z_lv (lv' := [(0, .ref (zsV w ik)), (1, .int p2), (2, .int p3), (3, .int p4), (4, .int x4_1), (5, .int p3)]) [2, 3, 4, 5, 1, 0] rfl ?_
  refine lfJ5_indexOfChar_L7 C (Nat.le_of_ble_eq_true rfl) (Nat.le_of_ble_eq_true rfl) σ hbk p2 p3 p4 x4_1 (fun ht0 => ?_) (fun ht1 => ?_) _ _ e_12
  · replace hf := if_t ht0 hf
    refine z_iload C 5 dJ5_indexOfChar_22 rfl ?_
    obtain rfl := fino_ hf
    exact z_iret C rfl dJ5_indexOfChar_24
  · replace hf := if_f (by rw [ht1]; decide) hf; skip
    refine z_iconst C (-1) dJ5_indexOfChar_31 (by decide) ?_
    obtain rfl := fino_ hf
    exact z_iret C rfl dJ5_indexOfChar_32
def fJ5_indexOf (σ : ZS) (bk : List Int32) (p2 : Int32) (p3 : Int32) (p4 : Int32) : Option Int32 := if (fJ5_canEncode p2) = 0 then (some (-1)) else (nm (fJ3_max p3 0) (fun (x2_2 : Int32) => nm (fJ3_min p4 (Int32.ofNat bk.length)) (fun (x3_3 : Int32) => if x2_2 < x3_3 then (bo (fJ5_indexOfChar σ bk p2 x2_2 x3_3) (fun r_5 => some r_5)) else (some (-1)))))
set_option maxHeartbeats 4000000 in
set_option maxRecDepth 100000 in
theorem tJ5_indexOf (l : Launch) (w : ZW) {σ : ZS} {bk : List Int32} {p2 : Int32} {p3 : Int32} {p4 : Int32} {ik : Nat} (hbk : zsB[ik]? = some bk) {r : Int32} (hf : fJ5_indexOf σ bk p2 p3 p4 = some r) : zC l w zLm yJ5_indexOf (ws_ yJ5_indexOf cJ5_indexOf 4 (some .int)) 1 17 [.ref (zsV w ik), .int p2, .int p3, .int p4] σ (.returned (some (.int r))) σ := by
  refine zC.of (by decide +kernel) (Nat.le_of_ble_eq_true rfl) ?_
  intro p e s m args below meth c C hnm
  show Z p l e _ s m args below meth c _ w _ _ 4 σ 0 [(0, .ref (zsV w ik)), (1, .int p2), (2, .int p3), (3, .int p4)] []
  unfold fJ5_indexOf at hf
  refine z_iload_n C 1 dJ5_indexOf_0 rfl rfl ?_
  refine z_calli C (rest := []) (av := [.int p2]) (zPay.of q766 q96) (fun H ls hH h2 => zInv_S C (As := [.int p2]) (rest := []) q764 q765 q96 (Or.inl rfl) q766 mh_J5 np_J5_canEncode dJ5_indexOf_1) (tJ5_canEncode l w zLm σ p2) (Nat.le_of_ble_eq_true rfl) (Nat.le_of_ble_eq_true rfl) ?_
  refine z_if_ne C 9 dJ5_indexOf_4 (by decide) (fun c_1 => ?_) (fun c_1 => ?_)
  · replace hf := if_f c_1 hf
    refine z_iload_n C 2 dJ5_indexOf_9 rfl rfl ?_
    refine z_iconst C 0 dJ5_indexOf_10 (by decide) ?_
    refine z_calli C (rest := []) (av := [.int p3, .int 0]) (zPay.of q390 q84) (fun H ls hH h2 => zInv_S C (As := [.int p3, .int 0]) (rest := []) q767 q389 q84 (Or.inl rfl) q390 mh_J3 np_J3_max dJ5_indexOf_11) (tJ3_max l w zLm σ p3 0) (Nat.le_of_ble_eq_true rfl) (Nat.le_of_ble_eq_true rfl) ?_
    obtain ⟨x2_2, ex2_2, hf⟩ := nmo_ hf
    refine z_top ex2_2 ?_
    refine z_istore_n C dJ5_indexOf_14 rfl (by decide) rfl (lv' := [(2, .int x2_2), (0, .ref (zsV w ik)), (1, .int p2), (3, .int p4)]) ?_
    refine z_iload_n C 3 dJ5_indexOf_15 rfl rfl ?_
    refine z_aload_n C 1 dJ5_indexOf_16 rfl rfl ?_
    refine z_kalen C hbk dJ5_indexOf_17 ?_
    refine z_calli C (rest := []) (av := [.int p4, .int (Int32.ofNat bk.length)]) (zPay.of q424 q84) (fun H ls hH h2 => zInv_S C (As := [.int p4, .int (Int32.ofNat bk.length)]) (rest := []) q768 q423 q84 (Or.inl rfl) q424 mh_J3 np_J3_min dJ5_indexOf_18) (tJ3_min l w zLm σ p4 (Int32.ofNat bk.length)) (Nat.le_of_ble_eq_true rfl) (Nat.le_of_ble_eq_true rfl) ?_
    obtain ⟨x3_3, ex3_3, hf⟩ := nmo_ hf
    refine z_top ex3_3 ?_
    refine z_istore_n C dJ5_indexOf_21 rfl (by decide) rfl (lv' := [(3, .int x3_3), (2, .int x2_2), (0, .ref (zsV w ik)), (1, .int p2)]) ?_
    refine z_iload_n C 1 dJ5_indexOf_22 rfl rfl ?_
    refine z_iload_n C 0 dJ5_indexOf_23 rfl rfl ?_
    refine z_icmp_lt C 29 dJ5_indexOf_24 (by decide) (fun c_4 => ?_) (fun c_4 => ?_)
    · replace hf := if_t c_4 hf
      refine z_aload_n C 2 dJ5_indexOf_29 rfl rfl ?_
      refine z_iload_n C 3 dJ5_indexOf_30 rfl rfl ?_
      refine z_iload_n C 1 dJ5_indexOf_31 rfl rfl ?_
      refine z_iload_n C 0 dJ5_indexOf_32 rfl rfl ?_
      obtain ⟨r_5, e_6, hf⟩ := bo_ hf
      refine z_calli C (rest := []) (av := [.ref (zsV w ik), .int p2, .int x2_2, .int x3_3]) (zPay.of q771 q96) (fun H ls hH h2 => zInv_S C (As := [.ref (zsV w ik), .int p2, .int x2_2, .int x3_3]) (rest := []) q769 q770 q96 (Or.inl rfl) q771 mh_J5 np_J5_indexOfChar dJ5_indexOf_33) (tJ5_indexOfChar l w hbk e_6) (Nat.le_of_ble_eq_true rfl) (Nat.le_of_ble_eq_true rfl) ?_
      obtain rfl := fino_ hf
      exact z_iret C rfl dJ5_indexOf_36
    · replace hf := if_f c_4 hf
      refine z_iconst C (-1) dJ5_indexOf_27 (by decide) ?_
      obtain rfl := fino_ hf
      exact z_iret C rfl dJ5_indexOf_28
  · replace hf := if_t c_1 hf
    refine z_iconst C (-1) dJ5_indexOf_7 (by decide) ?_
    obtain rfl := fino_ hf
    exact z_iret C rfl dJ5_indexOf_8
def fJ4_indexOf_2 (σ : ZS) (bk : List Int32) (p1 : Int32) (p2 : Int32) : Option Int32 := bo (fJ5_indexOf σ bk p1 p2 (fJ4_length bk)) (fun r_2 => some r_2)
set_option maxHeartbeats 4000000 in
set_option maxRecDepth 100000 in
theorem tJ4_indexOf_2 (l : Launch) (w : ZW) {σ : ZS} {bk : List Int32} {p1 : Int32} {p2 : Int32} {ik : Nat} (hbk : zsB[ik]? = some bk) {r : Int32} (hf : fJ4_indexOf_2 σ bk p1 p2 = some r) : zC l w zLm yJ4_indexOf_2 (ws_ yJ4_indexOf_2 cJ4_indexOf_2 3 (some .int)) 2 32 [.ref (zsK w ik), .int p1, .int p2] σ (.returned (some (.int r))) σ := by
  refine zC.of (by decide +kernel) (Nat.le_of_ble_eq_true rfl) ?_
  intro p e s m args below meth c C hnm
  show Z p l e _ s m args below meth c _ w _ _ 3 σ 0 [(0, .ref (zsK w ik)), (1, .int p1), (2, .int p2)] []
  unfold fJ4_indexOf_2 at hf
  refine z_aload_n C 0 dJ4_indexOf_2_0 rfl rfl ?_
  refine z_calli C (rest := []) (av := (.ref (zsK w ik) :: [])) (zPay.of q750 q95) (fun H ls hH h2 => zInv_K C (As := []) (rest := []) hbk h2 q747 q748 q749 (Or.inl rfl) q750 mh_J4 np_J4_isLatin1 dJ4_indexOf_2_1) (tJ4_isLatin1 l w zLm σ bk hbk) (Nat.le_of_ble_eq_true rfl) (Nat.le_of_ble_eq_true rfl) ?_
  refine z_top (v' := 1) rfl ?_
  refine z_if_eq C 23 dJ4_indexOf_2_4 (by decide) (fun c_1 => absurd c_1 (by decide)) (fun _ => ?_)
  refine z_aload_n C 0 dJ4_indexOf_2_7 rfl rfl ?_
  refine z_kvalue C hbk q1921 dJ4_indexOf_2_8 ?_
  refine z_iload_n C 1 dJ4_indexOf_2_11 rfl rfl ?_
  refine z_iload_n C 2 dJ4_indexOf_2_12 rfl rfl ?_
  refine z_aload_n C 0 dJ4_indexOf_2_13 rfl rfl ?_
  refine z_calli C (rest := [.int p2, .int p1, .ref (zsV w ik)]) (av := (.ref (zsK w ik) :: [])) (zPay.of q756 q95) (fun H ls hH h2 => zInv_K C (As := []) (rest := [.int p2, .int p1, .ref (zsV w ik)]) hbk h2 q753 q754 q755 (Or.inl rfl) q756 mh_J4 np_J4_length dJ4_indexOf_2_14) (tJ4_length l w zLm σ bk hbk) (Nat.le_of_ble_eq_true rfl) (Nat.le_of_ble_eq_true rfl) ?_
  obtain ⟨r_2, e_3, hf⟩ := bo_ hf
  refine z_calli C (rest := []) (av := [.ref (zsV w ik), .int p1, .int p2, .int (fJ4_length bk)]) (zPay.of q763 q96) (fun H ls hH h2 => zInv_S C (As := [.ref (zsV w ik), .int p1, .int p2, .int (fJ4_length bk)]) (rest := []) q761 q762 q96 (Or.inl rfl) q763 mh_J5 np_J5_indexOf dJ4_indexOf_2_17) (tJ5_indexOf l w hbk e_3) (Nat.le_of_ble_eq_true rfl) (Nat.le_of_ble_eq_true rfl) ?_
  refine z_goto C 36 dJ4_indexOf_2_20 (by decide) ?_
  obtain rfl := fino_ hf
  exact z_iret C rfl dJ4_indexOf_2_36
def fJ4_indexOf (σ : ZS) (bk : List Int32) (p1 : Int32) : Option Int32 := bo (fJ4_indexOf_2 σ bk p1 0) (fun r_1 => some r_1)
set_option maxHeartbeats 4000000 in
set_option maxRecDepth 100000 in
theorem tJ4_indexOf (l : Launch) (w : ZW) {σ : ZS} {bk : List Int32} {p1 : Int32} {ik : Nat} (hbk : zsB[ik]? = some bk) {r : Int32} (hf : fJ4_indexOf σ bk p1 = some r) : zC l w zLm yJ4_indexOf (ws_ yJ4_indexOf cJ4_indexOf 2 (some .int)) 3 46 [.ref (zsK w ik), .int p1] σ (.returned (some (.int r))) σ := by
  refine zC.of (by decide +kernel) (Nat.le_of_ble_eq_true rfl) ?_
  intro p e s m args below meth c C hnm
  show Z p l e _ s m args below meth c _ w _ _ 2 σ 0 [(0, .ref (zsK w ik)), (1, .int p1)] []
  unfold fJ4_indexOf at hf
  refine z_aload_n C 0 dJ4_indexOf_0 rfl rfl ?_
  refine z_iload_n C 1 dJ4_indexOf_1 rfl rfl ?_
  refine z_iconst C 0 dJ4_indexOf_2 (by decide) ?_
  obtain ⟨r_1, e_2, hf⟩ := bo_ hf
  refine z_calli C (rest := []) (av := (.ref (zsK w ik) :: [.int p1, .int 0])) (zPay.of q746 q95) (fun H ls hH h2 => zInv_K C (As := [.int p1, .int 0]) (rest := []) hbk h2 q743 q744 q745 (Or.inl rfl) q746 mh_J4 np_J4_indexOf_2 dJ4_indexOf_3) (tJ4_indexOf_2 l w hbk e_2) (Nat.le_of_ble_eq_true rfl) (Nat.le_of_ble_eq_true rfl) ?_
  obtain rfl := fino_ hf
  exact z_iret C rfl dJ4_indexOf_6
def fJ9_bitCount (p1 : Int32) : Int32 := nm (p1 - (((p1.toUInt32 >>> ((1 : Int32).toUInt32 &&& Int32.toUInt32 31)).toInt32) &&& 1431655765)) (fun (x0_1 : Int32) => nm ((x0_1 &&& 858993459) + (((x0_1.toUInt32 >>> ((2 : Int32).toUInt32 &&& Int32.toUInt32 31)).toInt32) &&& 858993459)) (fun (x0_2 : Int32) => nm ((x0_2 + ((x0_2.toUInt32 >>> ((4 : Int32).toUInt32 &&& Int32.toUInt32 31)).toInt32)) &&& 252645135) (fun (x0_3 : Int32) => nm (x0_3 + ((x0_3.toUInt32 >>> ((8 : Int32).toUInt32 &&& Int32.toUInt32 31)).toInt32)) (fun (x0_4 : Int32) => nm (x0_4 + ((x0_4.toUInt32 >>> ((16 : Int32).toUInt32 &&& Int32.toUInt32 31)).toInt32)) (fun (x0_5 : Int32) => x0_5 &&& 63)))))
set_option maxHeartbeats 4000000 in
set_option maxRecDepth 100000 in
theorem tJ9_bitCount (l : Launch) (w : ZW) (L : ZL) (σ : ZS) (p1 : Int32) : zC l w L yJ9_bitCount (ws_ yJ9_bitCount cJ9_bitCount 1 (some .int)) 0 0 [.int p1] σ (.returned (some (.int (fJ9_bitCount p1)))) σ := by
  obtain ⟨r, hf⟩ : ∃ r, r = fJ9_bitCount p1 := ⟨_, rfl⟩
  rw [← hf]
  refine zC.of (by decide +kernel) (Nat.le_of_ble_eq_true rfl) ?_
  intro p e s m args below meth c C hnm
  show Z p l e _ s m args below meth c _ w _ _ 1 σ 0 [(0, .int p1)] []
  unfold fJ9_bitCount at hf
  refine z_iload_n C 0 dJ9_bitCount_0 rfl rfl ?_
  refine z_iload_n C 0 dJ9_bitCount_1 rfl rfl ?_
  refine z_iconst C 1 dJ9_bitCount_2 (by decide) ?_
  refine z_iushr C dJ9_bitCount_3 ?_
  refine z_ldc_w C dJ9_bitCount_4 q1053 ?_
  refine z_iand C dJ9_bitCount_7 ?_
  refine z_isub C dJ9_bitCount_8 ?_
  obtain ⟨x0_1, ex0_1, hf⟩ := nmp_ hf
  refine z_top ex0_1 ?_
  refine z_istore_n C dJ9_bitCount_9 rfl (by decide) rfl (lv' := [(0, .int x0_1)]) ?_
  refine z_iload_n C 0 dJ9_bitCount_10 rfl rfl ?_
  refine z_ldc_w C dJ9_bitCount_11 q1054 ?_
  refine z_iand C dJ9_bitCount_14 ?_
  refine z_iload_n C 0 dJ9_bitCount_15 rfl rfl ?_
  refine z_iconst C 2 dJ9_bitCount_16 (by decide) ?_
  refine z_iushr C dJ9_bitCount_17 ?_
  refine z_ldc_w C dJ9_bitCount_18 q1054 ?_
  refine z_iand C dJ9_bitCount_21 ?_
  refine z_iadd C dJ9_bitCount_22 ?_
  obtain ⟨x0_2, ex0_2, hf⟩ := nmp_ hf
  refine z_top ex0_2 ?_
  refine z_istore_n C dJ9_bitCount_23 rfl (by decide) rfl (lv' := [(0, .int x0_2)]) ?_
  refine z_iload_n C 0 dJ9_bitCount_24 rfl rfl ?_
  refine z_iload_n C 0 dJ9_bitCount_25 rfl rfl ?_
  refine z_iconst C 4 dJ9_bitCount_26 (by decide) ?_
  refine z_iushr C dJ9_bitCount_27 ?_
  refine z_iadd C dJ9_bitCount_28 ?_
  refine z_ldc_w C dJ9_bitCount_29 q1055 ?_
  refine z_iand C dJ9_bitCount_32 ?_
  obtain ⟨x0_3, ex0_3, hf⟩ := nmp_ hf
  refine z_top ex0_3 ?_
  refine z_istore_n C dJ9_bitCount_33 rfl (by decide) rfl (lv' := [(0, .int x0_3)]) ?_
  refine z_iload_n C 0 dJ9_bitCount_34 rfl rfl ?_
  refine z_iload_n C 0 dJ9_bitCount_35 rfl rfl ?_
  refine z_bipush C 8 dJ9_bitCount_36 (by decide) ?_
  refine z_iushr C dJ9_bitCount_38 ?_
  refine z_iadd C dJ9_bitCount_39 ?_
  obtain ⟨x0_4, ex0_4, hf⟩ := nmp_ hf
  refine z_top ex0_4 ?_
  refine z_istore_n C dJ9_bitCount_40 rfl (by decide) rfl (lv' := [(0, .int x0_4)]) ?_
  refine z_iload_n C 0 dJ9_bitCount_41 rfl rfl ?_
  refine z_iload_n C 0 dJ9_bitCount_42 rfl rfl ?_
  refine z_bipush C 16 dJ9_bitCount_43 (by decide) ?_
  refine z_iushr C dJ9_bitCount_45 ?_
  refine z_iadd C dJ9_bitCount_46 ?_
  obtain ⟨x0_5, ex0_5, hf⟩ := nmp_ hf
  refine z_top ex0_5 ?_
  refine z_istore_n C dJ9_bitCount_47 rfl (by decide) rfl (lv' := [(0, .int x0_5)]) ?_
  refine z_iload_n C 0 dJ9_bitCount_48 rfl rfl ?_
  refine z_bipush C 63 dJ9_bitCount_49 (by decide) ?_
  refine z_iand C dJ9_bitCount_51 ?_
  subst hf
  exact z_iret C rfl dJ9_bitCount_52
def fJ9_numberOfTrailingZeros (p1 : Int32) : Option Int32 := nm ((p1 ^^^ (-1)) &&& (p1 - 1)) (fun (x0_1 : Int32) => if 0 < x0_1 then (bo (if x0_1 ≤ 65536 then (some (x0_1, 1)) else (nm (1 + 16) (fun (x1_29 : Int32) => nm ((x0_1.toUInt32 >>> ((16 : Int32).toUInt32 &&& Int32.toUInt32 31)).toInt32) (fun (x0_30 : Int32) => some (x0_30, x1_29))))) (fun (uu5 : Int32 × Int32) => bo (if (uu5.1) ≤ 256 then (some ((uu5.1), (uu5.2))) else (nm ((uu5.2) + 8) (fun (x1_26 : Int32) => nm (((uu5.1).toUInt32 >>> ((8 : Int32).toUInt32 &&& Int32.toUInt32 31)).toInt32) (fun (x0_27 : Int32) => some (x0_27, x1_26))))) (fun (uu9 : Int32 × Int32) => bo (if (uu9.1) ≤ 16 then (some ((uu9.1), (uu9.2))) else (nm ((uu9.2) + 4) (fun (x1_23 : Int32) => nm (((uu9.1).toUInt32 >>> ((4 : Int32).toUInt32 &&& Int32.toUInt32 31)).toInt32) (fun (x0_24 : Int32) => some (x0_24, x1_23))))) (fun (uu13 : Int32 × Int32) => bo (if (uu13.1) ≤ 4 then (some ((uu13.1), (uu13.2))) else (nm ((uu13.2) + 2) (fun (x1_20 : Int32) => nm (((uu13.1).toUInt32 >>> ((2 : Int32).toUInt32 &&& Int32.toUInt32 31)).toInt32) (fun (x0_21 : Int32) => some (x0_21, x1_20))))) (fun (uu17 : Int32 × Int32) => some ((uu17.2) + (((uu17.1).toUInt32 >>> ((1 : Int32).toUInt32 &&& Int32.toUInt32 31)).toInt32))))))) else (some (x0_1 &&& 32)))
set_option maxHeartbeats 4000000 in
set_option maxRecDepth 100000 in
theorem tJ9_numberOfTrailingZeros (l : Launch) (w : ZW) (L : ZL) (σ : ZS) {p1 : Int32} {r : Int32} (hf : fJ9_numberOfTrailingZeros p1 = some r) : zC l w L yJ9_numberOfTrailingZeros (ws_ yJ9_numberOfTrailingZeros cJ9_numberOfTrailingZeros 2 (some .int)) 0 0 [.int p1] σ (.returned (some (.int r))) σ := by
  refine zC.of (by decide +kernel) (Nat.le_of_ble_eq_true rfl) ?_
  intro p e s m args below meth c C hnm
  show Z p l e _ s m args below meth c _ w _ _ 2 σ 0 [(0, .int p1)] []
  unfold fJ9_numberOfTrailingZeros at hf
  refine z_iload_n C 0 dJ9_numberOfTrailingZeros_0 rfl rfl ?_
  refine z_iconst C (-1) dJ9_numberOfTrailingZeros_1 (by decide) ?_
  refine z_ixor C dJ9_numberOfTrailingZeros_2 ?_
  refine z_iload_n C 0 dJ9_numberOfTrailingZeros_3 rfl rfl ?_
  refine z_iconst C 1 dJ9_numberOfTrailingZeros_4 (by decide) ?_
  refine z_isub C dJ9_numberOfTrailingZeros_5 ?_
  refine z_iand C dJ9_numberOfTrailingZeros_6 ?_
  obtain ⟨x0_1, ex0_1, hf⟩ := nmo_ hf
  refine z_top ex0_1 ?_
  refine z_istore_n C dJ9_numberOfTrailingZeros_7 rfl (by decide) rfl (lv' := [(0, .int x0_1)]) ?_
  refine z_iload_n C 0 dJ9_numberOfTrailingZeros_8 rfl rfl ?_
  refine z_if_gt C 17 dJ9_numberOfTrailingZeros_9 (by decide) (fun c_2 => ?_) (fun c_2 => ?_)
  · replace hf := if_t c_2 hf
    refine z_iconst C 1 dJ9_numberOfTrailingZeros_17 (by decide) ?_
    refine z_istore_n C dJ9_numberOfTrailingZeros_18 rfl (by decide) rfl (lv' := [(1, .int 1), (0, .int x0_1)]) ?_
    refine z_iload_n C 1 dJ9_numberOfTrailingZeros_19 rfl rfl ?_
    refine z_ldc_w C dJ9_numberOfTrailingZeros_20 q988 ?_
    obtain ⟨⟨x0_3, x1_4⟩, e_6, hf⟩ := bo_ hf
    try dsimp only at hf
    have hje_6 : Z p l e (zRm 0 0 σ) s m args below meth c (zQ below w L σ (.returned (some (.int r))) σ args s) w L (zA w L σ) 2 σ 34 [(0, .int x0_3), (1, .int x1_4)] [] := by
      refine z_iload_n C 0 dJ9_numberOfTrailingZeros_34 rfl rfl ?_
      refine z_sipush C 256 dJ9_numberOfTrailingZeros_35 (by decide) ?_
      obtain ⟨⟨x0_7, x1_8⟩, e_10, hf⟩ := bo_ hf
      try dsimp only at hf
      have hje_10 : Z p l e (zRm 0 0 σ) s m args below meth c (zQ below w L σ (.returned (some (.int r))) σ args s) w L (zA w L σ) 2 σ 49 [(0, .int x0_7), (1, .int x1_8)] [] := by
        refine z_iload_n C 0 dJ9_numberOfTrailingZeros_49 rfl rfl ?_
        refine z_bipush C 16 dJ9_numberOfTrailingZeros_50 (by decide) ?_
        obtain ⟨⟨x0_11, x1_12⟩, e_14, hf⟩ := bo_ hf
        try dsimp only at hf
        have hje_14 : Z p l e (zRm 0 0 σ) s m args below meth c (zQ below w L σ (.returned (some (.int r))) σ args s) w L (zA w L σ) 2 σ 62 [(0, .int x0_11), (1, .int x1_12)] [] := by
          refine z_iload_n C 0 dJ9_numberOfTrailingZeros_62 rfl rfl ?_
          refine z_iconst C 4 dJ9_numberOfTrailingZeros_63 (by decide) ?_
          obtain ⟨⟨x0_15, x1_16⟩, e_18, hf⟩ := bo_ hf
          try dsimp only at hf
          have hje_18 : Z p l e (zRm 0 0 σ) s m args below meth c (zQ below w L σ (.returned (some (.int r))) σ args s) w L (zA w L σ) 2 σ 74 [(0, .int x0_15), (1, .int x1_16)] [] := by
            refine z_iload_n C 1 dJ9_numberOfTrailingZeros_74 rfl rfl ?_
            refine z_iload_n C 0 dJ9_numberOfTrailingZeros_75 rfl rfl ?_
            refine z_iconst C 1 dJ9_numberOfTrailingZeros_76 (by decide) ?_
            refine z_iushr C dJ9_numberOfTrailingZeros_77 ?_
            refine z_iadd C dJ9_numberOfTrailingZeros_78 ?_
            obtain rfl := fino_ hf
            exact z_iret C rfl dJ9_numberOfTrailingZeros_79
          replace hf := e_18
          refine z_icmp_le C 74 dJ9_numberOfTrailingZeros_64 (by decide) (fun c_19 => ?_) (fun c_19 => ?_)
          · replace hf := if_t c_19 hf
            have hf1 := fino_ hf
            simp only [Prod.mk.injEq] at hf1
            obtain ⟨rfl, rfl⟩ := hf1
            exact hje_18
          · replace hf := if_f c_19 hf
            obtain ⟨x1_20, ex1_20, hf⟩ := nmo_ hf
            refine z_iinc C x1_20 1 dJ9_numberOfTrailingZeros_67 rfl (by rw [ex1_20]; rfl) (by decide) rfl (lv' := [(1, .int x1_20), (0, .int x0_11)]) ?_
            refine z_iload_n C 1 dJ9_numberOfTrailingZeros_70 rfl rfl ?_
            refine z_iconst C 2 dJ9_numberOfTrailingZeros_71 (by decide) ?_
            refine z_iushr C dJ9_numberOfTrailingZeros_72 ?_
            obtain ⟨x0_21, ex0_21, hf⟩ := nmo_ hf
            refine z_top ex0_21 ?_
            refine z_istore_n C dJ9_numberOfTrailingZeros_73 rfl (by decide) rfl (lv' := [(0, .int x0_21), (1, .int x1_20)]) ?_
            have hf1 := fino_ hf
            simp only [Prod.mk.injEq] at hf1
            obtain ⟨rfl, rfl⟩ := hf1
            exact hje_18
        replace hf := e_14
        refine z_icmp_le C 62 dJ9_numberOfTrailingZeros_52 (by decide) (fun c_22 => ?_) (fun c_22 => ?_)
        · replace hf := if_t c_22 hf
          have hf1 := fino_ hf
          simp only [Prod.mk.injEq] at hf1
          obtain ⟨rfl, rfl⟩ := hf1
          exact hje_14
        · replace hf := if_f c_22 hf
          obtain ⟨x1_23, ex1_23, hf⟩ := nmo_ hf
          refine z_iinc C x1_23 1 dJ9_numberOfTrailingZeros_55 rfl (by rw [ex1_23]; rfl) (by decide) rfl (lv' := [(1, .int x1_23), (0, .int x0_7)]) ?_
          refine z_iload_n C 1 dJ9_numberOfTrailingZeros_58 rfl rfl ?_
          refine z_iconst C 4 dJ9_numberOfTrailingZeros_59 (by decide) ?_
          refine z_iushr C dJ9_numberOfTrailingZeros_60 ?_
          obtain ⟨x0_24, ex0_24, hf⟩ := nmo_ hf
          refine z_top ex0_24 ?_
          refine z_istore_n C dJ9_numberOfTrailingZeros_61 rfl (by decide) rfl (lv' := [(0, .int x0_24), (1, .int x1_23)]) ?_
          have hf1 := fino_ hf
          simp only [Prod.mk.injEq] at hf1
          obtain ⟨rfl, rfl⟩ := hf1
          exact hje_14
      replace hf := e_10
      refine z_icmp_le C 49 dJ9_numberOfTrailingZeros_38 (by decide) (fun c_25 => ?_) (fun c_25 => ?_)
      · replace hf := if_t c_25 hf
        have hf1 := fino_ hf
        simp only [Prod.mk.injEq] at hf1
        obtain ⟨rfl, rfl⟩ := hf1
        exact hje_10
      · replace hf := if_f c_25 hf
        obtain ⟨x1_26, ex1_26, hf⟩ := nmo_ hf
        refine z_iinc C x1_26 1 dJ9_numberOfTrailingZeros_41 rfl (by rw [ex1_26]; rfl) (by decide) rfl (lv' := [(1, .int x1_26), (0, .int x0_3)]) ?_
        refine z_iload_n C 1 dJ9_numberOfTrailingZeros_44 rfl rfl ?_
        refine z_bipush C 8 dJ9_numberOfTrailingZeros_45 (by decide) ?_
        refine z_iushr C dJ9_numberOfTrailingZeros_47 ?_
        obtain ⟨x0_27, ex0_27, hf⟩ := nmo_ hf
        refine z_top ex0_27 ?_
        refine z_istore_n C dJ9_numberOfTrailingZeros_48 rfl (by decide) rfl (lv' := [(0, .int x0_27), (1, .int x1_26)]) ?_
        have hf1 := fino_ hf
        simp only [Prod.mk.injEq] at hf1
        obtain ⟨rfl, rfl⟩ := hf1
        exact hje_10
    replace hf := e_6
    refine z_icmp_le C 34 dJ9_numberOfTrailingZeros_23 (by decide) (fun c_28 => ?_) (fun c_28 => ?_)
    · replace hf := if_t c_28 hf
      have hf1 := fino_ hf
      simp only [Prod.mk.injEq] at hf1
      obtain ⟨rfl, rfl⟩ := hf1
      exact z_lv [1, 0] rfl hje_6
    · replace hf := if_f c_28 hf
      obtain ⟨x1_29, ex1_29, hf⟩ := nmo_ hf
      refine z_iinc C x1_29 0 dJ9_numberOfTrailingZeros_26 rfl (by rw [ex1_29]; rfl) (by decide) rfl (lv' := [(1, .int x1_29), (0, .int x0_1)]) ?_
      refine z_iload_n C 1 dJ9_numberOfTrailingZeros_29 rfl rfl ?_
      refine z_bipush C 16 dJ9_numberOfTrailingZeros_30 (by decide) ?_
      refine z_iushr C dJ9_numberOfTrailingZeros_32 ?_
      obtain ⟨x0_30, ex0_30, hf⟩ := nmo_ hf
      refine z_top ex0_30 ?_
      refine z_istore_n C dJ9_numberOfTrailingZeros_33 rfl (by decide) rfl (lv' := [(0, .int x0_30), (1, .int x1_29)]) ?_
      have hf1 := fino_ hf
      simp only [Prod.mk.injEq] at hf1
      obtain ⟨rfl, rfl⟩ := hf1
      exact hje_6
  · replace hf := if_f c_2 hf
    refine z_iload_n C 0 dJ9_numberOfTrailingZeros_12 rfl rfl ?_
    refine z_bipush C 32 dJ9_numberOfTrailingZeros_13 (by decide) ?_
    refine z_iand C dJ9_numberOfTrailingZeros_15 ?_
    obtain rfl := fino_ hf
    exact z_iret C rfl dJ9_numberOfTrailingZeros_16
def fX6_cellAt (p1 : Int32) (p2 : Int32) : Int32 := (9 + (3 * p1)) + p2
set_option maxHeartbeats 4000000 in
set_option maxRecDepth 100000 in
theorem tX6_cellAt (l : Launch) (w : ZW) (L : ZL) (σ : ZS) (p1 : Int32) (p2 : Int32) : zC l w L yX6_cellAt (ws_ yX6_cellAt cX6_cellAt 2 (some .int)) 0 0 [.int p1, .int p2] σ (.returned (some (.int (fX6_cellAt p1 p2)))) σ := by
  obtain ⟨r, hf⟩ : ∃ r, r = fX6_cellAt p1 p2 := ⟨_, rfl⟩
  rw [← hf]
  refine zC.of (plainFor_of_name (by decide)) (Nat.le_of_ble_eq_true rfl) ?_
  intro p e s m args below meth c C hnm
  show Z p l e _ s m args below meth c _ w _ _ 2 σ 0 [(0, .int p1), (1, .int p2)] []
  unfold fX6_cellAt at hf
  refine z_bipush C 9 dX6_cellAt_0 (by decide) ?_
  refine z_iconst C 3 dX6_cellAt_2 (by decide) ?_
  refine z_iload_n C 0 dX6_cellAt_3 rfl rfl ?_
  refine z_imul C dX6_cellAt_4 ?_
  refine z_iadd C dX6_cellAt_5 ?_
  refine z_iload_n C 1 dX6_cellAt_6 rfl rfl ?_
  refine z_iadd C dX6_cellAt_7 ?_
  subst hf
  exact z_iret C rfl dX6_cellAt_8
def fX6_forgetDepths_L2 : Nat → Int32 → ZS → Option ((Int32) × ZS)
  | 0, _, _ => none
  | n + 1, y1, σ => if 8000 ≤ y1 then (some (y1, σ)) else (gd (¬ (y1 < 0 ∨ 8000 ≤ y1.toNatClampNeg)) (nm (y1 + 1) (fun (x1_3 : Int32) => fX6_forgetDepths_L2 n x1_3 (sI σ 6 (y1.toNatClampNeg) 0))))
def fX6_forgetDepths (σ : ZS) : Option (Unit × ZS) := bd (fX6_forgetDepths_L2 10000 0 σ) (fun x1_4 σ_5 => some ((), σ_5))
set_option maxHeartbeats 4000000 in
set_option maxRecDepth 100000 in
theorem lfX6_forgetDepths_L2 {p : Program} {l : Launch} {e : Env} {R : Room} {s : State} {m : MethodId} {args : Array Value} {below : List Frame} {meth : Method} {c : Code} {Q : State → Prop} {w : ZW} {A : Nat → Prop} {ret : Option FieldType} {hh : List (Nat × Nat × Nat × Nat)} (C : zCx p s m args meth c w zLm A 2 cX6_forgetDepths RX6 ret hh) (hfr : 0 ≤ R.frames) (hlo : 0 ≤ R.locals) {z1 : Int32} {σ' : ZS} (hk : Z p l e R s m args below meth c Q w zLm A 2 σ' 22 [(0, .ref (w.2.2 0)), (1, .int z1)] []) : ∀ (n : Nat) (y1 : Int32) (σ : ZS), fX6_forgetDepths_L2 n y1 σ = some (z1, σ') → Z p l e R s m args below meth c Q w zLm A 2 σ 2 [(0, .ref (w.2.2 0)), (1, .int y1)] [] := by
  intro n
  induction n with
  | zero => intro y1 σ hf; exact none_ hf
  | succ n ih =>
    intro y1 σ hf
    rw [fX6_forgetDepths_L2] at hf
    refine z_iload_n C 1 dX6_forgetDepths_2 rfl rfl ?_
    refine z_sipush C 8000 dX6_forgetDepths_3 (by decide) ?_
    refine z_icmp_ge C 22 dX6_forgetDepths_6 (by decide) (fun c_1 => ?_) (fun c_1 => ?_)
    · replace hf := if_t c_1 hf
      obtain ⟨rfl, rfl⟩ := fin_ hf
      exact hk
    · replace hf := if_f c_1 hf
      refine z_aload_n C 0 dX6_forgetDepths_9 rfl rfl ?_
      refine z_getR C ly_m0 (Cn := RX6) (T := TX6) (N := 24) rfl in_X6 5 (by decide) q1409 (Or.inl rfl) rfl dX6_forgetDepths_10 ?_
      refine z_iload_n C 1 dX6_forgetDepths_13 rfl rfl ?_
      refine z_iconst C 0 dX6_forgetDepths_14 (by decide) ?_
      obtain ⟨g_2, hf⟩ := gd_ hf
      refine z_iastore C ly_m6 g_2 dX6_forgetDepths_15 ?_
      obtain ⟨x1_3, ex1_3, hf⟩ := nmo_ hf
      refine z_iinc C x1_3 1 dX6_forgetDepths_16 rfl (by rw [ex1_3]; rfl) (by decide) rfl (lv' := [(1, .int x1_3), (0, .ref (w.2.2 0))]) ?_
      refine z_goto C 2 dX6_forgetDepths_19 (by decide) ?_
      exact z_lv [1, 0] rfl (ih _ _ hf)
set_option maxHeartbeats 4000000 in
set_option maxRecDepth 100000 in
theorem tX6_forgetDepths (l : Launch) (w : ZW) {σ σ' : ZS} (hf : fX6_forgetDepths σ = some ((), σ')) : zC l w zLm yX6_forgetDepths (ws_ yX6_forgetDepths cX6_forgetDepths 2 none) 0 0 [.ref (w.2.2 0)] σ (.returned none) σ' := by
  refine zC.of (plainFor_of_name (by decide)) (Nat.le_of_ble_eq_true rfl) ?_
  intro p e s m args below meth c C hnm
  show Z p l e _ s m args below meth c _ w _ _ 2 σ 0 [(0, .ref (w.2.2 0))] []
  unfold fX6_forgetDepths at hf
  refine z_iconst C 0 dX6_forgetDepths_0 (by decide) ?_
  refine z_istore_n C dX6_forgetDepths_1 rfl (by decide) rfl (lv' := [(1, .int 0), (0, .ref (w.2.2 0))]) ?_
  obtain ⟨x1_4, σ_5, e_6, hf⟩ := bd_ hf
  refine z_lv (lv' := [(0, .ref (w.2.2 0)), (1, .int 0)]) [1, 0] rfl ?_
  refine lfX6_forgetDepths_L2 C (Nat.le_of_ble_eq_true rfl) (Nat.le_of_ble_eq_true rfl)  ?_ _ _ _ e_6
  obtain ⟨-, rfl⟩ := fin_ hf
  exact z_vret C dX6_forgetDepths_22
def fX6_turn (σ : ZS) (p1 : Int32) (p2 : Int32) : Option (Int32 × ZS) := gd (¬ (p1 < 0 ∨ 242 ≤ p1.toNatClampNeg)) (nm (σ.1 1 p1.toNatClampNeg) (fun (x3_2 : Int32) => some (x3_2, sI σ 1 (p1.toNatClampNeg) p2)))
set_option maxHeartbeats 4000000 in
set_option maxRecDepth 100000 in
theorem tX6_turn (l : Launch) (w : ZW) {σ σ' : ZS} {p1 : Int32} {p2 : Int32} {r : Int32} (hf : fX6_turn σ p1 p2 = some (r, σ')) : zC l w zLm yX6_turn (ws_ yX6_turn cX6_turn 4 (some .int)) 0 0 [.ref (w.2.2 0), .int p1, .int p2] σ (.returned (some (.int r))) σ' := by
  refine zC.of (plainFor_of_name (by decide)) (Nat.le_of_ble_eq_true rfl) ?_
  intro p e s m args below meth c C hnm
  show Z p l e _ s m args below meth c _ w _ _ 4 σ 0 [(0, .ref (w.2.2 0)), (1, .int p1), (2, .int p2)] []
  unfold fX6_turn at hf
  refine z_aload_n C 0 dX6_turn_0 rfl rfl ?_
  refine z_getR C ly_m0 (Cn := RX6) (T := TX6) (N := 24) rfl in_X6 0 (by decide) q1404 (Or.inl rfl) rfl dX6_turn_1 ?_
  refine z_iload_n C 1 dX6_turn_4 rfl rfl ?_
  obtain ⟨g_1, hf⟩ := gd_ hf
  refine z_ialoadF C ly_m1 g_1 dX6_turn_5 ?_
  obtain ⟨x3_2, ex3_2, hf⟩ := nmo_ hf
  refine z_top ex3_2 ?_
  refine z_istore_n C dX6_turn_6 rfl (by decide) rfl (lv' := [(3, .int x3_2), (0, .ref (w.2.2 0)), (1, .int p1), (2, .int p2)]) ?_
  refine z_aload_n C 1 dX6_turn_7 rfl rfl ?_
  refine z_getR C ly_m0 (Cn := RX6) (T := TX6) (N := 24) rfl in_X6 0 (by decide) q1404 (Or.inl rfl) rfl dX6_turn_8 ?_
  refine z_iload_n C 2 dX6_turn_11 rfl rfl ?_
  refine z_iload_n C 3 dX6_turn_12 rfl rfl ?_
  refine z_iastore C ly_m1 g_1 dX6_turn_13 ?_
  refine z_iload_n C 0 dX6_turn_14 rfl rfl ?_
  obtain ⟨rfl, rfl⟩ := fin_ hf
  exact z_iret C rfl dX6_turn_15
def fX6_within (p1 : Int32) (p2 : Int32) (p3 : Int32) : Int32 := nm (if p1 < p2 then 0 else (if p3 < p1 then 0 else 1)) (fun (j_1 : Int32) => j_1)
set_option maxHeartbeats 4000000 in
set_option maxRecDepth 100000 in
theorem tX6_within (l : Launch) (w : ZW) (L : ZL) (σ : ZS) (p1 : Int32) (p2 : Int32) (p3 : Int32) : zC l w L yX6_within (ws_ yX6_within cX6_within 3 (some .boolean)) 0 0 [.int p1, .int p2, .int p3] σ (.returned (some (.int (fX6_within p1 p2 p3)))) σ := by
  obtain ⟨r, hf⟩ : ∃ r, r = fX6_within p1 p2 p3 := ⟨_, rfl⟩
  rw [← hf]
  refine zC.of (plainFor_of_name (by decide)) (Nat.le_of_ble_eq_true rfl) ?_
  intro p e s m args below meth c C hnm
  show Z p l e _ s m args below meth c _ w _ _ 3 σ 0 [(0, .int p1), (1, .int p2), (2, .int p3)] []
  unfold fX6_within at hf
  refine z_iload_n C 0 dX6_within_0 rfl rfl ?_
  refine z_iload_n C 1 dX6_within_1 rfl rfl ?_
  obtain ⟨j_1, ej_1, hf⟩ := nmp_ hf
  have hj_1 : j_1 = 0 ∨ j_1 = 1 := by rw [ej_1]; (repeat' split) <;> first | exact Or.inl rfl | exact Or.inr rfl
  have hjj_1 : Z p l e (zRm 0 0 σ) s m args below meth c (zQ below w L σ (.returned (some (.int r))) σ args s) w L (zA w L σ) 3 σ 15 [(0, .int p1), (1, .int p2), (2, .int p3)] [.int j_1] := by
    subst hf
    exact z_iret C (b01 hj_1) dX6_within_15
  replace hf := ej_1
  refine z_icmp_lt C 14 dX6_within_2 (by decide) (fun c_2 => ?_) (fun c_2 => ?_)
  · replace hf := ifp_t c_2 hf
    refine z_iconst C 0 dX6_within_14 (by decide) ?_
    subst hf
    exact hjj_1
  · replace hf := ifp_f c_2 hf
    refine z_iload_n C 0 dX6_within_5 rfl rfl ?_
    refine z_iload_n C 2 dX6_within_6 rfl rfl ?_
    refine z_icmp_gt C 14 dX6_within_7 (by decide) (fun c_3 => ?_) (fun c_3 => ?_)
    · replace hf := ifp_t c_3 hf
      refine z_iconst C 0 dX6_within_14 (by decide) ?_
      subst hf
      exact hjj_1
    · replace hf := ifp_f c_3 hf
      refine z_iconst C 1 dX6_within_10 (by decide) ?_
      refine z_goto C 15 dX6_within_11 (by decide) ?_
      subst hf
      exact hjj_1
theorem bX6_within (p1 : Int32) (p2 : Int32) (p3 : Int32) : fX6_within p1 p2 p3 = 0 ∨ fX6_within p1 p2 p3 = 1 := by
  unfold fX6_within
  simp only [nm]
  repeat' split
  all_goals first | exact Or.inl rfl | exact Or.inr rfl
def fX6_finding (σ : ZS) (p1 : Int32) : Option (Int32 × ZS) := gd (¬ (((-1000000000) - p1) < 0 ∨ 6 ≤ ((-1000000000) - p1).toNatClampNeg)) (nm ((σ.1 5 ((-1000000000) - p1).toNatClampNeg) + 1) (fun (v_2 : Int32) => some (p1, sI σ 5 (((-1000000000) - p1).toNatClampNeg) v_2)))
set_option maxHeartbeats 4000000 in
set_option maxRecDepth 100000 in
theorem tX6_finding (l : Launch) (w : ZW) {σ σ' : ZS} {p1 : Int32} {r : Int32} (hf : fX6_finding σ p1 = some (r, σ')) : zC l w zLm yX6_finding (ws_ yX6_finding cX6_finding 2 (some .int)) 0 0 [.ref (w.2.2 0), .int p1] σ (.returned (some (.int r))) σ' := by
  refine zC.of (plainFor_of_name (by decide)) (Nat.le_of_ble_eq_true rfl) ?_
  intro p e s m args below meth c C hnm
  show Z p l e _ s m args below meth c _ w _ _ 2 σ 0 [(0, .ref (w.2.2 0)), (1, .int p1)] []
  unfold fX6_finding at hf
  refine z_aload_n C 0 dX6_finding_0 rfl rfl ?_
  refine z_getR C ly_m0 (Cn := RX6) (T := TX6) (N := 24) rfl in_X6 4 (by decide) q1408 (Or.inl rfl) rfl dX6_finding_1 ?_
  refine z_ldc C dX6_finding_4 q1489 ?_
  refine z_iload_n C 1 dX6_finding_6 rfl rfl ?_
  refine z_isub C dX6_finding_7 ?_
  refine z_dup2 C dX6_finding_8 rfl rfl ?_
  obtain ⟨g_1, hf⟩ := gd_ hf
  refine z_ialoadF C ly_m5 g_1 dX6_finding_9 ?_
  refine z_iconst C 1 dX6_finding_10 (by decide) ?_
  refine z_iadd C dX6_finding_11 ?_
  obtain ⟨v_2, ev_2, hf⟩ := nmo_ hf
  refine z_top ev_2 ?_
  refine z_iastore C ly_m5 g_1 dX6_finding_12 ?_
  refine z_iload_n C 1 dX6_finding_13 rfl rfl ?_
  obtain ⟨rfl, rfl⟩ := fin_ hf
  exact z_iret C rfl dX6_finding_14
def fX6_here (σ : ZS) : Option Int32 := bo (if (σ.1 0 10) = 0 then (if (σ.1 1 (7 : Int32).toNatClampNeg) ≤ (σ.1 0 7) then (some (-1)) else (gd (¬ ((68 + (σ.1 0 7)) < 0 ∨ 242 ≤ (68 + (σ.1 0 7)).toNatClampNeg)) (some (σ.1 1 (68 + (σ.1 0 7)).toNatClampNeg)))) else (some (-1))) (fun (j_1 : Int32) => some j_1)
set_option maxHeartbeats 4000000 in
set_option maxRecDepth 100000 in
theorem tX6_here (l : Launch) (w : ZW) {σ : ZS} {r : Int32} (hf : fX6_here σ = some r) : zC l w zLm yX6_here (ws_ yX6_here cX6_here 1 (some .int)) 0 0 [.ref (w.2.2 0)] σ (.returned (some (.int r))) σ := by
  refine zC.of (plainFor_of_name (by decide)) (Nat.le_of_ble_eq_true rfl) ?_
  intro p e s m args below meth c C hnm
  show Z p l e _ s m args below meth c _ w _ _ 1 σ 0 [(0, .ref (w.2.2 0))] []
  unfold fX6_here at hf
  refine z_aload_n C 0 dX6_here_0 rfl rfl ?_
  refine z_getI C ly_m0 (Cn := RX6) (T := TX6) (N := 24) rfl in_X6 10 (by decide) q1414 (Or.inl rfl) rfl dX6_here_1 ?_
  obtain ⟨j_1, e_3, hf⟩ := bo_ hf
  have hje_3 : Z p l e (zRm 0 0 σ) s m args below meth c (zQ below w zLm σ (.returned (some (.int r))) σ args s) w zLm (zA w zLm σ) 1 σ 37 [(0, .ref (w.2.2 0))] [.int j_1] := by
    obtain rfl := fino_ hf
    exact z_iret C rfl dX6_here_37
  replace hf := e_3
  refine z_if_ne C 36 dX6_here_4 (by decide) (fun c_4 => ?_) (fun c_4 => ?_)
  · replace hf := if_f c_4 hf
    refine z_iconst C (-1) dX6_here_36 (by decide) ?_
    obtain rfl := fino_ hf
    exact hje_3
  · replace hf := if_t c_4 hf
    refine z_aload_n C 0 dX6_here_7 rfl rfl ?_
    refine z_getI C ly_m0 (Cn := RX6) (T := TX6) (N := 24) rfl in_X6 7 (by decide) q1411 (Or.inl rfl) rfl dX6_here_8 ?_
    refine z_aload_n C 0 dX6_here_11 rfl rfl ?_
    refine z_getR C ly_m0 (Cn := RX6) (T := TX6) (N := 24) rfl in_X6 0 (by decide) q1404 (Or.inl rfl) rfl dX6_here_12 ?_
    refine z_bipush C 7 dX6_here_15 (by decide) ?_
    refine z_ialoadF C ly_m1 (by decide) dX6_here_17 ?_
    refine z_icmp_ge C 36 dX6_here_18 (by decide) (fun c_5 => ?_) (fun c_5 => ?_)
    · replace hf := if_t c_5 hf
      refine z_iconst C (-1) dX6_here_36 (by decide) ?_
      obtain rfl := fino_ hf
      exact hje_3
    · replace hf := if_f c_5 hf
      refine z_aload_n C 0 dX6_here_21 rfl rfl ?_
      refine z_getR C ly_m0 (Cn := RX6) (T := TX6) (N := 24) rfl in_X6 0 (by decide) q1404 (Or.inl rfl) rfl dX6_here_22 ?_
      refine z_bipush C 68 dX6_here_25 (by decide) ?_
      refine z_aload_n C 0 dX6_here_27 rfl rfl ?_
      refine z_getI C ly_m0 (Cn := RX6) (T := TX6) (N := 24) rfl in_X6 7 (by decide) q1411 (Or.inl rfl) rfl dX6_here_28 ?_
      refine z_iadd C dX6_here_31 ?_
      obtain ⟨g_6, hf⟩ := gd_ hf
      refine z_ialoadF C ly_m1 g_6 dX6_here_32 ?_
      refine z_goto C 37 dX6_here_33 (by decide) ?_
      obtain rfl := fino_ hf
      exact hje_3
def fX6_codes (σ : ZS) (p1 : Int32) : Option (Unit × ZS) := bd (if (σ.1 0 10) = 0 then (gd (¬ ((σ.1 0 12) < 0 ∨ 60 ≤ (σ.1 0 12).toNatClampNeg)) (nm (((sI σ 12 ((σ.1 0 12).toNatClampNeg) p1).1 0 12) + 1) (fun (f_5 : Int32) => some ((), sI (sI σ 12 ((σ.1 0 12).toNatClampNeg) p1) 0 12 f_5)))) else (some ((), σ))) (fun (_ : Unit) σ_1 => some ((), σ_1))
set_option maxHeartbeats 4000000 in
set_option maxRecDepth 100000 in
theorem tX6_codes (l : Launch) (w : ZW) {σ σ' : ZS} {p1 : Int32} (hf : fX6_codes σ p1 = some ((), σ')) : zC l w zLm yX6_codes (ws_ yX6_codes cX6_codes 2 none) 0 0 [.ref (w.2.2 0), .int p1] σ (.returned none) σ' := by
  refine zC.of (plainFor_of_name (by decide)) (Nat.le_of_ble_eq_true rfl) ?_
  intro p e s m args below meth c C hnm
  show Z p l e _ s m args below meth c _ w _ _ 2 σ 0 [(0, .ref (w.2.2 0)), (1, .int p1)] []
  unfold fX6_codes at hf
  refine z_aload_n C 0 dX6_codes_0 rfl rfl ?_
  refine z_getI C ly_m0 (Cn := RX6) (T := TX6) (N := 24) rfl in_X6 10 (by decide) q1414 (Or.inl rfl) rfl dX6_codes_1 ?_
  obtain ⟨⟨⟩, σ_1, e_2, hf⟩ := bd_ hf
  have hje_2 : Z p l e (zRm 0 0 σ) s m args below meth c (zQ below w zLm σ (.returned none) σ' args s) w zLm (zA w zLm σ) 2 σ_1 27 [(0, .ref (w.2.2 0)), (1, .int p1)] [] := by
    obtain ⟨-, rfl⟩ := fin_ hf
    exact z_vret C dX6_codes_27
  replace hf := e_2
  refine z_if_ne C 27 dX6_codes_4 (by decide) (fun c_3 => ?_) (fun c_3 => ?_)
  · replace hf := if_f c_3 hf
    obtain ⟨-, rfl⟩ := fin_ hf
    exact hje_2
  · replace hf := if_t c_3 hf
    refine z_aload_n C 0 dX6_codes_7 rfl rfl ?_
    refine z_getR C ly_m0 (Cn := RX6) (T := TX6) (N := 24) rfl in_X6 11 (by decide) q1415 (Or.inl rfl) rfl dX6_codes_8 ?_
    refine z_aload_n C 0 dX6_codes_11 rfl rfl ?_
    refine z_getI C ly_m0 (Cn := RX6) (T := TX6) (N := 24) rfl in_X6 12 (by decide) q1416 (Or.inl rfl) rfl dX6_codes_12 ?_
    refine z_iload_n C 1 dX6_codes_15 rfl rfl ?_
    obtain ⟨g_4, hf⟩ := gd_ hf
    refine z_iastore C ly_m12 g_4 dX6_codes_16 ?_
    refine z_aload_n C 0 dX6_codes_17 rfl rfl ?_
    refine z_dup C dX6_codes_18 rfl ?_
    refine z_getI C ly_m0 (Cn := RX6) (T := TX6) (N := 24) rfl in_X6 12 (by decide) q1416 (Or.inl rfl) rfl dX6_codes_19 ?_
    refine z_iconst C 1 dX6_codes_22 (by decide) ?_
    refine z_iadd C dX6_codes_23 ?_
    obtain ⟨f_5, ef_5, hf⟩ := nmo_ hf
    refine z_top ef_5 ?_
    refine z_putI C ly_m0 (k := 12) rfl (zPut C (Cn := RX6) (T := TX6) (N := 24) rfl in_X6 tyX6 tyX6_ok nmX6 12 (by decide) q1416 (Or.inl rfl) rfl rfl rfl (zFs_lt (Nat.le_of_ble_eq_true rfl)) dX6_codes_24) ?_
    obtain ⟨-, rfl⟩ := fin_ hf
    exact hje_2
def fX6_takes (σ : ZS) (p1 : Int32) : Option (Int32 × ZS) := bo (fX6_here σ) (fun r_1 => nm (if r_1 = p1 then 1 else 0) (fun (j_3 : Int32) => nm (if j_3 = 0 then 0 else 1) (fun (j_4 : Int32) => nm ((σ.1 0 7) + j_4) (fun (f_5 : Int32) => some (j_3, sI σ 0 7 f_5)))))
set_option maxHeartbeats 4000000 in
set_option maxRecDepth 100000 in
theorem tX6_takes (l : Launch) (w : ZW) {σ σ' : ZS} {p1 : Int32} {r : Int32} (hf : fX6_takes σ p1 = some (r, σ')) : zC l w zLm yX6_takes (ws_ yX6_takes cX6_takes 3 (some .boolean)) 1 12 [.ref (w.2.2 0), .int p1] σ (.returned (some (.int r))) σ' := by
  refine zC.of (plainFor_of_name (by decide)) (Nat.le_of_ble_eq_true rfl) ?_
  intro p e s m args below meth c C hnm
  show Z p l e _ s m args below meth c _ w _ _ 3 σ 0 [(0, .ref (w.2.2 0)), (1, .int p1)] []
  unfold fX6_takes at hf
  refine z_aload_n C 0 dX6_takes_0 rfl rfl ?_
  obtain ⟨r_1, e_2, hf⟩ := bo_ hf
  refine z_calli C (rest := []) (av := (.ref (w.2.2 0) :: [])) (zPay.of q1523 q83) (fun H ls hH h2 => zInv_V C (As := []) (rest := []) (ci := 6) (T := TX6) (N := 24) rfl (zSee.fix ly_m0) hH q1520 q1522 qs39 (Or.inl rfl) q1523 mh_X6 np_X6_here dX6_takes_1) (tX6_here l w e_2) (Nat.le_of_ble_eq_true rfl) (Nat.le_of_ble_eq_true rfl) ?_
  refine z_iload_n C 1 dX6_takes_4 rfl rfl ?_
  obtain ⟨j_3, ej_3, hf⟩ := nmo_ hf
  have hj_3 : j_3 = 0 ∨ j_3 = 1 := by rw [ej_3]; (repeat' split) <;> first | exact Or.inl rfl | exact Or.inr rfl
  have hjj_3 : Z p l e (zRm 1 12 σ) s m args below meth c (zQ below w zLm σ (.returned (some (.int r))) σ' args s) w zLm (zA w zLm σ) 3 σ 13 [(0, .ref (w.2.2 0)), (1, .int p1)] [.int j_3] := by
    refine z_istore_n C dX6_takes_13 rfl (by decide) rfl (lv' := [(2, .int j_3), (0, .ref (w.2.2 0)), (1, .int p1)]) ?_
    refine z_aload_n C 1 dX6_takes_14 rfl rfl ?_
    refine z_dup C dX6_takes_15 rfl ?_
    refine z_getI C ly_m0 (Cn := RX6) (T := TX6) (N := 24) rfl in_X6 7 (by decide) q1411 (Or.inl rfl) rfl dX6_takes_16 ?_
    refine z_iload_n C 0 dX6_takes_19 rfl rfl ?_
    obtain ⟨j_4, ej_4, hf⟩ := nmo_ hf
    have hj_4 : j_4 = 0 ∨ j_4 = 1 := by rw [ej_4]; (repeat' split) <;> first | exact Or.inl rfl | exact Or.inr rfl
    have hjj_4 : Z p l e (zRm 1 12 σ) s m args below meth c (zQ below w zLm σ (.returned (some (.int r))) σ' args s) w zLm (zA w zLm σ) 3 σ 28 [(0, .ref (w.2.2 0)), (1, .int p1), (2, .int j_3)] [.int j_4, .int (σ.1 0 7), .ref (w.2.2 0)] := by
      refine z_iadd C dX6_takes_28 ?_
      obtain ⟨f_5, ef_5, hf⟩ := nmo_ hf
      refine z_top ef_5 ?_
      refine z_putI C ly_m0 (k := 7) rfl (zPut C (Cn := RX6) (T := TX6) (N := 24) rfl in_X6 tyX6 tyX6_ok nmX6 7 (by decide) q1411 (Or.inl rfl) rfl rfl rfl (zFs_lt (Nat.le_of_ble_eq_true rfl)) dX6_takes_29) ?_
      refine z_iload_n C 2 dX6_takes_32 rfl rfl ?_
      obtain ⟨rfl, rfl⟩ := fin_ hf
      exact z_iret C (b01 hj_3) dX6_takes_33
    replace hf := ej_4
    refine z_if_eq C 27 dX6_takes_20 (by decide) (fun c_6 => ?_) (fun c_6 => ?_)
    · replace hf := ifp_t c_6 hf
      refine z_iconst C 0 dX6_takes_27 (by decide) ?_
      subst hf
      exact z_lv [1, 2, 0] rfl hjj_4
    · replace hf := ifp_f c_6 hf
      refine z_iconst C 1 dX6_takes_23 (by decide) ?_
      refine z_goto C 28 dX6_takes_24 (by decide) ?_
      subst hf
      exact z_lv [1, 2, 0] rfl hjj_4
  replace hf := ej_3
  refine z_icmp_ne C 12 dX6_takes_5 (by decide) (fun c_7 => ?_) (fun c_7 => ?_)
  · replace hf := ifp_f c_7 hf
    refine z_iconst C 0 dX6_takes_12 (by decide) ?_
    subst hf
    exact hjj_3
  · replace hf := ifp_t c_7 hf
    refine z_iconst C 1 dX6_takes_8 (by decide) ?_
    refine z_goto C 13 dX6_takes_9 (by decide) ?_
    subst hf
    exact hjj_3
def fX6_nameOf_L4 (σ : ZS) (y1 : Int32) : Nat → Int32 → Int32 → Option (Int32 × Int32)
  | 0, _, _ => none
  | n + 1, y2, y3 => gd (¬ ((σ.1 0 9) < 0 ∨ 2 ≤ (σ.1 0 9).toNatClampNeg)) (if (fJ4_length (zsB.getD (9 + (σ.1 0 9).toNatClampNeg) [])) ≤ y3 then (some (y2, y3)) else (bo (fJ4_charAt (zsB.getD (9 + (σ.1 0 9).toNatClampNeg) []) y3) (fun r_10 => nm (if r_10 = y1 then y3 else y2) (fun (j_12 : Int32) => nm (y3 + 1) (fun (x3_13 : Int32) => fX6_nameOf_L4 σ y1 n j_12 x3_13)))))
def fX6_nameOf (σ : ZS) (p1 : Int32) : Option Int32 := bo (fX6_nameOf_L4 σ p1 10000 (-1) 0) (fun uu17 => some (uu17.1))
set_option maxHeartbeats 4000000 in
set_option maxRecDepth 100000 in
theorem lfX6_nameOf_L4 {p : Program} {l : Launch} {e : Env} {R : Room} {s : State} {m : MethodId} {args : Array Value} {below : List Frame} {meth : Method} {c : Code} {Q : State → Prop} {w : ZW} {A : Nat → Prop} {ret : Option FieldType} {hh : List (Nat × Nat × Nat × Nat)} (C : zCx p s m args meth c w zLm A 4 cX6_nameOf RX6 ret hh) (hfr : 4 ≤ R.frames) (hlo : 53 ≤ R.locals) (σ : ZS) (y1 : Int32) {z2 : Int32} {z3 : Int32} (hk : Z p l e R s m args below meth c Q w zLm A 4 σ 49 [(0, .ref (w.2.2 0)), (1, .int y1), (2, .int z2), (3, .int z3)] []) : ∀ (n : Nat) (y2 : Int32) (y3 : Int32), fX6_nameOf_L4 σ y1 n y2 y3 = some (z2, z3) → Z p l e R s m args below meth c Q w zLm A 4 σ 4 [(0, .ref (w.2.2 0)), (1, .int y1), (2, .int y2), (3, .int y3)] [] := by
  intro n
  induction n with
  | zero => intro y2 y3 hf; exact none_ hf
  | succ n ih =>
    intro y2 y3 hf
    rw [fX6_nameOf_L4] at hf
    refine z_iload_n C 3 dX6_nameOf_4 rfl rfl ?_
    refine z_aload_n C 0 dX6_nameOf_5 rfl rfl ?_
    refine z_getR C ly_m0 (Cn := RX6) (T := TX6) (N := 24) rfl in_X6 6 (by decide) q1410 (Or.inl rfl) rfl dX6_nameOf_6 ?_
    refine z_aload_n C 0 dX6_nameOf_9 rfl rfl ?_
    refine z_getI C ly_m0 (Cn := RX6) (T := TX6) (N := 24) rfl in_X6 9 (by decide) q1413 (Or.inl rfl) rfl dX6_nameOf_10 ?_
    obtain ⟨g_8, hf⟩ := gd_ hf
    refine z_aaloadS C ly_m7 g_8 dX6_nameOf_13 ?_
    refine z_calli C (rest := [.int y3]) (av := (.ref (zsK w (9 + (σ.1 0 9).toNatClampNeg)) :: [])) (zPay.of q756 q95) (fun H ls hH h2 => zInv_K C (As := []) (rest := [.int y3]) (zs_named (Nat.not_le.mp fun q => g_8 (Or.inr q))) h2 q1536 q754 q755 (Or.inl rfl) q756 mh_J4 np_J4_length dX6_nameOf_14) (tJ4_length l w zLm σ (zsB.getD (9 + (σ.1 0 9).toNatClampNeg) []) (zs_named (Nat.not_le.mp fun q => g_8 (Or.inr q)))) (Nat.le_trans (Nat.le_of_ble_eq_true rfl) hfr) (Nat.le_trans (Nat.le_of_ble_eq_true rfl) hlo) ?_
    refine z_icmp_ge C 49 dX6_nameOf_17 (by decide) (fun c_9 => ?_) (fun c_9 => ?_)
    · replace hf := if_t c_9 hf
      have hf1 := fino_ hf
      simp only [Prod.mk.injEq] at hf1
      obtain ⟨rfl, rfl⟩ := hf1
      exact hk
    · replace hf := if_f c_9 hf
      refine z_aload_n C 0 dX6_nameOf_20 rfl rfl ?_
      refine z_getR C ly_m0 (Cn := RX6) (T := TX6) (N := 24) rfl in_X6 6 (by decide) q1410 (Or.inl rfl) rfl dX6_nameOf_21 ?_
      refine z_aload_n C 0 dX6_nameOf_24 rfl rfl ?_
      refine z_getI C ly_m0 (Cn := RX6) (T := TX6) (N := 24) rfl in_X6 9 (by decide) q1413 (Or.inl rfl) rfl dX6_nameOf_25 ?_
      refine z_aaloadS C ly_m7 g_8 dX6_nameOf_28 ?_
      refine z_iload_n C 3 dX6_nameOf_29 rfl rfl ?_
      obtain ⟨r_10, e_11, hf⟩ := bo_ hf
      refine z_calli C (rest := []) (av := (.ref (zsK w (9 + (σ.1 0 9).toNatClampNeg)) :: [.int y3])) (zPay.of q1540 q95) (fun H ls hH h2 => zInv_K C (As := [.int y3]) (rest := []) (zs_named (Nat.not_le.mp fun q => g_8 (Or.inr q))) h2 q1537 q1538 q1539 (Or.inl rfl) q1540 mh_J4 np_J4_charAt dX6_nameOf_30) (tJ4_charAt l w zLm σ (zs_named (Nat.not_le.mp fun q => g_8 (Or.inr q))) e_11) (Nat.le_trans (Nat.le_of_ble_eq_true rfl) hfr) (Nat.le_trans (Nat.le_of_ble_eq_true rfl) hlo) ?_
      refine z_iload_n C 1 dX6_nameOf_33 rfl rfl ?_
      obtain ⟨j_12, ej_12, hf⟩ := nmo_ hf
      have hjj_12 : Z p l e R s m args below meth c Q w zLm A 4 σ 42 [(0, .ref (w.2.2 0)), (1, .int y1), (2, .int y2), (3, .int y3)] [.int j_12] := by
        refine z_istore_n C dX6_nameOf_42 rfl (by decide) rfl (lv' := [(2, .int j_12), (0, .ref (w.2.2 0)), (1, .int y1), (3, .int y3)]) ?_
        obtain ⟨x3_13, ex3_13, hf⟩ := nmo_ hf
        refine z_iinc C x3_13 3 dX6_nameOf_43 rfl (by rw [ex3_13]; rfl) (by decide) rfl (lv' := [(3, .int x3_13), (2, .int j_12), (0, .ref (w.2.2 0)), (1, .int y1)]) ?_
        refine z_goto C 4 dX6_nameOf_46 (by decide) ?_
        exact z_lv [2, 3, 1, 0] rfl (ih _ _ hf)
      replace hf := ej_12
      refine z_icmp_ne C 41 dX6_nameOf_34 (by decide) (fun c_14 => ?_) (fun c_14 => ?_)
      · replace hf := ifp_f c_14 hf
        refine z_iload_n C 2 dX6_nameOf_41 rfl rfl ?_
        subst hf
        exact hjj_12
      · replace hf := ifp_t c_14 hf
        refine z_iload_n C 3 dX6_nameOf_37 rfl rfl ?_
        refine z_goto C 42 dX6_nameOf_38 (by decide) ?_
        subst hf
        exact hjj_12
set_option maxHeartbeats 4000000 in
set_option maxRecDepth 100000 in
theorem tX6_nameOf (l : Launch) (w : ZW) {σ : ZS} {p1 : Int32} {r : Int32} (hf : fX6_nameOf σ p1 = some r) : zC l w zLm yX6_nameOf (ws_ yX6_nameOf cX6_nameOf 4 (some .int)) 4 53 [.ref (w.2.2 0), .int p1] σ (.returned (some (.int r))) σ := by
  refine zC.of (plainFor_of_name (by decide)) (Nat.le_of_ble_eq_true rfl) ?_
  intro p e s m args below meth c C hnm
  show Z p l e _ s m args below meth c _ w _ _ 4 σ 0 [(0, .ref (w.2.2 0)), (1, .int p1)] []
  unfold fX6_nameOf at hf
  refine z_iconst C (-1) dX6_nameOf_0 (by decide) ?_
  refine z_istore_n C dX6_nameOf_1 rfl (by decide) rfl (lv' := [(2, .int (-1)), (0, .ref (w.2.2 0)), (1, .int p1)]) ?_
  refine z_iconst C 0 dX6_nameOf_2 (by decide) ?_
  refine z_istore_n C dX6_nameOf_3 rfl (by decide) rfl (lv' := [(3, .int 0), (2, .int (-1)), (0, .ref (w.2.2 0)), (1, .int p1)]) ?_
  obtain ⟨⟨x2_15, x3_16⟩, e_18, hf⟩ := bo_ hf
  try dsimp only at hf
  refine z_lv (lv' := [(0, .ref (w.2.2 0)), (1, .int p1), (2, .int (-1)), (3, .int 0)]) [2, 3, 1, 0] rfl ?_
  refine lfX6_nameOf_L4 C (Nat.le_of_ble_eq_true rfl) (Nat.le_of_ble_eq_true rfl) σ p1 ?_ _ _ _ e_18
  refine z_iload_n C 2 dX6_nameOf_49 rfl rfl ?_
  obtain rfl := fino_ hf
  exact z_iret C rfl dX6_nameOf_50
def fX6_hasText (σ : ZS) (p1 : Int32) : Option Int32 := gd (¬ ((138 + (52 * p1)) < 0 ∨ 242 ≤ (138 + (52 * p1)).toNatClampNeg)) (nm (if (σ.1 1 (138 + (52 * p1)).toNatClampNeg) ≤ 0 then 0 else 1) (fun (j_2 : Int32) => some j_2))
set_option maxHeartbeats 4000000 in
set_option maxRecDepth 100000 in
theorem tX6_hasText (l : Launch) (w : ZW) {σ : ZS} {p1 : Int32} {r : Int32} (hf : fX6_hasText σ p1 = some r) : zC l w zLm yX6_hasText (ws_ yX6_hasText cX6_hasText 2 (some .boolean)) 0 0 [.ref (w.2.2 0), .int p1] σ (.returned (some (.int r))) σ := by
  refine zC.of (plainFor_of_name (by decide)) (Nat.le_of_ble_eq_true rfl) ?_
  intro p e s m args below meth c C hnm
  show Z p l e _ s m args below meth c _ w _ _ 2 σ 0 [(0, .ref (w.2.2 0)), (1, .int p1)] []
  unfold fX6_hasText at hf
  refine z_aload_n C 0 dX6_hasText_0 rfl rfl ?_
  refine z_getR C ly_m0 (Cn := RX6) (T := TX6) (N := 24) rfl in_X6 0 (by decide) q1404 (Or.inl rfl) rfl dX6_hasText_1 ?_
  refine z_sipush C 138 dX6_hasText_4 (by decide) ?_
  refine z_bipush C 52 dX6_hasText_7 (by decide) ?_
  refine z_iload_n C 1 dX6_hasText_9 rfl rfl ?_
  refine z_imul C dX6_hasText_10 ?_
  refine z_iadd C dX6_hasText_11 ?_
  obtain ⟨g_1, hf⟩ := gd_ hf
  refine z_ialoadF C ly_m1 g_1 dX6_hasText_12 ?_
  obtain ⟨j_2, ej_2, hf⟩ := nmo_ hf
  have hj_2 : j_2 = 0 ∨ j_2 = 1 := by rw [ej_2]; (repeat' split) <;> first | exact Or.inl rfl | exact Or.inr rfl
  have hjj_2 : Z p l e (zRm 0 0 σ) s m args below meth c (zQ below w zLm σ (.returned (some (.int r))) σ args s) w zLm (zA w zLm σ) 2 σ 21 [(0, .ref (w.2.2 0)), (1, .int p1)] [.int j_2] := by
    obtain rfl := fino_ hf
    exact z_iret C (b01 hj_2) dX6_hasText_21
  replace hf := ej_2
  refine z_if_le C 20 dX6_hasText_13 (by decide) (fun c_3 => ?_) (fun c_3 => ?_)
  · replace hf := ifp_t c_3 hf
    refine z_iconst C 0 dX6_hasText_20 (by decide) ?_
    subst hf
    exact hjj_2
  · replace hf := ifp_f c_3 hf
    refine z_iconst C 1 dX6_hasText_16 (by decide) ?_
    refine z_goto C 21 dX6_hasText_17 (by decide) ?_
    subst hf
    exact hjj_2
def fX6_done (p1 : Int32) (p2 : Int32) (p3 : Int32) : Option Int32 := if p1 = 20000 then (nm (if p2 = 0 then (if p3 = 0 then 0 else 1) else 1) (fun (j_2 : Int32) => some j_2)) else (if p1 = 20001 then (nm (if p2 = 0 then 0 else (if p3 = 0 then 0 else 1)) (fun (j_6 : Int32) => some j_6)) else (if p1 = 20002 then (nm (if p3 ≤ p2 then 0 else 1) (fun (j_10 : Int32) => some j_10)) else (if p1 = 20003 then (nm (if p2 = p3 then 1 else 0) (fun (j_13 : Int32) => some j_13)) else (if p1 = 20004 then (nm (if p2 ≤ p3 then 0 else 1) (fun (j_16 : Int32) => some j_16)) else (if p1 = 20005 then (some (p2 + p3)) else (if p1 = 20006 then (some (p2 - p3)) else (if p1 = 20007 then (some (p2 * p3)) else (if p1 = 20008 then (nm (if p3 = 0 then 0 else (p2 / p3)) (fun (j_22 : Int32) => some j_22)) else (gd (p1.toInt < 20000 ∨ 20008 < p1.toInt) (nm (if p3 = 0 then 0 else (p2 - p2 / p3 * p3)) (fun (j_25 : Int32) => some j_25)))))))))))
set_option maxHeartbeats 4000000 in
set_option maxRecDepth 100000 in
theorem tX6_done (l : Launch) (w : ZW) (L : ZL) (σ : ZS) {p1 : Int32} {p2 : Int32} {p3 : Int32} {r : Int32} (hf : fX6_done p1 p2 p3 = some r) : zC l w L yX6_done (ws_ yX6_done cX6_done 3 (some .int)) 0 0 [.int p1, .int p2, .int p3] σ (.returned (some (.int r))) σ := by
  refine zC.of (plainFor_of_name (by decide)) (Nat.le_of_ble_eq_true rfl) ?_
  intro p e s m args below meth c C hnm
  show Z p l e _ s m args below meth c _ w _ _ 3 σ 0 [(0, .int p1), (1, .int p2), (2, .int p3)] []
  unfold fX6_done at hf
  refine z_iload_n C 0 dX6_done_0 rfl rfl ?_
  by_cases c_1 : p1 = 20000
  · replace hf := if_t c_1 hf
    refine z_top c_1.symm ?_
    refine z_tableIn (off := 51) C 52 dX6_done_1 (by decide) (by decide) (by decide) (by decide) ?_
    refine z_iload_n C 1 dX6_done_52 rfl rfl ?_
    obtain ⟨j_2, ej_2, hf⟩ := nmo_ hf
    have hj_2 : j_2 = 0 ∨ j_2 = 1 := by rw [ej_2]; (repeat' split) <;> first | exact Or.inl rfl | exact Or.inr rfl
    have hjj_2 : Z p l e (zRm 0 0 σ) s m args below meth c (zQ below w L σ (.returned (some (.int r))) σ args s) w L (zA w L σ) 3 σ 65 [(0, .int p1), (1, .int p2), (2, .int p3)] [.int j_2] := by
      obtain rfl := fino_ hf
      exact z_iret C rfl dX6_done_65
    replace hf := ej_2
    refine z_if_ne C 60 dX6_done_53 (by decide) (fun c_3 => ?_) (fun c_3 => ?_)
    · replace hf := ifp_f c_3 hf
      refine z_iconst C 1 dX6_done_60 (by decide) ?_
      refine z_goto C 65 dX6_done_61 (by decide) ?_
      subst hf
      exact hjj_2
    · replace hf := ifp_t c_3 hf
      refine z_iload_n C 2 dX6_done_56 rfl rfl ?_
      refine z_if_eq C 64 dX6_done_57 (by decide) (fun c_4 => ?_) (fun c_4 => ?_)
      · replace hf := ifp_t c_4 hf
        refine z_iconst C 0 dX6_done_64 (by decide) ?_
        subst hf
        exact hjj_2
      · replace hf := ifp_f c_4 hf
        refine z_iconst C 1 dX6_done_60 (by decide) ?_
        refine z_goto C 65 dX6_done_61 (by decide) ?_
        subst hf
        exact hjj_2
  replace hf := if_f c_1 hf
  by_cases c_5 : p1 = 20001
  · replace hf := if_t c_5 hf
    refine z_top c_5.symm ?_
    refine z_tableIn (off := 65) C 66 dX6_done_1 (by decide) (by decide) (by decide) (by decide) ?_
    refine z_iload_n C 1 dX6_done_66 rfl rfl ?_
    obtain ⟨j_6, ej_6, hf⟩ := nmo_ hf
    have hj_6 : j_6 = 0 ∨ j_6 = 1 := by rw [ej_6]; (repeat' split) <;> first | exact Or.inl rfl | exact Or.inr rfl
    have hjj_6 : Z p l e (zRm 0 0 σ) s m args below meth c (zQ below w L σ (.returned (some (.int r))) σ args s) w L (zA w L σ) 3 σ 79 [(0, .int p1), (1, .int p2), (2, .int p3)] [.int j_6] := by
      obtain rfl := fino_ hf
      exact z_iret C rfl dX6_done_79
    replace hf := ej_6
    refine z_if_eq C 78 dX6_done_67 (by decide) (fun c_7 => ?_) (fun c_7 => ?_)
    · replace hf := ifp_t c_7 hf
      refine z_iconst C 0 dX6_done_78 (by decide) ?_
      subst hf
      exact hjj_6
    · replace hf := ifp_f c_7 hf
      refine z_iload_n C 2 dX6_done_70 rfl rfl ?_
      refine z_if_eq C 78 dX6_done_71 (by decide) (fun c_8 => ?_) (fun c_8 => ?_)
      · replace hf := ifp_t c_8 hf
        refine z_iconst C 0 dX6_done_78 (by decide) ?_
        subst hf
        exact hjj_6
      · replace hf := ifp_f c_8 hf
        refine z_iconst C 1 dX6_done_74 (by decide) ?_
        refine z_goto C 79 dX6_done_75 (by decide) ?_
        subst hf
        exact hjj_6
  replace hf := if_f c_5 hf
  by_cases c_9 : p1 = 20002
  · replace hf := if_t c_9 hf
    refine z_top c_9.symm ?_
    refine z_tableIn (off := 79) C 80 dX6_done_1 (by decide) (by decide) (by decide) (by decide) ?_
    refine z_iload_n C 1 dX6_done_80 rfl rfl ?_
    refine z_iload_n C 2 dX6_done_81 rfl rfl ?_
    obtain ⟨j_10, ej_10, hf⟩ := nmo_ hf
    have hj_10 : j_10 = 0 ∨ j_10 = 1 := by rw [ej_10]; (repeat' split) <;> first | exact Or.inl rfl | exact Or.inr rfl
    have hjj_10 : Z p l e (zRm 0 0 σ) s m args below meth c (zQ below w L σ (.returned (some (.int r))) σ args s) w L (zA w L σ) 3 σ 90 [(0, .int p1), (1, .int p2), (2, .int p3)] [.int j_10] := by
      obtain rfl := fino_ hf
      exact z_iret C rfl dX6_done_90
    replace hf := ej_10
    refine z_icmp_ge C 89 dX6_done_82 (by decide) (fun c_11 => ?_) (fun c_11 => ?_)
    · replace hf := ifp_t c_11 hf
      refine z_iconst C 0 dX6_done_89 (by decide) ?_
      subst hf
      exact hjj_10
    · replace hf := ifp_f c_11 hf
      refine z_iconst C 1 dX6_done_85 (by decide) ?_
      refine z_goto C 90 dX6_done_86 (by decide) ?_
      subst hf
      exact hjj_10
  replace hf := if_f c_9 hf
  by_cases c_12 : p1 = 20003
  · replace hf := if_t c_12 hf
    refine z_top c_12.symm ?_
    refine z_tableIn (off := 90) C 91 dX6_done_1 (by decide) (by decide) (by decide) (by decide) ?_
    refine z_iload_n C 1 dX6_done_91 rfl rfl ?_
    refine z_iload_n C 2 dX6_done_92 rfl rfl ?_
    obtain ⟨j_13, ej_13, hf⟩ := nmo_ hf
    have hj_13 : j_13 = 0 ∨ j_13 = 1 := by rw [ej_13]; (repeat' split) <;> first | exact Or.inl rfl | exact Or.inr rfl
    have hjj_13 : Z p l e (zRm 0 0 σ) s m args below meth c (zQ below w L σ (.returned (some (.int r))) σ args s) w L (zA w L σ) 3 σ 101 [(0, .int p1), (1, .int p2), (2, .int p3)] [.int j_13] := by
      obtain rfl := fino_ hf
      exact z_iret C rfl dX6_done_101
    replace hf := ej_13
    refine z_icmp_ne C 100 dX6_done_93 (by decide) (fun c_14 => ?_) (fun c_14 => ?_)
    · replace hf := ifp_f c_14 hf
      refine z_iconst C 0 dX6_done_100 (by decide) ?_
      subst hf
      exact hjj_13
    · replace hf := ifp_t c_14 hf
      refine z_iconst C 1 dX6_done_96 (by decide) ?_
      refine z_goto C 101 dX6_done_97 (by decide) ?_
      subst hf
      exact hjj_13
  replace hf := if_f c_12 hf
  by_cases c_15 : p1 = 20004
  · replace hf := if_t c_15 hf
    refine z_top c_15.symm ?_
    refine z_tableIn (off := 101) C 102 dX6_done_1 (by decide) (by decide) (by decide) (by decide) ?_
    refine z_iload_n C 1 dX6_done_102 rfl rfl ?_
    refine z_iload_n C 2 dX6_done_103 rfl rfl ?_
    obtain ⟨j_16, ej_16, hf⟩ := nmo_ hf
    have hj_16 : j_16 = 0 ∨ j_16 = 1 := by rw [ej_16]; (repeat' split) <;> first | exact Or.inl rfl | exact Or.inr rfl
    have hjj_16 : Z p l e (zRm 0 0 σ) s m args below meth c (zQ below w L σ (.returned (some (.int r))) σ args s) w L (zA w L σ) 3 σ 112 [(0, .int p1), (1, .int p2), (2, .int p3)] [.int j_16] := by
      obtain rfl := fino_ hf
      exact z_iret C rfl dX6_done_112
    replace hf := ej_16
    refine z_icmp_le C 111 dX6_done_104 (by decide) (fun c_17 => ?_) (fun c_17 => ?_)
    · replace hf := ifp_t c_17 hf
      refine z_iconst C 0 dX6_done_111 (by decide) ?_
      subst hf
      exact hjj_16
    · replace hf := ifp_f c_17 hf
      refine z_iconst C 1 dX6_done_107 (by decide) ?_
      refine z_goto C 112 dX6_done_108 (by decide) ?_
      subst hf
      exact hjj_16
  replace hf := if_f c_15 hf
  by_cases c_18 : p1 = 20005
  · replace hf := if_t c_18 hf
    refine z_top c_18.symm ?_
    refine z_tableIn (off := 112) C 113 dX6_done_1 (by decide) (by decide) (by decide) (by decide) ?_
    refine z_iload_n C 1 dX6_done_113 rfl rfl ?_
    refine z_iload_n C 2 dX6_done_114 rfl rfl ?_
    refine z_iadd C dX6_done_115 ?_
    obtain rfl := fino_ hf
    exact z_iret C rfl dX6_done_116
  replace hf := if_f c_18 hf
  by_cases c_19 : p1 = 20006
  · replace hf := if_t c_19 hf
    refine z_top c_19.symm ?_
    refine z_tableIn (off := 116) C 117 dX6_done_1 (by decide) (by decide) (by decide) (by decide) ?_
    refine z_iload_n C 1 dX6_done_117 rfl rfl ?_
    refine z_iload_n C 2 dX6_done_118 rfl rfl ?_
    refine z_isub C dX6_done_119 ?_
    obtain rfl := fino_ hf
    exact z_iret C rfl dX6_done_120
  replace hf := if_f c_19 hf
  by_cases c_20 : p1 = 20007
  · replace hf := if_t c_20 hf
    refine z_top c_20.symm ?_
    refine z_tableIn (off := 120) C 121 dX6_done_1 (by decide) (by decide) (by decide) (by decide) ?_
    refine z_iload_n C 1 dX6_done_121 rfl rfl ?_
    refine z_iload_n C 2 dX6_done_122 rfl rfl ?_
    refine z_imul C dX6_done_123 ?_
    obtain rfl := fino_ hf
    exact z_iret C rfl dX6_done_124
  replace hf := if_f c_20 hf
  by_cases c_21 : p1 = 20008
  · replace hf := if_t c_21 hf
    refine z_top c_21.symm ?_
    refine z_tableIn (off := 124) C 125 dX6_done_1 (by decide) (by decide) (by decide) (by decide) ?_
    refine z_iload_n C 2 dX6_done_125 rfl rfl ?_
    obtain ⟨j_22, ej_22, hf⟩ := nmo_ hf
    have hjj_22 : Z p l e (zRm 0 0 σ) s m args below meth c (zQ below w L σ (.returned (some (.int r))) σ args s) w L (zA w L σ) 3 σ 136 [(0, .int p1), (1, .int p2), (2, .int p3)] [.int j_22] := by
      obtain rfl := fino_ hf
      exact z_iret C rfl dX6_done_136
    replace hf := ej_22
    refine z_if_ne C 133 dX6_done_126 (by decide) (fun c_23 => ?_) (fun c_23 => ?_)
    · replace hf := ifp_f c_23 hf
      refine z_iload_n C 1 dX6_done_133 rfl rfl ?_
      refine z_iload_n C 2 dX6_done_134 rfl rfl ?_
      refine z_idiv C dX6_done_135 c_23 ?_
      subst hf
      exact hjj_22
    · replace hf := ifp_t c_23 hf
      refine z_iconst C 0 dX6_done_129 (by decide) ?_
      refine z_goto C 136 dX6_done_130 (by decide) ?_
      subst hf
      exact hjj_22
  replace hf := if_f c_21 hf
  obtain ⟨g_24, hf⟩ := gd_ hf
  refine z_tableOut C 137 dX6_done_1 g_24 (by decide) ?_
  refine z_iload_n C 2 dX6_done_137 rfl rfl ?_
  obtain ⟨j_25, ej_25, hf⟩ := nmo_ hf
  have hjj_25 : Z p l e (zRm 0 0 σ) s m args below meth c (zQ below w L σ (.returned (some (.int r))) σ args s) w L (zA w L σ) 3 σ 148 [(0, .int p1), (1, .int p2), (2, .int p3)] [.int j_25] := by
    obtain rfl := fino_ hf
    exact z_iret C rfl dX6_done_148
  replace hf := ej_25
  refine z_if_ne C 145 dX6_done_138 (by decide) (fun c_26 => ?_) (fun c_26 => ?_)
  · replace hf := ifp_f c_26 hf
    refine z_iload_n C 1 dX6_done_145 rfl rfl ?_
    refine z_iload_n C 2 dX6_done_146 rfl rfl ?_
    refine z_irem C dX6_done_147 c_26 ?_
    subst hf
    exact hjj_25
  · replace hf := ifp_t c_26 hf
    refine z_iconst C 0 dX6_done_141 (by decide) ?_
    refine z_goto C 148 dX6_done_142 (by decide) ?_
    subst hf
    exact hjj_25
def fX6_held (p1 : Int32) (p2 : Int32) (p3 : Int32) : Int32 := fJ3_max p2 (fJ3_min p3 p1)
set_option maxHeartbeats 4000000 in
set_option maxRecDepth 100000 in
theorem tX6_held (l : Launch) (w : ZW) (L : ZL) (σ : ZS) (p1 : Int32) (p2 : Int32) (p3 : Int32) : zC l w L yX6_held (ws_ yX6_held cX6_held 3 (some .int)) 1 14 [.int p1, .int p2, .int p3] σ (.returned (some (.int (fX6_held p1 p2 p3)))) σ := by
  obtain ⟨r, hf⟩ : ∃ r, r = fX6_held p1 p2 p3 := ⟨_, rfl⟩
  rw [← hf]
  refine zC.of (plainFor_of_name (by decide)) (Nat.le_of_ble_eq_true rfl) ?_
  intro p e s m args below meth c C hnm
  show Z p l e _ s m args below meth c _ w _ _ 3 σ 0 [(0, .int p1), (1, .int p2), (2, .int p3)] []
  unfold fX6_held at hf
  refine z_iload_n C 1 dX6_held_0 rfl rfl ?_
  refine z_iload_n C 2 dX6_held_1 rfl rfl ?_
  refine z_iload_n C 0 dX6_held_2 rfl rfl ?_
  refine z_calli C (rest := [.int p2]) (av := [.int p3, .int p1]) (zPay.of q424 q84) (fun H ls hH h2 => zInv_S C (As := [.int p3, .int p1]) (rest := [.int p2]) q1579 q423 q84 (Or.inl rfl) q424 mh_J3 np_J3_min dX6_held_3) (tJ3_min l w L σ p3 p1) (Nat.le_of_ble_eq_true rfl) (Nat.le_of_ble_eq_true rfl) ?_
  refine z_calli C (rest := []) (av := [.int p2, .int (fJ3_min p3 p1)]) (zPay.of q390 q84) (fun H ls hH h2 => zInv_S C (As := [.int p2, .int (fJ3_min p3 p1)]) (rest := []) q1580 q389 q84 (Or.inl rfl) q390 mh_J3 np_J3_max dX6_held_6) (tJ3_max l w L σ p2 (fJ3_min p3 p1)) (Nat.le_of_ble_eq_true rfl) (Nat.le_of_ble_eq_true rfl) ?_
  subst hf
  exact z_iret C rfl dX6_held_9
def fX6_isCell (σ : ZS) (p1 : Int32) : Int32 := fX6_within p1 0 ((σ.1 1 (1 : Int32).toNatClampNeg) - 1)
set_option maxHeartbeats 4000000 in
set_option maxRecDepth 100000 in
theorem tX6_isCell (l : Launch) (w : ZW) (σ : ZS) (p1 : Int32) : zC l w zLm yX6_isCell (ws_ yX6_isCell cX6_isCell 2 (some .boolean)) 1 14 [.ref (w.2.2 0), .int p1] σ (.returned (some (.int (fX6_isCell σ p1)))) σ := by
  obtain ⟨r, hf⟩ : ∃ r, r = fX6_isCell σ p1 := ⟨_, rfl⟩
  rw [← hf]
  refine zC.of (plainFor_of_name (by decide)) (Nat.le_of_ble_eq_true rfl) ?_
  intro p e s m args below meth c C hnm
  show Z p l e _ s m args below meth c _ w _ _ 2 σ 0 [(0, .ref (w.2.2 0)), (1, .int p1)] []
  unfold fX6_isCell at hf
  refine z_iload_n C 1 dX6_isCell_0 rfl rfl ?_
  refine z_iconst C 0 dX6_isCell_1 (by decide) ?_
  refine z_aload_n C 0 dX6_isCell_2 rfl rfl ?_
  refine z_getR C ly_m0 (Cn := RX6) (T := TX6) (N := 24) rfl in_X6 0 (by decide) q1404 (Or.inl rfl) rfl dX6_isCell_3 ?_
  refine z_iconst C 1 dX6_isCell_6 (by decide) ?_
  refine z_ialoadF C ly_m1 (by decide) dX6_isCell_7 ?_
  refine z_iconst C 1 dX6_isCell_8 (by decide) ?_
  refine z_isub C dX6_isCell_9 ?_
  refine z_calli C (rest := []) (av := [.int p1, .int 0, .int ((σ.1 1 (1 : Int32).toNatClampNeg) - 1)]) (zPay.of q1483 q83) (fun H ls hH h2 => zInv_S C (As := [.int p1, .int 0, .int ((σ.1 1 (1 : Int32).toNatClampNeg) - 1)]) (rest := []) q1481 q1482 q83 (Or.inl rfl) q1483 mh_X6 np_X6_within dX6_isCell_10) (tX6_within l w zLm σ p1 0 ((σ.1 1 (1 : Int32).toNatClampNeg) - 1)) (Nat.le_of_ble_eq_true rfl) (Nat.le_of_ble_eq_true rfl) ?_
  subst hf
  exact z_iret C (b01 (bX6_within p1 0 ((σ.1 1 (1 : Int32).toNatClampNeg) - 1))) dX6_isCell_13
theorem bX6_isCell (σ : ZS) (p1 : Int32) : fX6_isCell σ p1 = 0 ∨ fX6_isCell σ p1 = 1 := by
  exact bX6_within p1 0 ((σ.1 1 (1 : Int32).toNatClampNeg) - 1)
def fX6_cellIs (σ : ZS) (p1 : Int32) (p2 : Int32) : Option Int32 := gd (¬ ((fX6_cellAt p1 p2) < 0 ∨ 242 ≤ (fX6_cellAt p1 p2).toNatClampNeg)) (some (σ.1 1 (fX6_cellAt p1 p2).toNatClampNeg))
set_option maxHeartbeats 4000000 in
set_option maxRecDepth 100000 in
theorem tX6_cellIs (l : Launch) (w : ZW) {σ : ZS} {p1 : Int32} {p2 : Int32} {r : Int32} (hf : fX6_cellIs σ p1 p2 = some r) : zC l w zLm yX6_cellIs (ws_ yX6_cellIs cX6_cellIs 3 (some .int)) 1 14 [.ref (w.2.2 0), .int p1, .int p2] σ (.returned (some (.int r))) σ := by
  refine zC.of (plainFor_of_name (by decide)) (Nat.le_of_ble_eq_true rfl) ?_
  intro p e s m args below meth c C hnm
  show Z p l e _ s m args below meth c _ w _ _ 3 σ 0 [(0, .ref (w.2.2 0)), (1, .int p1), (2, .int p2)] []
  unfold fX6_cellIs at hf
  refine z_aload_n C 0 dX6_cellIs_0 rfl rfl ?_
  refine z_getR C ly_m0 (Cn := RX6) (T := TX6) (N := 24) rfl in_X6 0 (by decide) q1404 (Or.inl rfl) rfl dX6_cellIs_1 ?_
  refine z_iload_n C 1 dX6_cellIs_4 rfl rfl ?_
  refine z_iload_n C 2 dX6_cellIs_5 rfl rfl ?_
  refine z_calli C (rest := [.ref (w.2.2 1)]) (av := [.int p1, .int p2]) (zPay.of q1395 q83) (fun H ls hH h2 => zInv_S C (As := [.int p1, .int p2]) (rest := [.ref (w.2.2 1)]) q1393 q1394 q83 (Or.inl rfl) q1395 mh_X6 np_X6_cellAt dX6_cellIs_6) (tX6_cellAt l w zLm σ p1 p2) (Nat.le_of_ble_eq_true rfl) (Nat.le_of_ble_eq_true rfl) ?_
  obtain ⟨g_1, hf⟩ := gd_ hf
  refine z_ialoadF C ly_m1 g_1 dX6_cellIs_9 ?_
  obtain rfl := fino_ hf
  exact z_iret C rfl dX6_cellIs_10
def fX6_hasBit (p1 : Int32) (p2 : Int32) : Int32 := nm (if ((p1 >>> (p2 &&& 31)) &&& 1) = 1 then 1 else 0) (fun (j_1 : Int32) => j_1)
set_option maxHeartbeats 4000000 in
set_option maxRecDepth 100000 in
theorem tX6_hasBit (l : Launch) (w : ZW) (L : ZL) (σ : ZS) (p1 : Int32) (p2 : Int32) : zC l w L yX6_hasBit (ws_ yX6_hasBit cX6_hasBit 2 (some .boolean)) 0 0 [.int p1, .int p2] σ (.returned (some (.int (fX6_hasBit p1 p2)))) σ := by
  obtain ⟨r, hf⟩ : ∃ r, r = fX6_hasBit p1 p2 := ⟨_, rfl⟩
  rw [← hf]
  refine zC.of (plainFor_of_name (by decide)) (Nat.le_of_ble_eq_true rfl) ?_
  intro p e s m args below meth c C hnm
  show Z p l e _ s m args below meth c _ w _ _ 2 σ 0 [(0, .int p1), (1, .int p2)] []
  unfold fX6_hasBit at hf
  refine z_iload_n C 0 dX6_hasBit_0 rfl rfl ?_
  refine z_iload_n C 1 dX6_hasBit_1 rfl rfl ?_
  refine z_ishr C dX6_hasBit_2 ?_
  refine z_iconst C 1 dX6_hasBit_3 (by decide) ?_
  refine z_iand C dX6_hasBit_4 ?_
  refine z_iconst C 1 dX6_hasBit_5 (by decide) ?_
  obtain ⟨j_1, ej_1, hf⟩ := nmp_ hf
  have hj_1 : j_1 = 0 ∨ j_1 = 1 := by rw [ej_1]; (repeat' split) <;> first | exact Or.inl rfl | exact Or.inr rfl
  have hjj_1 : Z p l e (zRm 0 0 σ) s m args below meth c (zQ below w L σ (.returned (some (.int r))) σ args s) w L (zA w L σ) 2 σ 14 [(0, .int p1), (1, .int p2)] [.int j_1] := by
    subst hf
    exact z_iret C (b01 hj_1) dX6_hasBit_14
  replace hf := ej_1
  refine z_icmp_ne C 13 dX6_hasBit_6 (by decide) (fun c_2 => ?_) (fun c_2 => ?_)
  · replace hf := ifp_f c_2 hf
    refine z_iconst C 0 dX6_hasBit_13 (by decide) ?_
    subst hf
    exact hjj_1
  · replace hf := ifp_t c_2 hf
    refine z_iconst C 1 dX6_hasBit_9 (by decide) ?_
    refine z_goto C 14 dX6_hasBit_10 (by decide) ?_
    subst hf
    exact hjj_1
theorem bX6_hasBit (p1 : Int32) (p2 : Int32) : fX6_hasBit p1 p2 = 0 ∨ fX6_hasBit p1 p2 = 1 := by
  unfold fX6_hasBit
  simp only [nm]
  repeat' split
  all_goals first | exact Or.inl rfl | exact Or.inr rfl
def fX6_shipAt (p1 : Int32) (p2 : Int32) : Int32 := (33 + (5 * p1)) + p2
set_option maxHeartbeats 4000000 in
set_option maxRecDepth 100000 in
theorem tX6_shipAt (l : Launch) (w : ZW) (L : ZL) (σ : ZS) (p1 : Int32) (p2 : Int32) : zC l w L yX6_shipAt (ws_ yX6_shipAt cX6_shipAt 2 (some .int)) 0 0 [.int p1, .int p2] σ (.returned (some (.int (fX6_shipAt p1 p2)))) σ := by
  obtain ⟨r, hf⟩ : ∃ r, r = fX6_shipAt p1 p2 := ⟨_, rfl⟩
  rw [← hf]
  refine zC.of (plainFor_of_name (by decide)) (Nat.le_of_ble_eq_true rfl) ?_
  intro p e s m args below meth c C hnm
  show Z p l e _ s m args below meth c _ w _ _ 2 σ 0 [(0, .int p1), (1, .int p2)] []
  unfold fX6_shipAt at hf
  refine z_bipush C 33 dX6_shipAt_0 (by decide) ?_
  refine z_iconst C 5 dX6_shipAt_2 (by decide) ?_
  refine z_iload_n C 0 dX6_shipAt_3 rfl rfl ?_
  refine z_imul C dX6_shipAt_4 ?_
  refine z_iadd C dX6_shipAt_5 ?_
  refine z_iload_n C 1 dX6_shipAt_6 rfl rfl ?_
  refine z_iadd C dX6_shipAt_7 ?_
  subst hf
  exact z_iret C rfl dX6_shipAt_8
def fX6_isYear (p1 : Int32) : Int32 := fX6_within p1 0 999
set_option maxHeartbeats 4000000 in
set_option maxRecDepth 100000 in
theorem tX6_isYear (l : Launch) (w : ZW) (L : ZL) (σ : ZS) (p1 : Int32) : zC l w L yX6_isYear (ws_ yX6_isYear cX6_isYear 1 (some .boolean)) 1 14 [.int p1] σ (.returned (some (.int (fX6_isYear p1)))) σ := by
  obtain ⟨r, hf⟩ : ∃ r, r = fX6_isYear p1 := ⟨_, rfl⟩
  rw [← hf]
  refine zC.of (plainFor_of_name (by decide)) (Nat.le_of_ble_eq_true rfl) ?_
  intro p e s m args below meth c C hnm
  show Z p l e _ s m args below meth c _ w _ _ 1 σ 0 [(0, .int p1)] []
  unfold fX6_isYear at hf
  refine z_iload_n C 0 dX6_isYear_0 rfl rfl ?_
  refine z_iconst C 0 dX6_isYear_1 (by decide) ?_
  refine z_sipush C 999 dX6_isYear_2 (by decide) ?_
  refine z_calli C (rest := []) (av := [.int p1, .int 0, .int 999]) (zPay.of q1483 q83) (fun H ls hH h2 => zInv_S C (As := [.int p1, .int 0, .int 999]) (rest := []) q1481 q1482 q83 (Or.inl rfl) q1483 mh_X6 np_X6_within dX6_isYear_5) (tX6_within l w L σ p1 0 999) (Nat.le_of_ble_eq_true rfl) (Nat.le_of_ble_eq_true rfl) ?_
  subst hf
  exact z_iret C (b01 (bX6_within p1 0 999)) dX6_isYear_8
theorem bX6_isYear (p1 : Int32) : fX6_isYear p1 = 0 ∨ fX6_isYear p1 = 1 := by
  exact bX6_within p1 0 999
def fX6_isKindM (p1 : Int32) : Int32 := fX6_within p1 0 69
set_option maxHeartbeats 4000000 in
set_option maxRecDepth 100000 in
theorem tX6_isKindM (l : Launch) (w : ZW) (L : ZL) (σ : ZS) (p1 : Int32) : zC l w L yX6_isKindM (ws_ yX6_isKindM cX6_isKindM 1 (some .boolean)) 1 14 [.int p1] σ (.returned (some (.int (fX6_isKindM p1)))) σ := by
  obtain ⟨r, hf⟩ : ∃ r, r = fX6_isKindM p1 := ⟨_, rfl⟩
  rw [← hf]
  refine zC.of (plainFor_of_name (by decide)) (Nat.le_of_ble_eq_true rfl) ?_
  intro p e s m args below meth c C hnm
  show Z p l e _ s m args below meth c _ w _ _ 1 σ 0 [(0, .int p1)] []
  unfold fX6_isKindM at hf
  refine z_iload_n C 0 dX6_isKindM_0 rfl rfl ?_
  refine z_iconst C 0 dX6_isKindM_1 (by decide) ?_
  refine z_bipush C 69 dX6_isKindM_2 (by decide) ?_
  refine z_calli C (rest := []) (av := [.int p1, .int 0, .int 69]) (zPay.of q1483 q83) (fun H ls hH h2 => zInv_S C (As := [.int p1, .int 0, .int 69]) (rest := []) q1481 q1482 q83 (Or.inl rfl) q1483 mh_X6 np_X6_within dX6_isKindM_4) (tX6_within l w L σ p1 0 69) (Nat.le_of_ble_eq_true rfl) (Nat.le_of_ble_eq_true rfl) ?_
  subst hf
  exact z_iret C (b01 (bX6_within p1 0 69)) dX6_isKindM_7
theorem bX6_isKindM (p1 : Int32) : fX6_isKindM p1 = 0 ∨ fX6_isKindM p1 = 1 := by
  exact bX6_within p1 0 69
def fX6_isDigit (p1 : Int32) : Int32 := fX6_within p1 0 9
set_option maxHeartbeats 4000000 in
set_option maxRecDepth 100000 in
theorem tX6_isDigit (l : Launch) (w : ZW) (L : ZL) (σ : ZS) (p1 : Int32) : zC l w L yX6_isDigit (ws_ yX6_isDigit cX6_isDigit 1 (some .boolean)) 1 14 [.int p1] σ (.returned (some (.int (fX6_isDigit p1)))) σ := by
  obtain ⟨r, hf⟩ : ∃ r, r = fX6_isDigit p1 := ⟨_, rfl⟩
  rw [← hf]
  refine zC.of (plainFor_of_name (by decide)) (Nat.le_of_ble_eq_true rfl) ?_
  intro p e s m args below meth c C hnm
  show Z p l e _ s m args below meth c _ w _ _ 1 σ 0 [(0, .int p1)] []
  unfold fX6_isDigit at hf
  refine z_iload_n C 0 dX6_isDigit_0 rfl rfl ?_
  refine z_iconst C 0 dX6_isDigit_1 (by decide) ?_
  refine z_bipush C 9 dX6_isDigit_2 (by decide) ?_
  refine z_calli C (rest := []) (av := [.int p1, .int 0, .int 9]) (zPay.of q1483 q83) (fun H ls hH h2 => zInv_S C (As := [.int p1, .int 0, .int 9]) (rest := []) q1481 q1482 q83 (Or.inl rfl) q1483 mh_X6 np_X6_within dX6_isDigit_4) (tX6_within l w L σ p1 0 9) (Nat.le_of_ble_eq_true rfl) (Nat.le_of_ble_eq_true rfl) ?_
  subst hf
  exact z_iret C (b01 (bX6_within p1 0 9)) dX6_isDigit_7
theorem bX6_isDigit (p1 : Int32) : fX6_isDigit p1 = 0 ∨ fX6_isDigit p1 = 1 := by
  exact bX6_within p1 0 9
