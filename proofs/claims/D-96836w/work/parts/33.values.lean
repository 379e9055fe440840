/-! the values of terms (written by gen/main_x.py) -/
theorem np_X8_is : zNp yX8_is.desc 1 := by unfold zNp; decide +kernel
def fX8_is (σ : ZS) (p1 : Int32) : Int32 := nm (if p1 = 0 then 0 else 1) (fun (j_1 : Int32) => j_1)
set_option maxHeartbeats 4000000 in
set_option maxRecDepth 100000 in
theorem tX8_is (l : Launch) (w : ZW) (σ : ZS) (p1 : Int32) : zC l w zLx yX8_is (ws_ yX8_is cX8_is 1 (some .int)) 0 0 [.int p1] σ (.returned (some (.int (fX8_is σ p1)))) σ := by
  obtain ⟨r, hf⟩ : ∃ r, r = fX8_is σ p1 := ⟨_, rfl⟩
  rw [← hf]
  refine zC.of (plainFor_of_name (by decide)) (Nat.le_of_ble_eq_true rfl) ?_
  intro p e s m args below meth c C hnm
  show Z p l e _ s m args below meth c _ w _ _ 1 σ 0 [(0, .int p1)] []
  unfold fX8_is at hf
  refine z_iload_n C 0 dX8_is_0 rfl rfl ?_
  obtain ⟨j_1, ej_1, hf⟩ := nmp_ hf
  have hj_1 : j_1 = 0 ∨ j_1 = 1 := by rw [ej_1]; (try dsimp only [nm]); (repeat' split) <;> first | exact Or.inl rfl | exact Or.inr rfl
  have hjj_1 : Z p l e (zRm 0 0 σ) s m args below meth c (zQ below w zLx σ (.returned (some (.int r))) σ args s) w zLx (zA w zLx σ) 1 σ 9 [(0, .int p1)] [.int j_1] := by
    subst hf
    exact z_iret C rfl dX8_is_9
  replace hf := ej_1
  refine z_if_eq C 8 dX8_is_1 (by decide) (fun c_2 => ?_) (fun c_2 => ?_)
  · replace hf := ifp_t c_2 hf
    refine z_iconst C 0 dX8_is_8 (by decide) ?_
    subst hf
    exact hjj_1
  · replace hf := ifp_f c_2 hf
    refine z_iconst C 1 dX8_is_4 (by decide) ?_
    refine z_goto C 9 dX8_is_5 (by decide) ?_
    subst hf
    exact hjj_1
def fX20_value (rc : Nat → Option Int32) (σ : ZS) (v : Int32) (b : Nat) : Option Int32 := some v
set_option maxHeartbeats 4000000 in
set_option maxRecDepth 100000 in
theorem tX20_value (l : Launch) (w : ZW) {σ : ZS} {v : Int32} {b : Nat} {a : Nat} (hP : σ.2.2.1 a = some (.inr (19, [.int v]))) (hb : zBay b) {rc : Nat → Option Int32} {fr lo : Nat} (hrc : ∀ a r, rc a = some r → zVal l w σ b fr lo a r) {r : Int32} (hf : fX20_value rc σ v b = some r) : zC l w zLx yX20_value (ws_ yX20_value cX20_value 2 (some .int)) (fr + 12) (lo + 100) [.ref a, .ref (w.2.2 (b + 20))] σ (.returned (some (.int r))) σ := by
  refine zC.of (plainFor_of_name (by decide)) (Nat.le_of_ble_eq_true rfl) ?_
  intro p e s m args below meth c C hnm
  show Z p l e _ s m args below meth c _ w _ _ 2 σ 0 [(0, .ref a), (1, .ref (w.2.2 (b + 20)))] []
  unfold fX20_value at hf
  refine z_aload_n C 0 dX20_value_0 rfl rfl ?_
  refine z_get C (ci := 19) (Cn := RX20) (T := TX20) (N := 1) (fs := [.int v]) (v := .int v) rfl in_X20 (zSee.pool hP) 0 (by decide) q880 (Or.inl rfl) rfl dX20_value_1 ?_
  obtain rfl := fino_ hf
  exact z_iret C rfl dX20_value_4
def fX17_value (rc : Nat → Option Int32) (σ : ZS) (v : Int32) (b : Nat) : Option Int32 := gd (¬ (v < 0 ∨ 128 ≤ v.toNatClampNeg)) (some (σ.1 (b + 21) v.toNatClampNeg))
set_option maxHeartbeats 4000000 in
set_option maxRecDepth 100000 in
theorem tX17_value (l : Launch) (w : ZW) {σ : ZS} {v : Int32} {b : Nat} {a : Nat} (hP : σ.2.2.1 a = some (.inr (16, [.int v]))) (hb : zBay b) {rc : Nat → Option Int32} {fr lo : Nat} (hrc : ∀ a r, rc a = some r → zVal l w σ b fr lo a r) {r : Int32} (hf : fX17_value rc σ v b = some r) : zC l w zLx yX17_value (ws_ yX17_value cX17_value 2 (some .int)) (fr + 12) (lo + 100) [.ref a, .ref (w.2.2 (b + 20))] σ (.returned (some (.int r))) σ := by
  refine zC.of (plainFor_of_name (by decide)) (Nat.le_of_ble_eq_true rfl) ?_
  intro p e s m args below meth c C hnm
  show Z p l e _ s m args below meth c _ w _ _ 2 σ 0 [(0, .ref a), (1, .ref (w.2.2 (b + 20)))] []
  unfold fX17_value at hf
  refine z_aload_n C 1 dX17_value_0 rfl rfl ?_
  refine z_getRN C (ly_b20 hb) (Cn := RX3) (T := TX3) (N := 1) rfl in_X3 0 (by decide) q204 (Or.inl rfl) rfl dX17_value_1 ?_
  refine z_aload_n C 0 dX17_value_4 rfl rfl ?_
  refine z_get C (ci := 16) (Cn := RX17) (T := TX17) (N := 1) (fs := [.int v]) (v := .int v) rfl in_X17 (zSee.pool hP) 0 (by decide) q830 (Or.inl rfl) rfl dX17_value_5 ?_
  obtain ⟨g_1, hf⟩ := gd_ hf
  refine z_ialoadF C (ly_b21 hb) g_1 dX17_value_8 ?_
  obtain rfl := fino_ hf
  exact z_iret C rfl dX17_value_9
def fX19_value (rc : Nat → Option Int32) (σ : ZS) (a1 : Nat) (b : Nat) : Option Int32 := bo (rc a1) (fun r_1 => nm (if r_1 = 0 then 1 else 0) (fun (j_3 : Int32) => some j_3))
set_option maxHeartbeats 4000000 in
set_option maxRecDepth 100000 in
theorem tX19_value (l : Launch) (w : ZW) {σ : ZS} {a1 : Nat} {b : Nat} {a : Nat} (hP : σ.2.2.1 a = some (.inr (18, [.ref a1]))) (hb : zBay b) {rc : Nat → Option Int32} {fr lo : Nat} (hrc : ∀ a r, rc a = some r → zVal l w σ b fr lo a r) {r : Int32} (hf : fX19_value rc σ a1 b = some r) : zC l w zLx yX19_value (ws_ yX19_value cX19_value 2 (some .int)) (fr + 12) (lo + 100) [.ref a, .ref (w.2.2 (b + 20))] σ (.returned (some (.int r))) σ := by
  refine zC.of (plainFor_of_name (by decide)) (Nat.le_of_ble_eq_true rfl) ?_
  intro p e s m args below meth c C hnm
  show Z p l e _ s m args below meth c _ w _ _ 2 σ 0 [(0, .ref a), (1, .ref (w.2.2 (b + 20)))] []
  unfold fX19_value at hf
  refine z_aload_n C 0 dX19_value_0 rfl rfl ?_
  refine z_get C (ci := 18) (Cn := RX19) (T := TX19) (N := 1) (fs := [.ref a1]) (v := .ref a1) rfl in_X19 (zSee.pool hP) 0 (by decide) q868 (Or.inl rfl) rfl dX19_value_1 ?_
  refine z_aload_n C 1 dX19_value_4 rfl rfl ?_
  obtain ⟨r_1, e_2, hf⟩ := bo_ hf
  refine z_term C q411 (hrc _ _ e_2) dX19_value_5 (by show fr + 1 ≤ fr + 12; omega) (by show 0 + (4 + 11) + lo ≤ lo + 100; omega) ?_
  obtain ⟨j_3, ej_3, hf⟩ := nmo_ hf
  have hj_3 : j_3 = 0 ∨ j_3 = 1 := by rw [ej_3]; (try dsimp only [nm]); (repeat' split) <;> first | exact Or.inl rfl | exact Or.inr rfl
  have hjj_3 : Z p l e (zRm (fr + 12) (lo + 100) σ) s m args below meth c (zQ below w zLx σ (.returned (some (.int r))) σ args s) w zLx (zA w zLx σ) 2 σ 16 [(0, .ref a), (1, .ref (w.2.2 (b + 20)))] [.int j_3] := by
    obtain rfl := fino_ hf
    exact z_iret C rfl dX19_value_16
  replace hf := ej_3
  refine z_if_ne C 15 dX19_value_8 (by decide) (fun c_4 => ?_) (fun c_4 => ?_)
  · replace hf := ifp_f c_4 hf
    refine z_iconst C 0 dX19_value_15 (by decide) ?_
    subst hf
    exact hjj_3
  · replace hf := ifp_t c_4 hf
    refine z_iconst C 1 dX19_value_11 (by decide) ?_
    refine z_goto C 16 dX19_value_12 (by decide) ?_
    subst hf
    exact hjj_3
def fX8_value (rc : Nat → Option Int32) (σ : ZS) (v : Int32) (a1 : Nat) (a2 : Nat) (b : Nat) : Option Int32 := bo (rc a1) (fun r_1 => bo (rc a2) (fun r_3 => if v = 37 then (nm (if r_3 = 0 then 0 else (r_1 - r_1 / r_3 * r_3)) (fun (j_6 : Int32) => some j_6)) else (if v = 38 then (nm (if r_1 = 0 then 0 else (if r_3 = 0 then 0 else 1)) (fun (j_9 : Int32) => some (fX8_is σ j_9))) else (if v = 42 then (some (r_1 * r_3)) else (if v = 43 then (some (r_1 + r_3)) else (if v = 45 then (some (r_1 - r_3)) else (if v = 47 then (nm (if r_3 = 0 then 0 else (r_1 / r_3)) (fun (j_16 : Int32) => some j_16)) else (if v = 60 then (nm (if r_3 ≤ r_1 then 0 else 1) (fun (j_19 : Int32) => some (fX8_is σ j_19))) else (if v = 61 then (nm (if r_1 = r_3 then 1 else 0) (fun (j_22 : Int32) => some (fX8_is σ j_22))) else (if v = 62 then (nm (if r_1 ≤ r_3 then 0 else 1) (fun (j_25 : Int32) => some (fX8_is σ j_25))) else (gd (v.toInt < 37 ∨ 62 < v.toInt ∨ (#[142, 196, 213, 213, 213, 126, 118, 213, 122, 213, 130, 213, 213, 213, 213, 213, 213, 213, 213, 213, 213, 213, 213, 154, 168, 182] : Array Int)[(v.toInt - 37).toNat]? = some 213) (nm (if r_1 = 0 then (if r_3 = 0 then 0 else 1) else 1) (fun (j_28 : Int32) => some (fX8_is σ j_28))))))))))))))
set_option maxHeartbeats 4000000 in
set_option maxRecDepth 100000 in
theorem tX8_value (l : Launch) (w : ZW) {σ : ZS} {v : Int32} {a1 : Nat} {a2 : Nat} {b : Nat} {a : Nat} (hP : σ.2.2.1 a = some (.inr (7, [.int v, .ref a1, .ref a2]))) (hb : zBay b) {rc : Nat → Option Int32} {fr lo : Nat} (hrc : ∀ a r, rc a = some r → zVal l w σ b fr lo a r) {r : Int32} (hf : fX8_value rc σ v a1 a2 b = some r) : zC l w zLx yX8_value (ws_ yX8_value cX8_value 4 (some .int)) (fr + 12) (lo + 100) [.ref a, .ref (w.2.2 (b + 20))] σ (.returned (some (.int r))) σ := by
  refine zC.of (plainFor_of_name (by decide)) (Nat.le_of_ble_eq_true rfl) ?_
  intro p e s m args below meth c C hnm
  show Z p l e _ s m args below meth c _ w _ _ 4 σ 0 [(0, .ref a), (1, .ref (w.2.2 (b + 20)))] []
  unfold fX8_value at hf
  refine z_aload_n C 0 dX8_value_0 rfl rfl ?_
  refine z_get C (ci := 7) (Cn := RX8) (T := TX8) (N := 3) (fs := [.int v, .ref a1, .ref a2]) (v := .ref a1) rfl in_X8 (zSee.pool hP) 1 (by decide) q892 (Or.inl rfl) rfl dX8_value_1 ?_
  refine z_aload_n C 1 dX8_value_4 rfl rfl ?_
  obtain ⟨r_1, e_2, hf⟩ := bo_ hf
  refine z_term C q414 (hrc _ _ e_2) dX8_value_5 (by show fr + 1 ≤ fr + 12; omega) (by show 0 + (4 + 11) + lo ≤ lo + 100; omega) ?_
  refine z_istore_n C dX8_value_8 rfl (by decide) rfl (lv' := [(2, .int r_1), (0, .ref a), (1, .ref (w.2.2 (b + 20)))]) ?_
  refine z_aload_n C 1 dX8_value_9 rfl rfl ?_
  refine z_get C (ci := 7) (Cn := RX8) (T := TX8) (N := 3) (fs := [.int v, .ref a1, .ref a2]) (v := .ref a2) rfl in_X8 (zSee.pool hP) 2 (by decide) q893 (Or.inl rfl) rfl dX8_value_10 ?_
  refine z_aload_n C 2 dX8_value_13 rfl rfl ?_
  obtain ⟨r_3, e_4, hf⟩ := bo_ hf
  refine z_term C q414 (hrc _ _ e_4) dX8_value_14 (by show fr + 1 ≤ fr + 12; omega) (by show 0 + (4 + 11) + lo ≤ lo + 100; omega) ?_
  refine z_istore_n C dX8_value_17 rfl (by decide) rfl (lv' := [(3, .int r_3), (2, .int r_1), (0, .ref a), (1, .ref (w.2.2 (b + 20)))]) ?_
  refine z_aload_n C 2 dX8_value_18 rfl rfl ?_
  refine z_get C (ci := 7) (Cn := RX8) (T := TX8) (N := 3) (fs := [.int v, .ref a1, .ref a2]) (v := .int v) rfl in_X8 (zSee.pool hP) 0 (by decide) q891 (Or.inl rfl) rfl dX8_value_19 ?_
  by_cases c_5 : v = 37
  · replace hf := if_t c_5 hf
    refine z_top c_5.symm ?_
    refine z_tableIn (off := 142) C 164 dX8_value_22 (by decide) (by decide) (by decide) (by decide) ?_
    refine z_iload_n C 0 dX8_value_164 rfl rfl ?_
    obtain ⟨j_6, ej_6, hf⟩ := nmo_ hf
    have hjj_6 : Z p l e (zRm (fr + 12) (lo + 100) σ) s m args below meth c (zQ below w zLx σ (.returned (some (.int r))) σ args s) w zLx (zA w zLx σ) 4 σ 175 [(0, .ref a), (1, .ref (w.2.2 (b + 20))), (2, .int r_1), (3, .int r_3)] [.int j_6] := by
      obtain rfl := fino_ hf
      exact z_iret C rfl dX8_value_175
    replace hf := ej_6
    refine z_if_ne C 172 dX8_value_165 (by decide) (fun c_7 => ?_) (fun c_7 => ?_)
    · replace hf := ifp_f c_7 hf
      refine z_iload_n C 1 dX8_value_172 rfl rfl ?_
      refine z_iload_n C 0 dX8_value_173 rfl rfl ?_
      refine z_irem C dX8_value_174 c_7 ?_
      subst hf
      exact z_lv [2, 3, 1, 0] rfl hjj_6
    · replace hf := ifp_t c_7 hf
      refine z_iconst C 0 dX8_value_168 (by decide) ?_
      refine z_goto C 175 dX8_value_169 (by decide) ?_
      subst hf
      exact z_lv [2, 3, 1, 0] rfl hjj_6
  replace hf := if_f c_5 hf
  by_cases c_8 : v = 38
  · replace hf := if_t c_8 hf
    refine z_top c_8.symm ?_
    refine z_tableIn (off := 196) C 218 dX8_value_22 (by decide) (by decide) (by decide) (by decide) ?_
    refine z_iload_n C 1 dX8_value_218 rfl rfl ?_
    obtain ⟨j_9, ej_9, hf⟩ := nmo_ hf
    have hj_9 : j_9 = 0 ∨ j_9 = 1 := by rw [ej_9]; (try dsimp only [nm]); (repeat' split) <;> first | exact Or.inl rfl | exact Or.inr rfl
    have hjj_9 : Z p l e (zRm (fr + 12) (lo + 100) σ) s m args below meth c (zQ below w zLx σ (.returned (some (.int r))) σ args s) w zLx (zA w zLx σ) 4 σ 231 [(0, .ref a), (1, .ref (w.2.2 (b + 20))), (2, .int r_1), (3, .int r_3)] [.int j_9] := by
      refine z_calli C (rest := []) (av := [.int j_9]) (zPay.of q417 q86) (fun H ls hH h2 => zInv_S C (As := [.int j_9]) (rest := []) q415 q416 q86 (Or.inl rfl) q417 mh_X8 np_X8_is dX8_value_231) (tX8_is l w σ j_9) (by show 0 + 1 ≤ fr + 12; omega) (by show 0 + (1 + 11) + 0 ≤ lo + 100; omega) ?_
      obtain rfl := fino_ hf
      exact z_iret C rfl dX8_value_234
    replace hf := ej_9
    refine z_if_eq C 230 dX8_value_219 (by decide) (fun c_10 => ?_) (fun c_10 => ?_)
    · replace hf := ifp_t c_10 hf
      refine z_iconst C 0 dX8_value_230 (by decide) ?_
      subst hf
      exact z_lv [2, 3, 1, 0] rfl hjj_9
    · replace hf := ifp_f c_10 hf
      refine z_iload_n C 0 dX8_value_222 rfl rfl ?_
      refine z_if_eq C 230 dX8_value_223 (by decide) (fun c_11 => ?_) (fun c_11 => ?_)
      · replace hf := ifp_t c_11 hf
        refine z_iconst C 0 dX8_value_230 (by decide) ?_
        subst hf
        exact z_lv [2, 3, 1, 0] rfl hjj_9
      · replace hf := ifp_f c_11 hf
        refine z_iconst C 1 dX8_value_226 (by decide) ?_
        refine z_goto C 231 dX8_value_227 (by decide) ?_
        subst hf
        exact z_lv [2, 3, 1, 0] rfl hjj_9
  replace hf := if_f c_8 hf
  by_cases c_12 : v = 42
  · replace hf := if_t c_12 hf
    refine z_top c_12.symm ?_
    refine z_tableIn (off := 126) C 148 dX8_value_22 (by decide) (by decide) (by decide) (by decide) ?_
    refine z_iload_n C 1 dX8_value_148 rfl rfl ?_
    refine z_iload_n C 0 dX8_value_149 rfl rfl ?_
    refine z_imul C dX8_value_150 ?_
    obtain rfl := fino_ hf
    exact z_iret C rfl dX8_value_151
  replace hf := if_f c_12 hf
  by_cases c_13 : v = 43
  · replace hf := if_t c_13 hf
    refine z_top c_13.symm ?_
    refine z_tableIn (off := 118) C 140 dX8_value_22 (by decide) (by decide) (by decide) (by decide) ?_
    refine z_iload_n C 1 dX8_value_140 rfl rfl ?_
    refine z_iload_n C 0 dX8_value_141 rfl rfl ?_
    refine z_iadd C dX8_value_142 ?_
    obtain rfl := fino_ hf
    exact z_iret C rfl dX8_value_143
  replace hf := if_f c_13 hf
  by_cases c_14 : v = 45
  · replace hf := if_t c_14 hf
    refine z_top c_14.symm ?_
    refine z_tableIn (off := 122) C 144 dX8_value_22 (by decide) (by decide) (by decide) (by decide) ?_
    refine z_iload_n C 1 dX8_value_144 rfl rfl ?_
    refine z_iload_n C 0 dX8_value_145 rfl rfl ?_
    refine z_isub C dX8_value_146 ?_
    obtain rfl := fino_ hf
    exact z_iret C rfl dX8_value_147
  replace hf := if_f c_14 hf
  by_cases c_15 : v = 47
  · replace hf := if_t c_15 hf
    refine z_top c_15.symm ?_
    refine z_tableIn (off := 130) C 152 dX8_value_22 (by decide) (by decide) (by decide) (by decide) ?_
    refine z_iload_n C 0 dX8_value_152 rfl rfl ?_
    obtain ⟨j_16, ej_16, hf⟩ := nmo_ hf
    have hjj_16 : Z p l e (zRm (fr + 12) (lo + 100) σ) s m args below meth c (zQ below w zLx σ (.returned (some (.int r))) σ args s) w zLx (zA w zLx σ) 4 σ 163 [(0, .ref a), (1, .ref (w.2.2 (b + 20))), (2, .int r_1), (3, .int r_3)] [.int j_16] := by
      obtain rfl := fino_ hf
      exact z_iret C rfl dX8_value_163
    replace hf := ej_16
    refine z_if_ne C 160 dX8_value_153 (by decide) (fun c_17 => ?_) (fun c_17 => ?_)
    · replace hf := ifp_f c_17 hf
      refine z_iload_n C 1 dX8_value_160 rfl rfl ?_
      refine z_iload_n C 0 dX8_value_161 rfl rfl ?_
      refine z_idiv C dX8_value_162 c_17 ?_
      subst hf
      exact z_lv [2, 3, 1, 0] rfl hjj_16
    · replace hf := ifp_t c_17 hf
      refine z_iconst C 0 dX8_value_156 (by decide) ?_
      refine z_goto C 163 dX8_value_157 (by decide) ?_
      subst hf
      exact z_lv [2, 3, 1, 0] rfl hjj_16
  replace hf := if_f c_15 hf
  by_cases c_18 : v = 60
  · replace hf := if_t c_18 hf
    refine z_top c_18.symm ?_
    refine z_tableIn (off := 154) C 176 dX8_value_22 (by decide) (by decide) (by decide) (by decide) ?_
    refine z_iload_n C 1 dX8_value_176 rfl rfl ?_
    refine z_iload_n C 0 dX8_value_177 rfl rfl ?_
    obtain ⟨j_19, ej_19, hf⟩ := nmo_ hf
    have hj_19 : j_19 = 0 ∨ j_19 = 1 := by rw [ej_19]; (try dsimp only [nm]); (repeat' split) <;> first | exact Or.inl rfl | exact Or.inr rfl
    have hjj_19 : Z p l e (zRm (fr + 12) (lo + 100) σ) s m args below meth c (zQ below w zLx σ (.returned (some (.int r))) σ args s) w zLx (zA w zLx σ) 4 σ 186 [(0, .ref a), (1, .ref (w.2.2 (b + 20))), (2, .int r_1), (3, .int r_3)] [.int j_19] := by
      refine z_calli C (rest := []) (av := [.int j_19]) (zPay.of q417 q86) (fun H ls hH h2 => zInv_S C (As := [.int j_19]) (rest := []) q415 q416 q86 (Or.inl rfl) q417 mh_X8 np_X8_is dX8_value_186) (tX8_is l w σ j_19) (by show 0 + 1 ≤ fr + 12; omega) (by show 0 + (1 + 11) + 0 ≤ lo + 100; omega) ?_
      obtain rfl := fino_ hf
      exact z_iret C rfl dX8_value_189
    replace hf := ej_19
    refine z_icmp_ge C 185 dX8_value_178 (by decide) (fun c_20 => ?_) (fun c_20 => ?_)
    · replace hf := ifp_t c_20 hf
      refine z_iconst C 0 dX8_value_185 (by decide) ?_
      subst hf
      exact z_lv [2, 3, 1, 0] rfl hjj_19
    · replace hf := ifp_f c_20 hf
      refine z_iconst C 1 dX8_value_181 (by decide) ?_
      refine z_goto C 186 dX8_value_182 (by decide) ?_
      subst hf
      exact z_lv [2, 3, 1, 0] rfl hjj_19
  replace hf := if_f c_18 hf
  by_cases c_21 : v = 61
  · replace hf := if_t c_21 hf
    refine z_top c_21.symm ?_
    refine z_tableIn (off := 168) C 190 dX8_value_22 (by decide) (by decide) (by decide) (by decide) ?_
    refine z_iload_n C 1 dX8_value_190 rfl rfl ?_
    refine z_iload_n C 0 dX8_value_191 rfl rfl ?_
    obtain ⟨j_22, ej_22, hf⟩ := nmo_ hf
    have hj_22 : j_22 = 0 ∨ j_22 = 1 := by rw [ej_22]; (try dsimp only [nm]); (repeat' split) <;> first | exact Or.inl rfl | exact Or.inr rfl
    have hjj_22 : Z p l e (zRm (fr + 12) (lo + 100) σ) s m args below meth c (zQ below w zLx σ (.returned (some (.int r))) σ args s) w zLx (zA w zLx σ) 4 σ 200 [(0, .ref a), (1, .ref (w.2.2 (b + 20))), (2, .int r_1), (3, .int r_3)] [.int j_22] := by
      refine z_calli C (rest := []) (av := [.int j_22]) (zPay.of q417 q86) (fun H ls hH h2 => zInv_S C (As := [.int j_22]) (rest := []) q415 q416 q86 (Or.inl rfl) q417 mh_X8 np_X8_is dX8_value_200) (tX8_is l w σ j_22) (by show 0 + 1 ≤ fr + 12; omega) (by show 0 + (1 + 11) + 0 ≤ lo + 100; omega) ?_
      obtain rfl := fino_ hf
      exact z_iret C rfl dX8_value_203
    replace hf := ej_22
    refine z_icmp_ne C 199 dX8_value_192 (by decide) (fun c_23 => ?_) (fun c_23 => ?_)
    · replace hf := ifp_f c_23 hf
      refine z_iconst C 0 dX8_value_199 (by decide) ?_
      subst hf
      exact z_lv [2, 3, 1, 0] rfl hjj_22
    · replace hf := ifp_t c_23 hf
      refine z_iconst C 1 dX8_value_195 (by decide) ?_
      refine z_goto C 200 dX8_value_196 (by decide) ?_
      subst hf
      exact z_lv [2, 3, 1, 0] rfl hjj_22
  replace hf := if_f c_21 hf
  by_cases c_24 : v = 62
  · replace hf := if_t c_24 hf
    refine z_top c_24.symm ?_
    refine z_tableIn (off := 182) C 204 dX8_value_22 (by decide) (by decide) (by decide) (by decide) ?_
    refine z_iload_n C 1 dX8_value_204 rfl rfl ?_
    refine z_iload_n C 0 dX8_value_205 rfl rfl ?_
    obtain ⟨j_25, ej_25, hf⟩ := nmo_ hf
    have hj_25 : j_25 = 0 ∨ j_25 = 1 := by rw [ej_25]; (try dsimp only [nm]); (repeat' split) <;> first | exact Or.inl rfl | exact Or.inr rfl
    have hjj_25 : Z p l e (zRm (fr + 12) (lo + 100) σ) s m args below meth c (zQ below w zLx σ (.returned (some (.int r))) σ args s) w zLx (zA w zLx σ) 4 σ 214 [(0, .ref a), (1, .ref (w.2.2 (b + 20))), (2, .int r_1), (3, .int r_3)] [.int j_25] := by
      refine z_calli C (rest := []) (av := [.int j_25]) (zPay.of q417 q86) (fun H ls hH h2 => zInv_S C (As := [.int j_25]) (rest := []) q415 q416 q86 (Or.inl rfl) q417 mh_X8 np_X8_is dX8_value_214) (tX8_is l w σ j_25) (by show 0 + 1 ≤ fr + 12; omega) (by show 0 + (1 + 11) + 0 ≤ lo + 100; omega) ?_
      obtain rfl := fino_ hf
      exact z_iret C rfl dX8_value_217
    replace hf := ej_25
    refine z_icmp_le C 213 dX8_value_206 (by decide) (fun c_26 => ?_) (fun c_26 => ?_)
    · replace hf := ifp_t c_26 hf
      refine z_iconst C 0 dX8_value_213 (by decide) ?_
      subst hf
      exact z_lv [2, 3, 1, 0] rfl hjj_25
    · replace hf := ifp_f c_26 hf
      refine z_iconst C 1 dX8_value_209 (by decide) ?_
      refine z_goto C 214 dX8_value_210 (by decide) ?_
      subst hf
      exact z_lv [2, 3, 1, 0] rfl hjj_25
  replace hf := if_f c_24 hf
  obtain ⟨g_27, hf⟩ := gd_ hf
  refine z_tableDef C 235 dX8_value_22 g_27 (by decide) ?_
  refine z_iload_n C 1 dX8_value_235 rfl rfl ?_
  obtain ⟨j_28, ej_28, hf⟩ := nmo_ hf
  have hj_28 : j_28 = 0 ∨ j_28 = 1 := by rw [ej_28]; (try dsimp only [nm]); (repeat' split) <;> first | exact Or.inl rfl | exact Or.inr rfl
  have hjj_28 : Z p l e (zRm (fr + 12) (lo + 100) σ) s m args below meth c (zQ below w zLx σ (.returned (some (.int r))) σ args s) w zLx (zA w zLx σ) 4 σ 248 [(0, .ref a), (1, .ref (w.2.2 (b + 20))), (2, .int r_1), (3, .int r_3)] [.int j_28] := by
    refine z_calli C (rest := []) (av := [.int j_28]) (zPay.of q417 q86) (fun H ls hH h2 => zInv_S C (As := [.int j_28]) (rest := []) q415 q416 q86 (Or.inl rfl) q417 mh_X8 np_X8_is dX8_value_248) (tX8_is l w σ j_28) (by show 0 + 1 ≤ fr + 12; omega) (by show 0 + (1 + 11) + 0 ≤ lo + 100; omega) ?_
    obtain rfl := fino_ hf
    exact z_iret C rfl dX8_value_251
  replace hf := ej_28
  refine z_if_ne C 243 dX8_value_236 (by decide) (fun c_29 => ?_) (fun c_29 => ?_)
  · replace hf := ifp_f c_29 hf
    refine z_iconst C 1 dX8_value_243 (by decide) ?_
    refine z_goto C 248 dX8_value_244 (by decide) ?_
    subst hf
    exact z_lv [2, 3, 1, 0] rfl hjj_28
  · replace hf := ifp_t c_29 hf
    refine z_iload_n C 0 dX8_value_239 rfl rfl ?_
    refine z_if_eq C 247 dX8_value_240 (by decide) (fun c_30 => ?_) (fun c_30 => ?_)
    · replace hf := ifp_t c_30 hf
      refine z_iconst C 0 dX8_value_247 (by decide) ?_
      subst hf
      exact z_lv [2, 3, 1, 0] rfl hjj_28
    · replace hf := ifp_f c_30 hf
      refine z_iconst C 1 dX8_value_243 (by decide) ?_
      refine z_goto C 248 dX8_value_244 (by decide) ?_
      subst hf
      exact z_lv [2, 3, 1, 0] rfl hjj_28
def fV : Nat → ZS → Nat → Nat → Option Int32
  | 0, _, _, _ => none
  | d + 1, σ, b, a => match σ.2.2.1 a with
    | some (.inr (19, [.int v])) => fX20_value (fV d σ b) σ v b
    | some (.inr (16, [.int v])) => fX17_value (fV d σ b) σ v b
    | some (.inr (18, [.ref a1])) => fX19_value (fV d σ b) σ a1 b
    | some (.inr (7, [.int v, .ref a1, .ref a2])) => fX8_value (fV d σ b) σ v a1 a2 b
    | _ => none
theorem tV (l : Launch) (w : ZW) {σ : ZS} {b : Nat} (hb : zBay b) : ∀ d a r, fV d σ b a = some r → zVal l w σ b (12 * d) (100 * d) a r
  | 0, a, r, h => none_ h
  | d + 1, a, r, h => by
    unfold fV at h
    split at h
    · rename_i v hP
      exact Or.inl ⟨v, hP, tX20_value l w hP hb (tV l w hb d) h⟩
    · rename_i v hP
      exact Or.inr (Or.inl ⟨v, hP, tX17_value l w hP hb (tV l w hb d) h⟩)
    · rename_i a1 hP
      exact Or.inr (Or.inr (Or.inl ⟨a1, hP, tX19_value l w hP hb (tV l w hb d) h⟩))
    · rename_i v a1 a2 hP
      exact Or.inr (Or.inr (Or.inr ⟨v, a1, a2, hP, tX8_value l w hP hb (tV l w hb d) h⟩))
    · cases h
