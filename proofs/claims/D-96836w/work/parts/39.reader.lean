/-! the reader in the pool (written by gen/mk39.py) -/
def oRd (w : ZW) (i : Nat) (x : Option va_E) : Option (Int32 × Int32 × Int32) := match x with
  | some (.inr (15, [.ref n, .ref b, .int s, .int t, .int o])) => if n = zsK w i ∧ b = w.2.2 (100 + 16) then some (s, t, o) else none
  | _ => none
theorem oRd_ {w : ZW} {i : Nat} {x : Option va_E} {s t o : Int32} (h : oRd w i x = some (s, t, o)) : x = some (.inr (15, [.ref (zsK w i), .ref (w.2.2 (100 + 16)), .int s, .int t, .int o])) := by
  unfold oRd at h
  split at h
  · split at h
    · rename_i h2
      cases h
      rw [h2.1, h2.2]
    · cases h
  · cases h
section ZThr
variable {p : Program} {l : Launch} {e : Env} {R : Room} {s : State} {m : MethodId} {args : Array Value} {below : List Frame} {meth : Method} {c : Code} {Q : State → Prop} {w : ZW} {L : ZL} {A : Nat → Prop} {nL : Nat} {cc : ByteArray} {own : String} {ret : Option FieldType} {hh : List (Nat × Nat × Nat × Nat)} {σ : ZS} {pc : Nat} {lv : List (Nat × Value)} {st : List Value}
theorem zsW_n1 {w : ZW} {i : Nat} : narrow (tyX1 1) (zsW w i) = zsW w i := by rcases zsW_c w i with h | ⟨a, h⟩ <;> rw [h] <;> rfl
theorem zsW_f1 {w : ZW} {i : Nat} : fits (tyX1 1) (zsW w i) = true := by rcases zsW_c w i with h | ⟨a, h⟩ <;> rw [h] <;> rfl
theorem zsW_n2 {w : ZW} {i : Nat} : narrow (tyX1 2) (zsW w i) = zsW w i := by rcases zsW_c w i with h | ⟨a, h⟩ <;> rw [h] <;> rfl
theorem zsW_f2 {w : ZW} {i : Nat} : fits (tyX1 2) (zsW w i) = true := by rcases zsW_c w i with h | ⟨a, h⟩ <;> rw [h] <;> rfl
theorem z_putT0 (C : zCx p s m args meth c w L A nL cc own ret hh) {a ci : Nat} {v v0 v1 v2 v3 v4 v5 v6 : Value} (hci : ci = 1 ∨ ci = 17) (hP : σ.2.2.1 a = some (.inr (ci, [v0, v1, v2, v3, v4, v5, v6]))) {index : Nat} (hq : Cond.fieldLink own index "java/lang/Throwable" (TX1 0).2.1 (TX1 0).2.2.1 ∈ lw_all) (hn : narrow (tyX1 0) v = v) (hfit : fits (tyX1 0) v = true) (hd : decode cc pc = .ok (.putfield index, 3)) (kk : Z p l e R s m args below meth c Q w L A nL (sP σ a (.inr (ci, [v, v1, v2, v3, v4, v5, v6]))) (pc + 3) lv st) : Z p l e R s m args below meth c Q w L A nL σ pc lv (v :: .ref a :: st) := by
  rcases hci with rfl | rfl
  · exact z_putP C hP (zPut C (T := TX1) (N := 7) rfl in_X1 tyX1 tyX1_ok nmX1 0 (by decide) hq (Or.inl rfl) rfl hn hfit (Nat.le_of_ble_eq_true rfl) hd) kk
  · exact z_putP C hP (zPut C (T := TX18) (N := 7) rfl in_X18 tyX18 tyX18_ok nmX18 0 (by decide) hq (Or.inl rfl) rfl hn hfit (Nat.le_of_ble_eq_true rfl) hd) kk
theorem z_putT1 (C : zCx p s m args meth c w L A nL cc own ret hh) {a ci : Nat} {v v0 v1 v2 v3 v4 v5 v6 : Value} (hci : ci = 1 ∨ ci = 17) (hP : σ.2.2.1 a = some (.inr (ci, [v0, v1, v2, v3, v4, v5, v6]))) {index : Nat} (hq : Cond.fieldLink own index "java/lang/Throwable" (TX1 1).2.1 (TX1 1).2.2.1 ∈ lw_all) (hn : narrow (tyX1 1) v = v) (hfit : fits (tyX1 1) v = true) (hd : decode cc pc = .ok (.putfield index, 3)) (kk : Z p l e R s m args below meth c Q w L A nL (sP σ a (.inr (ci, [v0, v, v2, v3, v4, v5, v6]))) (pc + 3) lv st) : Z p l e R s m args below meth c Q w L A nL σ pc lv (v :: .ref a :: st) := by
  rcases hci with rfl | rfl
  · exact z_putP C hP (zPut C (T := TX1) (N := 7) rfl in_X1 tyX1 tyX1_ok nmX1 1 (by decide) hq (Or.inl rfl) rfl hn hfit (Nat.le_of_ble_eq_true rfl) hd) kk
  · exact z_putP C hP (zPut C (T := TX18) (N := 7) rfl in_X18 tyX18 tyX18_ok nmX18 1 (by decide) hq (Or.inl rfl) rfl hn hfit (Nat.le_of_ble_eq_true rfl) hd) kk
theorem z_putT2 (C : zCx p s m args meth c w L A nL cc own ret hh) {a ci : Nat} {v v0 v1 v2 v3 v4 v5 v6 : Value} (hci : ci = 1 ∨ ci = 17) (hP : σ.2.2.1 a = some (.inr (ci, [v0, v1, v2, v3, v4, v5, v6]))) {index : Nat} (hq : Cond.fieldLink own index "java/lang/Throwable" (TX1 2).2.1 (TX1 2).2.2.1 ∈ lw_all) (hn : narrow (tyX1 2) v = v) (hfit : fits (tyX1 2) v = true) (hd : decode cc pc = .ok (.putfield index, 3)) (kk : Z p l e R s m args below meth c Q w L A nL (sP σ a (.inr (ci, [v0, v1, v, v3, v4, v5, v6]))) (pc + 3) lv st) : Z p l e R s m args below meth c Q w L A nL σ pc lv (v :: .ref a :: st) := by
  rcases hci with rfl | rfl
  · exact z_putP C hP (zPut C (T := TX1) (N := 7) rfl in_X1 tyX1 tyX1_ok nmX1 2 (by decide) hq (Or.inl rfl) rfl hn hfit (Nat.le_of_ble_eq_true rfl) hd) kk
  · exact z_putP C hP (zPut C (T := TX18) (N := 7) rfl in_X18 tyX18 tyX18_ok nmX18 2 (by decide) hq (Or.inl rfl) rfl hn hfit (Nat.le_of_ble_eq_true rfl) hd) kk
theorem z_putT3 (C : zCx p s m args meth c w L A nL cc own ret hh) {a ci : Nat} {v v0 v1 v2 v3 v4 v5 v6 : Value} (hci : ci = 1 ∨ ci = 17) (hP : σ.2.2.1 a = some (.inr (ci, [v0, v1, v2, v3, v4, v5, v6]))) {index : Nat} (hq : Cond.fieldLink own index "java/lang/Throwable" (TX1 3).2.1 (TX1 3).2.2.1 ∈ lw_all) (hn : narrow (tyX1 3) v = v) (hfit : fits (tyX1 3) v = true) (hd : decode cc pc = .ok (.putfield index, 3)) (kk : Z p l e R s m args below meth c Q w L A nL (sP σ a (.inr (ci, [v0, v1, v2, v, v4, v5, v6]))) (pc + 3) lv st) : Z p l e R s m args below meth c Q w L A nL σ pc lv (v :: .ref a :: st) := by
  rcases hci with rfl | rfl
  · exact z_putP C hP (zPut C (T := TX1) (N := 7) rfl in_X1 tyX1 tyX1_ok nmX1 3 (by decide) hq (Or.inl rfl) rfl hn hfit (Nat.le_of_ble_eq_true rfl) hd) kk
  · exact z_putP C hP (zPut C (T := TX18) (N := 7) rfl in_X18 tyX18 tyX18_ok nmX18 3 (by decide) hq (Or.inl rfl) rfl hn hfit (Nat.le_of_ble_eq_true rfl) hd) kk
end ZThr
def fxJ5_indexOfChar_L7 (bk : List Int32) (y1 : Int32) (y2 : Int32) (y3 : Int32) (y4 : Int32) : Nat → Int32 → Option (Nat × Int32)
  | 0, _ => none
  | n + 1, y5 => if y3 ≤ y5 then (some (1, y5)) else (gd (¬ (y5 < 0 ∨ bk.length ≤ y5.toNatClampNeg)) (if (bk.getD (y5.toNatClampNeg) 0) = y4 then (some (0, y5)) else (nm (y5 + 1) (fun (x5_9 : Int32) => fxJ5_indexOfChar_L7 bk y1 y2 y3 y4 n x5_9))))
def fxJ5_indexOfChar (σ : ZS) (bk : List Int32) (p2 : Int32) (p3 : Int32) (p4 : Int32) : Option Int32 := nm (p2.toInt8.toInt32) (fun (x4_1 : Int32) => bo (fxJ5_indexOfChar_L7 bk p2 p3 p4 x4_1 10000 p3) (fun uu11 => if (uu11.1) = 0 then (some (uu11.2)) else (some (-1))))
set_option maxHeartbeats 4000000 in
set_option maxRecDepth 100000 in
theorem lfxJ5_indexOfChar_L7 {p : Program} {l : Launch} {e : Env} {R : Room} {s : State} {m : MethodId} {args : Array Value} {below : List Frame} {meth : Method} {c : Code} {Q : State → Prop} {w : ZW} {A : Nat → Prop} {ret : Option FieldType} {hh : List (Nat × Nat × Nat × Nat)} (C : zCx p s m args meth c w zLx A 6 cJ5_indexOfChar RJ5 ret hh) (hfr : 0 ≤ R.frames) (hlo : 0 ≤ R.locals) (σ : ZS) {ik : Nat} {bk : List Int32} (hbk : zsB[ik]? = some bk) (y1 : Int32) (y2 : Int32) (y3 : Int32) (y4 : Int32) {tg : Nat} {z5 : Int32} (hk0 : tg = 0 → Z p l e R s m args below meth c Q w zLx A 6 σ 22 [(0, .ref (zsV w ik)), (1, .int y1), (2, .int y2), (3, .int y3), (4, .int y4), (5, .int z5)] []) (hk1 : tg = 1 → Z p l e R s m args below meth c Q w zLx A 6 σ 31 [(0, .ref (zsV w ik)), (1, .int y1), (2, .int y2), (3, .int y3), (4, .int y4), (5, .int z5)] []) : ∀ (n : Nat) (y5 : Int32), fxJ5_indexOfChar_L7 bk y1 y2 y3 y4 n y5 = some (tg, z5) → Z p l e R s m args below meth c Q w zLx A 6 σ 7 [(0, .ref (zsV w ik)), (1, .int y1), (2, .int y2), (3, .int y3), (4, .int y4), (5, .int y5)] [] := by
  intro n
  induction n with
  | zero => intro y5 hf; exact none_ hf
  | succ n ih =>
    intro y5 hf
    rw [fxJ5_indexOfChar_L7] at hf
    refine z_iload C 5 dJ5_indexOfChar_7 rfl ?_
    refine z_iload_n C 3 dJ5_indexOfChar_9 rfl rfl ?_
    refine z_icmp_ge C 31 dJ5_indexOfChar_10 (by decide) (fun c_6 => ?_) (fun c_6 => ?_)
    · replace hf := if_t c_6 hf
      have hf1 := fino_ hf
      simp only [Prod.mk.injEq] at hf1
      obtain ⟨rfl, rfl⟩ := hf1
      exact (hk1 rfl)
    · replace hf := if_f c_6 hf
      refine z_aload_n C 0 dJ5_indexOfChar_13 rfl rfl ?_
      refine z_iload C 5 dJ5_indexOfChar_14 rfl ?_
      obtain ⟨g_7, hf⟩ := gd_ hf
      refine z_kbaload C hbk g_7 dJ5_indexOfChar_16 ?_
      refine z_iload C 4 dJ5_indexOfChar_17 rfl ?_
      refine z_icmp_ne C 25 dJ5_indexOfChar_19 (by decide) (fun c_8 => ?_) (fun c_8 => ?_)
      · replace hf := if_f c_8 hf
        obtain ⟨x5_9, ex5_9, hf⟩ := nmo_ hf
        refine z_iinc C x5_9 5 dJ5_indexOfChar_25 rfl (by rw [ex5_9]; rfl) (by decide) rfl (lv' := [(5, .int x5_9), (0, .ref (zsV w ik)), (1, .int y1), (2, .int y2), (3, .int y3), (4, .int y4)]) ?_
        refine z_goto C 7 dJ5_indexOfChar_28 (by decide) ?_
        exact z_lv [1, 2, 3, 4, 5, 0] rfl (ih _ hf)
      · replace hf := if_t c_8 hf
        have hf1 := fino_ hf
        simp only [Prod.mk.injEq] at hf1
        obtain ⟨rfl, rfl⟩ := hf1
        exact (hk0 rfl)
set_option maxHeartbeats 4000000 in
set_option maxRecDepth 100000 in
theorem txJ5_indexOfChar (l : Launch) (w : ZW) {σ : ZS} {bk : List Int32} {p2 : Int32} {p3 : Int32} {p4 : Int32} {ik : Nat} (hbk : zsB[ik]? = some bk) {r : Int32} (hf : fxJ5_indexOfChar σ bk p2 p3 p4 = some r) : zC l w zLx yJ5_indexOfChar (ws_ yJ5_indexOfChar cJ5_indexOfChar 6 (some .int)) 0 0 [.ref (zsV w ik), .int p2, .int p3, .int p4] σ (.returned (some (.int r))) σ := by
  refine zC.of (by decide +kernel) (Nat.le_of_ble_eq_true rfl) ?_
  intro p e s m args below meth c C hnm
  show Z p l e _ s m args below meth c _ w _ _ 6 σ 0 [(0, .ref (zsV w ik)), (1, .int p2), (2, .int p3), (3, .int p4)] []
  unfold fxJ5_indexOfChar at hf
  refine z_iload_n C 1 dJ5_indexOfChar_0 rfl rfl ?_
  refine z_i2b C dJ5_indexOfChar_1 ?_
  obtain ⟨x4_1, ex4_1, hf⟩ := nmo_ hf
  refine z_top ex4_1 ?_
  refine z_istore C dJ5_indexOfChar_2 (by decide) rfl (lv' := [(4, .int x4_1), (0, .ref (zsV w ik)), (1, .int p2), (2, .int p3), (3, .int p4)]) ?_
  refine z_iload_n C 3 dJ5_indexOfChar_4 rfl rfl ?_
  refine z_istore C dJ5_indexOfChar_5 (by decide) rfl (lv' := [(5, .int p3), (4, .int x4_1), (0, .ref (zsV w ik)), (1, .int p2), (2, .int p3), (3, .int p4)]) ?_
  obtain ⟨⟨tg_13, x5_10⟩, e_12, hf⟩ := bo_ hf
  try dsimp only at hf
  refine z_lv (lv' := [(0, .ref (zsV w ik)), (1, .int p2), (2, .int p3), (3, .int p4), (4, .int x4_1), (5, .int p3)]) [2, 3, 4, 5, 1, 0] rfl ?_
  refine lfxJ5_indexOfChar_L7 C (Nat.le_of_ble_eq_true rfl) (Nat.le_of_ble_eq_true rfl) σ hbk p2 p3 p4 x4_1 (fun ht0 => ?_) (fun ht1 => ?_) _ _ e_12
  · replace hf := if_t ht0 hf
    refine z_iload C 5 dJ5_indexOfChar_22 rfl ?_
    obtain rfl := fino_ hf
    exact z_iret C rfl dJ5_indexOfChar_24
  · replace hf := if_f (by rw [ht1]; decide) hf; skip
    refine z_iconst C (-1) dJ5_indexOfChar_31 (by decide) ?_
    obtain rfl := fino_ hf
    exact z_iret C rfl dJ5_indexOfChar_32
def fxJ5_indexOf (σ : ZS) (bk : List Int32) (p2 : Int32) (p3 : Int32) (p4 : Int32) : Option Int32 := if (fJ5_canEncode p2) = 0 then (some (-1)) else (nm (fJ3_max p3 0) (fun (x2_2 : Int32) => nm (fJ3_min p4 (Int32.ofNat bk.length)) (fun (x3_3 : Int32) => if x2_2 < x3_3 then (bo (fxJ5_indexOfChar σ bk p2 x2_2 x3_3) (fun r_5 => some r_5)) else (some (-1)))))
set_option maxHeartbeats 4000000 in
set_option maxRecDepth 100000 in
theorem txJ5_indexOf (l : Launch) (w : ZW) {σ : ZS} {bk : List Int32} {p2 : Int32} {p3 : Int32} {p4 : Int32} {ik : Nat} (hbk : zsB[ik]? = some bk) {r : Int32} (hf : fxJ5_indexOf σ bk p2 p3 p4 = some r) : zC l w zLx yJ5_indexOf (ws_ yJ5_indexOf cJ5_indexOf 4 (some .int)) 1 17 [.ref (zsV w ik), .int p2, .int p3, .int p4] σ (.returned (some (.int r))) σ := by
  refine zC.of (by decide +kernel) (Nat.le_of_ble_eq_true rfl) ?_
  intro p e s m args below meth c C hnm
  show Z p l e _ s m args below meth c _ w _ _ 4 σ 0 [(0, .ref (zsV w ik)), (1, .int p2), (2, .int p3), (3, .int p4)] []
  unfold fxJ5_indexOf at hf
  refine z_iload_n C 1 dJ5_indexOf_0 rfl rfl ?_
  refine z_calli C (rest := []) (av := [.int p2]) (zPay.of q766 q96) (fun H ls hH h2 => zInv_S C (As := [.int p2]) (rest := []) q764 q765 q96 (Or.inl rfl) q766 mh_J5 np_J5_canEncode dJ5_indexOf_1) (tJ5_canEncode l w zLx σ p2) (Nat.le_of_ble_eq_true rfl) (Nat.le_of_ble_eq_true rfl) ?_
  refine z_if_ne C 9 dJ5_indexOf_4 (by decide) (fun c_1 => ?_) (fun c_1 => ?_)
  · replace hf := if_f c_1 hf
    refine z_iload_n C 2 dJ5_indexOf_9 rfl rfl ?_
    refine z_iconst C 0 dJ5_indexOf_10 (by decide) ?_
    refine z_calli C (rest := []) (av := [.int p3, .int 0]) (zPay.of q390 q84) (fun H ls hH h2 => zInv_S C (As := [.int p3, .int 0]) (rest := []) q767 q389 q84 (Or.inl rfl) q390 mh_J3 np_J3_max dJ5_indexOf_11) (tJ3_max l w zLx σ p3 0) (Nat.le_of_ble_eq_true rfl) (Nat.le_of_ble_eq_true rfl) ?_
    obtain ⟨x2_2, ex2_2, hf⟩ := nmo_ hf
    refine z_top ex2_2 ?_
    refine z_istore_n C dJ5_indexOf_14 rfl (by decide) rfl (lv' := [(2, .int x2_2), (0, .ref (zsV w ik)), (1, .int p2), (3, .int p4)]) ?_
    refine z_iload_n C 3 dJ5_indexOf_15 rfl rfl ?_
    refine z_aload_n C 1 dJ5_indexOf_16 rfl rfl ?_
    refine z_kalen C hbk dJ5_indexOf_17 ?_
    refine z_calli C (rest := []) (av := [.int p4, .int (Int32.ofNat bk.length)]) (zPay.of q424 q84) (fun H ls hH h2 => zInv_S C (As := [.int p4, .int (Int32.ofNat bk.length)]) (rest := []) q768 q423 q84 (Or.inl rfl) q424 mh_J3 np_J3_min dJ5_indexOf_18) (tJ3_min l w zLx σ p4 (Int32.ofNat bk.length)) (Nat.le_of_ble_eq_true rfl) (Nat.le_of_ble_eq_true rfl) ?_
    obtain ⟨x3_3, ex3_3, hf⟩ := nmo_ hf
    refine z_top ex3_3 ?_
    refine z_istore_n C dJ5_indexOf_21 rfl (by decide) rfl (lv' := [(3, .int x3_3), (2, .int x2_2), (0, .ref (zsV w ik)), (1, .int p2)]) ?_
    refine z_iload_n C 1 dJ5_indexOf_22 rfl rfl ?_
    refine z_iload_n C 0 dJ5_indexOf_23 rfl rfl ?_
    refine z_icmp_lt C 29 dJ5_indexOf_24 (by decide) (fun c_4 => ?_) (fun c_4 => ?_)
    · replace hf := if_t c_4 hf
      refine z_aload_n C 2 dJ5_indexOf_29 rfl rfl ?_
      refine z_iload_n C 3 dJ5_indexOf_30 rfl rfl ?_
      refine z_iload_n C 1 dJ5_indexOf_31 rfl rfl ?_
      refine z_iload_n C 0 dJ5_indexOf_32 rfl rfl ?_
      obtain ⟨r_5, e_6, hf⟩ := bo_ hf
      refine z_calli C (rest := []) (av := [.ref (zsV w ik), .int p2, .int x2_2, .int x3_3]) (zPay.of q771 q96) (fun H ls hH h2 => zInv_S C (As := [.ref (zsV w ik), .int p2, .int x2_2, .int x3_3]) (rest := []) q769 q770 q96 (Or.inl rfl) q771 mh_J5 np_J5_indexOfChar dJ5_indexOf_33) (txJ5_indexOfChar l w hbk e_6) (Nat.le_of_ble_eq_true rfl) (Nat.le_of_ble_eq_true rfl) ?_
      obtain rfl := fino_ hf
      exact z_iret C rfl dJ5_indexOf_36
    · replace hf := if_f c_4 hf
      refine z_iconst C (-1) dJ5_indexOf_27 (by decide) ?_
      obtain rfl := fino_ hf
      exact z_iret C rfl dJ5_indexOf_28
  · replace hf := if_t c_1 hf
    refine z_iconst C (-1) dJ5_indexOf_7 (by decide) ?_
    obtain rfl := fino_ hf
    exact z_iret C rfl dJ5_indexOf_8
def fxJ4_indexOf_2 (σ : ZS) (bk : List Int32) (p1 : Int32) (p2 : Int32) : Option Int32 := bo (fxJ5_indexOf σ bk p1 p2 (fJ4_length bk)) (fun r_2 => some r_2)
set_option maxHeartbeats 4000000 in
set_option maxRecDepth 100000 in
theorem txJ4_indexOf_2 (l : Launch) (w : ZW) {σ : ZS} {bk : List Int32} {p1 : Int32} {p2 : Int32} {ik : Nat} (hbk : zsB[ik]? = some bk) {r : Int32} (hf : fxJ4_indexOf_2 σ bk p1 p2 = some r) : zC l w zLx yJ4_indexOf_2 (ws_ yJ4_indexOf_2 cJ4_indexOf_2 3 (some .int)) 2 32 [.ref (zsK w ik), .int p1, .int p2] σ (.returned (some (.int r))) σ := by
  refine zC.of (by decide +kernel) (Nat.le_of_ble_eq_true rfl) ?_
  intro p e s m args below meth c C hnm
  show Z p l e _ s m args below meth c _ w _ _ 3 σ 0 [(0, .ref (zsK w ik)), (1, .int p1), (2, .int p2)] []
  unfold fxJ4_indexOf_2 at hf
  refine z_aload_n C 0 dJ4_indexOf_2_0 rfl rfl ?_
  refine z_calli C (rest := []) (av := (.ref (zsK w ik) :: [])) (zPay.of q750 q95) (fun H ls hH h2 => zInv_K C (As := []) (rest := []) hbk h2 q747 q748 q749 (Or.inl rfl) q750 mh_J4 np_J4_isLatin1 dJ4_indexOf_2_1) (tJ4_isLatin1 l w zLx σ bk hbk) (Nat.le_of_ble_eq_true rfl) (Nat.le_of_ble_eq_true rfl) ?_
  refine z_top (v' := 1) rfl ?_
  refine z_if_eq C 23 dJ4_indexOf_2_4 (by decide) (fun c_1 => absurd c_1 (by decide)) (fun _ => ?_)
  refine z_aload_n C 0 dJ4_indexOf_2_7 rfl rfl ?_
  refine z_kvalue C hbk q1921 dJ4_indexOf_2_8 ?_
  refine z_iload_n C 1 dJ4_indexOf_2_11 rfl rfl ?_
  refine z_iload_n C 2 dJ4_indexOf_2_12 rfl rfl ?_
  refine z_aload_n C 0 dJ4_indexOf_2_13 rfl rfl ?_
  refine z_calli C (rest := [.int p2, .int p1, .ref (zsV w ik)]) (av := (.ref (zsK w ik) :: [])) (zPay.of q756 q95) (fun H ls hH h2 => zInv_K C (As := []) (rest := [.int p2, .int p1, .ref (zsV w ik)]) hbk h2 q753 q754 q755 (Or.inl rfl) q756 mh_J4 np_J4_length dJ4_indexOf_2_14) (tJ4_length l w zLx σ bk hbk) (Nat.le_of_ble_eq_true rfl) (Nat.le_of_ble_eq_true rfl) ?_
  obtain ⟨r_2, e_3, hf⟩ := bo_ hf
  refine z_calli C (rest := []) (av := [.ref (zsV w ik), .int p1, .int p2, .int (fJ4_length bk)]) (zPay.of q763 q96) (fun H ls hH h2 => zInv_S C (As := [.ref (zsV w ik), .int p1, .int p2, .int (fJ4_length bk)]) (rest := []) q761 q762 q96 (Or.inl rfl) q763 mh_J5 np_J5_indexOf dJ4_indexOf_2_17) (txJ5_indexOf l w hbk e_3) (Nat.le_of_ble_eq_true rfl) (Nat.le_of_ble_eq_true rfl) ?_
  refine z_goto C 36 dJ4_indexOf_2_20 (by decide) ?_
  obtain rfl := fino_ hf
  exact z_iret C rfl dJ4_indexOf_2_36
def fxJ4_indexOf (σ : ZS) (bk : List Int32) (p1 : Int32) : Option Int32 := bo (fxJ4_indexOf_2 σ bk p1 0) (fun r_1 => some r_1)
set_option maxHeartbeats 4000000 in
set_option maxRecDepth 100000 in
theorem txJ4_indexOf (l : Launch) (w : ZW) {σ : ZS} {bk : List Int32} {p1 : Int32} {ik : Nat} (hbk : zsB[ik]? = some bk) {r : Int32} (hf : fxJ4_indexOf σ bk p1 = some r) : zC l w zLx yJ4_indexOf (ws_ yJ4_indexOf cJ4_indexOf 2 (some .int)) 3 46 [.ref (zsK w ik), .int p1] σ (.returned (some (.int r))) σ := by
  refine zC.of (by decide +kernel) (Nat.le_of_ble_eq_true rfl) ?_
  intro p e s m args below meth c C hnm
  show Z p l e _ s m args below meth c _ w _ _ 2 σ 0 [(0, .ref (zsK w ik)), (1, .int p1)] []
  unfold fxJ4_indexOf at hf
  refine z_aload_n C 0 dJ4_indexOf_0 rfl rfl ?_
  refine z_iload_n C 1 dJ4_indexOf_1 rfl rfl ?_
  refine z_iconst C 0 dJ4_indexOf_2 (by decide) ?_
  obtain ⟨r_1, e_2, hf⟩ := bo_ hf
  refine z_calli C (rest := []) (av := (.ref (zsK w ik) :: [.int p1, .int 0])) (zPay.of q746 q95) (fun H ls hH h2 => zInv_K C (As := [.int p1, .int 0]) (rest := []) hbk h2 q743 q744 q745 (Or.inl rfl) q746 mh_J4 np_J4_indexOf_2 dJ4_indexOf_3) (txJ4_indexOf_2 l w hbk e_2) (Nat.le_of_ble_eq_true rfl) (Nat.le_of_ble_eq_true rfl) ?_
  obtain rfl := fino_ hf
  exact z_iret C rfl dJ4_indexOf_6
theorem np_J0_init_2 : zNp yJ0_init_2.desc 4 := by unfold zNp; decide +kernel
theorem mh_J0 : zMH RJ0 := by unfold zMH; decide
def fJ0_init_2 (w : ZW) (σ : ZS) (a : Nat) (ci : Nat) : Option (Unit × ZS) := bo (oC7 ci (σ.2.2.1 a)) (fun th => nm (sP σ a (.inr (ci, [.ref a, (th.2.1), (th.2.2.1), (th.2.2.2.1), (th.2.2.2.2.1), (th.2.2.2.2.2.1), (th.2.2.2.2.2.2)]))) (fun (σ_1 : ZS) => nm (sP σ_1 a (.inr (ci, [.ref a, zsW w 0, (th.2.2.1), (th.2.2.2.1), (th.2.2.2.2.1), (th.2.2.2.2.2.1), (th.2.2.2.2.2.2)]))) (fun (σ_3 : ZS) => nm (sP σ_3 a (.inr (ci, [.ref a, zsW w 0, zsW w 1, (th.2.2.2.1), (th.2.2.2.2.1), (th.2.2.2.2.2.1), (th.2.2.2.2.2.2)]))) (fun (σ_5 : ZS) => nm (sP σ_5 a (.inr (ci, [.ref a, .null, zsW w 1, (th.2.2.2.1), (th.2.2.2.2.1), (th.2.2.2.2.2.1), (th.2.2.2.2.2.2)]))) (fun (σ_8 : ZS) => nm (sP σ_8 a (.inr (ci, [.ref a, .null, zsW w 1, .null, (th.2.2.2.2.1), (th.2.2.2.2.2.1), (th.2.2.2.2.2.2)]))) (fun (σ_10 : ZS) => nm (sP σ_10 a (.inr (ci, [.null, .null, zsW w 1, .null, (th.2.2.2.2.1), (th.2.2.2.2.2.1), (th.2.2.2.2.2.2)]))) (fun (σ_12 : ZS) => nm (sP σ_12 a (.inr (ci, [.null, .null, .null, .null, (th.2.2.2.2.1), (th.2.2.2.2.2.1), (th.2.2.2.2.2.2)]))) (fun (σ_15 : ZS) => some ((), σ_15)))))))))
set_option maxHeartbeats 4000000 in
set_option maxRecDepth 100000 in
theorem tJ0_init_2 (l : Launch) (w : ZW) {σ σ' : ZS} {a : Nat} {ci : Nat} (hci : ci = 1 ∨ ci = 17) (hf : fJ0_init_2 w σ a ci = some ((), σ')) : zC l w zLx yJ0_init_2 (ws_ yJ0_init_2 cJ0_init_2 5 none) 1 12 [.ref a, .null, .null, .int 0, .int 0] σ (.returned none) σ' := by
  refine zC.of (by decide +kernel) (Nat.le_of_ble_eq_true rfl) ?_
  intro p e s m args below meth c C hnm
  show Z p l e _ s m args below meth c _ w _ _ 5 σ 0 [(0, .ref a), (1, .null), (2, .null), (3, .int 0), (4, .int 0)] []
  unfold fJ0_init_2 at hf
  refine z_aload_n C 0 dJ0_init_2_0 rfl rfl ?_
  refine z_objInit C q143 dJ0_init_2_1 (Nat.le_of_ble_eq_true rfl) (Nat.le_of_ble_eq_true rfl) ?_
  refine z_aload_n C 0 dJ0_init_2_4 rfl rfl ?_
  refine z_aload_n C 0 dJ0_init_2_5 rfl rfl ?_
  obtain ⟨⟨tc0, tc1, tc2, tc3, tc4, tc5, tc6⟩, eth, hf⟩ := bo_ hf
  try dsimp only at hf
  have hPth := oC7_ eth
  refine z_putT0 C hci hPth q174 rfl rfl dJ0_init_2_6 ?_
  obtain ⟨σ_1, eσ_1, hf⟩ := nmo_ hf
  refine z_w eσ_1.symm ?_
  have hP_2 : σ_1.2.2.1 a = some (.inr (ci, [.ref a, tc1, tc2, tc3, tc4, tc5, tc6])) := by rw [eσ_1]; exact sP_self
  refine z_aload_n C 0 dJ0_init_2_9 rfl rfl ?_
  refine z_sunass C q144 dJ0_init_2_10 ?_
  refine z_putT1 C hci hP_2 q175 zsW_n1 zsW_f1 dJ0_init_2_13 ?_
  obtain ⟨σ_3, eσ_3, hf⟩ := nmo_ hf
  refine z_w eσ_3.symm ?_
  have hP_4 : σ_3.2.2.1 a = some (.inr (ci, [.ref a, zsW w 0, tc2, tc3, tc4, tc5, tc6])) := by rw [eσ_3]; exact sP_self
  refine z_aload_n C 0 dJ0_init_2_16 rfl rfl ?_
  refine z_ssuppr C q146 dJ0_init_2_17 ?_
  refine z_putT2 C hci hP_4 q176 zsW_n2 zsW_f2 dJ0_init_2_20 ?_
  obtain ⟨σ_5, eσ_5, hf⟩ := nmo_ hf
  refine z_w eσ_5.symm ?_
  have hP_6 : σ_5.2.2.1 a = some (.inr (ci, [.ref a, zsW w 0, zsW w 1, tc3, tc4, tc5, tc6])) := by rw [eσ_5]; exact sP_self
  refine z_iload C 4 dJ0_init_2_23 rfl ?_
  refine z_if_eq C 36 dJ0_init_2_25 (by decide) (fun _ => ?_) (fun c_7 => absurd c_7 (by decide))
  refine z_aload_n C 0 dJ0_init_2_36 rfl rfl ?_
  refine z_null C dJ0_init_2_37 ?_
  refine z_putT1 C hci hP_6 q175 rfl rfl dJ0_init_2_38 ?_
  obtain ⟨σ_8, eσ_8, hf⟩ := nmo_ hf
  refine z_w eσ_8.symm ?_
  have hP_9 : σ_8.2.2.1 a = some (.inr (ci, [.ref a, .null, zsW w 1, tc3, tc4, tc5, tc6])) := by rw [eσ_8]; exact sP_self
  refine z_aload_n C 0 dJ0_init_2_41 rfl rfl ?_
  refine z_aload_nN C 1 dJ0_init_2_42 rfl rfl ?_
  refine z_putT3 C hci hP_9 q173 rfl rfl dJ0_init_2_43 ?_
  obtain ⟨σ_10, eσ_10, hf⟩ := nmo_ hf
  refine z_w eσ_10.symm ?_
  have hP_11 : σ_10.2.2.1 a = some (.inr (ci, [.ref a, .null, zsW w 1, .null, tc4, tc5, tc6])) := by rw [eσ_10]; exact sP_self
  refine z_aload_n C 0 dJ0_init_2_46 rfl rfl ?_
  refine z_aload_nN C 2 dJ0_init_2_47 rfl rfl ?_
  refine z_putT0 C hci hP_11 q174 rfl rfl dJ0_init_2_48 ?_
  obtain ⟨σ_12, eσ_12, hf⟩ := nmo_ hf
  refine z_w eσ_12.symm ?_
  have hP_13 : σ_12.2.2.1 a = some (.inr (ci, [.null, .null, zsW w 1, .null, tc4, tc5, tc6])) := by rw [eσ_12]; exact sP_self
  refine z_iload_n C 3 dJ0_init_2_51 rfl rfl ?_
  refine z_if_ne C 60 dJ0_init_2_52 (by decide) (fun c_14 => absurd c_14 (by decide)) (fun _ => ?_)
  refine z_aload_n C 0 dJ0_init_2_55 rfl rfl ?_
  refine z_null C dJ0_init_2_56 ?_
  refine z_putT2 C hci hP_13 q176 rfl rfl dJ0_init_2_57 ?_
  obtain ⟨σ_15, eσ_15, hf⟩ := nmo_ hf
  refine z_w eσ_15.symm ?_
  have hP_16 : σ_15.2.2.1 a = some (.inr (ci, [.null, .null, .null, .null, tc4, tc5, tc6])) := by rw [eσ_15]; exact sP_self
  obtain ⟨-, rfl⟩ := fin_ hf
  exact z_vret C dJ0_init_2_60
theorem np_J1_init : zNp yJ1_init.desc 4 := by unfold zNp; decide +kernel
theorem mh_J1 : zMH RJ1 := by unfold zMH; decide
def fJ1_init (w : ZW) (σ : ZS) (a : Nat) (ci : Nat) : Option (Unit × ZS) := bd (fJ0_init_2 w σ a ci) (fun _ σ_3 => some ((), σ_3))
set_option maxHeartbeats 4000000 in
set_option maxRecDepth 100000 in
theorem tJ1_init (l : Launch) (w : ZW) {σ σ' : ZS} {a : Nat} {ci : Nat} (hci : ci = 1 ∨ ci = 17) (hf : fJ1_init w σ a ci = some ((), σ')) : zC l w zLx yJ1_init (ws_ yJ1_init cJ1_init 5 none) 2 28 [.ref a, .null, .null, .int 0, .int 0] σ (.returned none) σ' := by
  refine zC.of (by decide +kernel) (Nat.le_of_ble_eq_true rfl) ?_
  intro p e s m args below meth c C hnm
  show Z p l e _ s m args below meth c _ w _ _ 5 σ 0 [(0, .ref a), (1, .null), (2, .null), (3, .int 0), (4, .int 0)] []
  unfold fJ1_init at hf
  refine z_aload_n C 0 dJ1_init_0 rfl rfl ?_
  refine z_aload_nN C 1 dJ1_init_1 rfl rfl ?_
  refine z_aload_nN C 2 dJ1_init_2 rfl rfl ?_
  refine z_iload_n C 3 dJ1_init_3 rfl rfl ?_
  refine z_iload C 4 dJ1_init_4 rfl ?_
  obtain ⟨⟨⟩, σ_3, e_2, hf⟩ := bd_ hf
  refine z_callv C (rest := []) (av := (.ref a :: [.null, .null, .int 0, .int 0])) (zPay.of q169 q75) (fun H ls hH h2 => zInv_I C (As := [.null, .null, .int 0, .int 0]) (rest := []) q167 q168 q169 rfl mh_J0 np_J0_init_2 dJ1_init_6) (tJ0_init_2 l w hci e_2) (Nat.le_of_ble_eq_true rfl) (Nat.le_of_ble_eq_true rfl) ?_
  obtain ⟨-, rfl⟩ := fin_ hf
  exact z_vret C dJ1_init_9
theorem np_J2_init : zNp yJ2_init.desc 4 := by unfold zNp; decide +kernel
theorem mh_J2 : zMH RJ2 := by unfold zMH; decide
def fJ2_init (w : ZW) (σ : ZS) (a : Nat) (ci : Nat) : Option (Unit × ZS) := bd (fJ1_init w σ a ci) (fun _ σ_3 => some ((), σ_3))
set_option maxHeartbeats 4000000 in
set_option maxRecDepth 100000 in
theorem tJ2_init (l : Launch) (w : ZW) {σ σ' : ZS} {a : Nat} {ci : Nat} (hci : ci = 1 ∨ ci = 17) (hf : fJ2_init w σ a ci = some ((), σ')) : zC l w zLx yJ2_init (ws_ yJ2_init cJ2_init 5 none) 3 44 [.ref a, .null, .null, .int 0, .int 0] σ (.returned none) σ' := by
  refine zC.of (by decide +kernel) (Nat.le_of_ble_eq_true rfl) ?_
  intro p e s m args below meth c C hnm
  show Z p l e _ s m args below meth c _ w _ _ 5 σ 0 [(0, .ref a), (1, .null), (2, .null), (3, .int 0), (4, .int 0)] []
  unfold fJ2_init at hf
  refine z_aload_n C 0 dJ2_init_0 rfl rfl ?_
  refine z_aload_nN C 1 dJ2_init_1 rfl rfl ?_
  refine z_aload_nN C 2 dJ2_init_2 rfl rfl ?_
  refine z_iload_n C 3 dJ2_init_3 rfl rfl ?_
  refine z_iload C 4 dJ2_init_4 rfl ?_
  obtain ⟨⟨⟩, σ_3, e_2, hf⟩ := bd_ hf
  refine z_callv C (rest := []) (av := (.ref a :: [.null, .null, .int 0, .int 0])) (zPay.of q166 q76) (fun H ls hH h2 => zInv_I C (As := [.null, .null, .int 0, .int 0]) (rest := []) q164 q165 q166 rfl mh_J1 np_J1_init dJ2_init_6) (tJ1_init l w hci e_2) (Nat.le_of_ble_eq_true rfl) (Nat.le_of_ble_eq_true rfl) ?_
  obtain ⟨-, rfl⟩ := fin_ hf
  exact z_vret C dJ2_init_9
theorem np_X1_init : zNp yX1_init.desc 0 := by unfold zNp; decide +kernel
theorem mh_X1 : zMH RX1 := by unfold zMH; decide
def fX1_init (w : ZW) (σ : ZS) (a : Nat) : Option (Unit × ZS) := bd (fJ2_init w σ a 1) (fun _ σ_3 => some ((), σ_3))
set_option maxHeartbeats 4000000 in
set_option maxRecDepth 100000 in
theorem tX1_init (l : Launch) (w : ZW) {σ σ' : ZS} {a : Nat} (hf : fX1_init w σ a = some ((), σ')) : zC l w zLx yX1_init (ws_ yX1_init cX1_init 1 none) 4 60 [.ref a] σ (.returned none) σ' := by
  refine zC.of (plainFor_of_name (by decide)) (Nat.le_of_ble_eq_true rfl) ?_
  intro p e s m args below meth c C hnm
  show Z p l e _ s m args below meth c _ w _ _ 1 σ 0 [(0, .ref a)] []
  unfold fX1_init at hf
  refine z_aload_n C 0 dX1_init_0 rfl rfl ?_
  refine z_null C dX1_init_1 ?_
  refine z_null C dX1_init_2 ?_
  refine z_iconst C 0 dX1_init_3 (by decide) ?_
  refine z_iconst C 0 dX1_init_4 (by decide) ?_
  obtain ⟨⟨⟩, σ_3, e_2, hf⟩ := bd_ hf
  refine z_callv C (rest := []) (av := (.ref a :: [.null, .null, .int 0, .int 0])) (zPay.of q163 q77) (fun H ls hH h2 => zInv_I C (As := [.null, .null, .int 0, .int 0]) (rest := []) q161 q162 q163 rfl mh_J2 np_J2_init dX1_init_5) (tJ2_init l w (Or.inl rfl) e_2) (Nat.le_of_ble_eq_true rfl) (Nat.le_of_ble_eq_true rfl) ?_
  obtain ⟨-, rfl⟩ := fin_ hf
  exact z_vret C dX1_init_8
theorem np_X18_init : zNp yX18_init.desc 1 := by unfold zNp; decide +kernel
theorem mh_X18 : zMH RX18 := by unfold zMH; decide
def fX18_init (w : ZW) (σ : ZS) (a : Nat) (p1 : Int32) : Option (Unit × ZS) := bd (fJ2_init w σ a 17) (fun _ σ_3 => bo (oC7 17 (σ_3.2.2.1 a)) (fun oc4 => nm (sP σ_3 a (.inr (17, [(oc4.1), (oc4.2.1), (oc4.2.2.1), (oc4.2.2.2.1), (oc4.2.2.2.2.1), (oc4.2.2.2.2.2.1), .int p1]))) (fun (σ_7 : ZS) => some ((), σ_7))))
set_option maxHeartbeats 4000000 in
set_option maxRecDepth 100000 in
theorem tX18_init (l : Launch) (w : ZW) {σ σ' : ZS} {a : Nat} {p1 : Int32} (hf : fX18_init w σ a p1 = some ((), σ')) : zC l w zLx yX18_init (ws_ yX18_init cX18_init 2 none) 4 60 [.ref a, .int p1] σ (.returned none) σ' := by
  refine zC.of (plainFor_of_name (by decide)) (Nat.le_of_ble_eq_true rfl) ?_
  intro p e s m args below meth c C hnm
  show Z p l e _ s m args below meth c _ w _ _ 2 σ 0 [(0, .ref a), (1, .int p1)] []
  unfold fX18_init at hf
  refine z_aload_n C 0 dX18_init_0 rfl rfl ?_
  refine z_null C dX18_init_1 ?_
  refine z_null C dX18_init_2 ?_
  refine z_iconst C 0 dX18_init_3 (by decide) ?_
  refine z_iconst C 0 dX18_init_4 (by decide) ?_
  obtain ⟨⟨⟩, σ_3, e_2, hf⟩ := bd_ hf
  refine z_callv C (rest := []) (av := (.ref a :: [.null, .null, .int 0, .int 0])) (zPay.of q163 q77) (fun H ls hH h2 => zInv_I C (As := [.null, .null, .int 0, .int 0]) (rest := []) q855 q162 q163 rfl mh_J2 np_J2_init dX18_init_5) (tJ2_init l w (Or.inr rfl) e_2) (Nat.le_of_ble_eq_true rfl) (Nat.le_of_ble_eq_true rfl) ?_
  refine z_aload_n C 0 dX18_init_8 rfl rfl ?_
  refine z_iload_n C 1 dX18_init_9 rfl rfl ?_
  obtain ⟨⟨c0v4, c1v4, c2v4, c3v4, c4v4, c5v4, c6v4⟩, e_5, hf⟩ := bo_ hf
  try dsimp only at hf
  have hP_6 := oC7_ e_5
  refine z_putP C hP_6 (zPutF C (T := TX18) (N := 7) rfl in_X18 tyX18 tyX18_ok nmX18 6 (by decide) q856 (Or.inl rfl) rfl hnm rfl rfl rfl (Nat.le_of_ble_eq_true rfl) dX18_init_10) ?_
  obtain ⟨σ_7, eσ_7, hf⟩ := nmo_ hf
  refine z_w eσ_7.symm ?_
  have hP_8 : σ_7.2.2.1 a = some (.inr (17, [c0v4, c1v4, c2v4, c3v4, c4v4, c5v4, .int p1])) := by rw [eσ_7]; exact sP_self
  obtain ⟨-, rfl⟩ := fin_ hf
  exact z_vret C dX18_init_13
