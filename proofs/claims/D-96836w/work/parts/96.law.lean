/-! the law's loop (written by gen/mk96.py) -/
def R_law : String := "OldLightLaw"
abbrev lvL (w : ZW) (B b t : Nat) : List (Nat × Value) := [(0, .ref b), (1, .ref ((wxOf w B).2.2 0)), (2, .ref ((wmOf w B).2.2 0)), (3, .int (on (6 * t)))]
/-- what the law's walk has at hand -/
def LC (p : Program) (s : State) (m : MethodId) (args : Array Value) (meth : Method) (c : Code) (w : ZW) (A : Nat → Prop) (b L : Nat) (xs : Nat → Int32) : Prop := zCx p s m args meth c w zL0 A 4 cL_law R_law ret [] ∧ va_X b L xs s s.heap ∧ b < s.heap.size ∧ ¬ A b ∧ L ≤ 384
theorem lw_arg {p : Program} {l : Launch} {e : Env} {s : State} {m : MethodId} {args : Array Value} {below : List Frame} {meth : Method} {c : Code} {Q : State → Prop} {w : ZW} {A : Nat → Prop} {b L B : Nat} {xs : Nat → Int32} {t k pc : Nat} {σ : ZS} {st : List Value} (hC : LC p s m args meth c w A b L xs) (hk : 6 * t + k < L) {n : Int} (hn : Int32.ofInt n = on k) (d0 : decode cL_law pc = .ok (.aload_n 0, 1)) (d1 : decode cL_law (pc + 1) = .ok (.iload_n 3, 1)) (d2 : decode cL_law (pc + 1 + 1) = .ok (.iconst n, 1)) (d3 : decode cL_law (pc + 1 + 1 + 1) = .ok (.iadd, 1)) (d4 : decode cL_law (pc + 1 + 1 + 1 + 1) = .ok (.iaload, 1)) (kk : Z p l e room_1 s m args below meth c Q w zL0 A 4 (σ) (pc + 1 + 1 + 1 + 1 + 1) (lvL w B b t) (.int (xs (6 * t + k)) :: st)) : Z p l e room_1 s m args below meth c Q w zL0 A 4 (σ) pc (lvL w B b t) st := by
  obtain ⟨C, hX, hbl, hbA, hL⟩ := hC
  refine z_aload_n C 0 d0 rfl rfl ?_
  refine z_iload_n C 3 d1 rfl rfl ?_
  refine z_iconst C (on k) d2 hn ?_
  refine z_iadd C d3 ?_
  refine z_top (v' := on (6 * t + k)) (on_add _ _).symm ?_
  refine z_sld C hX hbl hbA (on_in hk (by omega)) d4 ?_
  rw [tn_ofNat (by omega)]
  exact kk
set_option maxHeartbeats 4000000 in
set_option maxRecDepth 100000 in
theorem lwc_0 {p : Program} {l : Launch} {e : Env} {s : State} {m : MethodId} {args : Array Value} {below : List Frame} {meth : Method} {c : Code} {Q : State → Prop} {w : ZW} {A : Nat → Prop} {b L B : Nat} {xs : Nat → Int32} {t r N : Nat} {σx σm : ZS} (hC : LC p s m args meth c w A b L xs) (ht : 6 * t + 6 ≤ L) (hN : N < 1000) (h : LI w B N σx σm) (kk : ∀ σx' σm', LI w B (N + 1) σx' σm' → Z p l e room_1 s m args below meth c Q w zL0 A 4 (out w B σx' σm' (100 * r) (5000 * r)) 1468 (lvL w B b t) []) : Z p l e room_1 s m args below meth c Q w zL0 A 4 (out w B σx σm (100 * (r + 1)) (5000 * (r + 1))) 208 (lvL w B b t) [] := by
  obtain ⟨C, hX, hbl, hbA, hL⟩ := id hC
  obtain ⟨rv, σx', σm', ex, em, hR, h2⟩ := act_S (m := fun σ => fX6_bay σ (xs (6 * t + 1))) (fun S => bay_act (p1 := xs (6 * t + 1)) (h.rr S))
  refine z_aload_n C 1 dL_law_208 rfl rfl ?_
  refine lw_arg hC (k := 1) (n := 1) (by omega) rfl dL_law_209 dL_law_210 dL_law_211 dL_law_212 dL_law_213 ?_
  refine z_callSj C (σ' := bx σx) (w' := wxOf w B) (L' := zLx) (rest := []) (av := (.ref ((wxOf w B).2.2 0) :: [.int (xs (6 * t + 1))])) (zPay.ofW q347 q74) (fun H ls hH _ => zInv_V C (As := [.int (xs (6 * t + 1))]) (rest := []) (ci := 0) (T := TX0) (N := 8) rfl (zSee.pool (outP_x ly_x0)) hH q344 q345 q346 (Or.inr ⟨_, rfl⟩) q347 mh_X0 np_X0_bay dL_law_214) (sub_x h.2.1) (tX0_bay l (wxOf w B) ex) (by show 100 ≤ 100 * (r + 1); omega) (by show 5000 ≤ 5000 * (r + 1); omega) (Nat.le_of_ble_eq_true rfl) (Nat.le_of_ble_eq_true rfl) (fun f1 f2 f3 => ⟨out w B σx' σm (100 * r) (5000 * r), bk_x h.2.1, (by show 100 * r + 100 ≤ 100 * (r + 1) + _; omega), (by show 5000 * r + 5000 ≤ 5000 * (r + 1) + _; omega), ?_⟩)
  have hS' := h.2.1.next f1 f2 f3
  refine z_aload_n C 2 dL_law_217 rfl rfl ?_
  refine lw_arg hC (k := 1) (n := 1) (by omega) rfl dL_law_218 dL_law_219 dL_law_220 dL_law_221 dL_law_222 ?_
  refine z_callSj C (σ' := bm σm σx'.2.2.2.1) (w' := wmOf w B) (L' := zLm) (rest := [.int rv]) (av := (.ref ((wmOf w B).2.2 0) :: [.int (xs (6 * t + 1))])) (zPay.of q1584 q83) (fun H ls hH _ => zInv_V C (As := [.int (xs (6 * t + 1))]) (rest := [.int rv]) (ci := 6) (T := TX6) (N := 24) rfl (zSee.pool (outP_m ly_m0)) hH q1581 q1582 q1583 (Or.inl rfl) q1584 mh_X6 np_X6_bay dL_law_223) (sub_m h.2.2) (tX6_bay l (wmOf w B) em) (Nat.zero_le _) (Nat.zero_le _) (Nat.le_of_ble_eq_true rfl) (Nat.le_of_ble_eq_true rfl) (fun g1 g2 g3 => ⟨out w B σx' σm' (100 * r) (5000 * r), bk_m hS' h2, Nat.le_add_right _ _, Nat.le_add_right _ _, ?_⟩)
  refine z_icmp_eq C 1468 dL_law_226 (by decide) (fun _ => kk _ _ (LI.next hR hS' h.2.2 h2)) (fun q => absurd rfl q)
set_option maxHeartbeats 4000000 in
set_option maxRecDepth 100000 in
theorem lwc_1 {p : Program} {l : Launch} {e : Env} {s : State} {m : MethodId} {args : Array Value} {below : List Frame} {meth : Method} {c : Code} {Q : State → Prop} {w : ZW} {A : Nat → Prop} {b L B : Nat} {xs : Nat → Int32} {t r N : Nat} {σx σm : ZS} (hC : LC p s m args meth c w A b L xs) (ht : 6 * t + 6 ≤ L) (hN : N < 1000) (h : LI w B N σx σm) (kk : ∀ σx' σm', LI w B (N + 1) σx' σm' → Z p l e room_1 s m args below meth c Q w zL0 A 4 (out w B σx' σm' (100 * r) (5000 * r)) 1468 (lvL w B b t) []) : Z p l e room_1 s m args below meth c Q w zL0 A 4 (out w B σx σm (100 * (r + 1)) (5000 * (r + 1))) 231 (lvL w B b t) [] := by
  obtain ⟨C, hX, hbl, hbA, hL⟩ := id hC
  obtain ⟨rv, σx', σm', ex, em, hR, h2⟩ := act_S (m := fun σ => fX6_lay σ (xs (6 * t + 1)) (xs (6 * t + 2)) (xs (6 * t + 3))) (fun S => lay_act (p1 := xs (6 * t + 1)) (p2 := xs (6 * t + 2)) (p3 := xs (6 * t + 3)) (h.rr S))
  refine z_aload_n C 1 dL_law_231 rfl rfl ?_
  refine lw_arg hC (k := 1) (n := 1) (by omega) rfl dL_law_232 dL_law_233 dL_law_234 dL_law_235 dL_law_236 ?_
  refine lw_arg hC (k := 2) (n := 2) (by omega) rfl dL_law_237 dL_law_238 dL_law_239 dL_law_240 dL_law_241 ?_
  refine lw_arg hC (k := 3) (n := 3) (by omega) rfl dL_law_242 dL_law_243 dL_law_244 dL_law_245 dL_law_246 ?_
  refine z_callSj C (σ' := bx σx) (w' := wxOf w B) (L' := zLx) (rest := []) (av := (.ref ((wxOf w B).2.2 0) :: [.int (xs (6 * t + 1)), .int (xs (6 * t + 2)), .int (xs (6 * t + 3))])) (zPay.ofW q367 q74) (fun H ls hH _ => zInv_V C (As := [.int (xs (6 * t + 1)), .int (xs (6 * t + 2)), .int (xs (6 * t + 3))]) (rest := []) (ci := 0) (T := TX0) (N := 8) rfl (zSee.pool (outP_x ly_x0)) hH q364 q365 q366 (Or.inr ⟨_, rfl⟩) q367 mh_X0 np_X0_lay dL_law_247) (sub_x h.2.1) (tX0_lay l (wxOf w B) ex) (by show 100 ≤ 100 * (r + 1); omega) (by show 5000 ≤ 5000 * (r + 1); omega) (Nat.le_of_ble_eq_true rfl) (Nat.le_of_ble_eq_true rfl) (fun f1 f2 f3 => ⟨out w B σx' σm (100 * r) (5000 * r), bk_x h.2.1, (by show 100 * r + 100 ≤ 100 * (r + 1) + _; omega), (by show 5000 * r + 5000 ≤ 5000 * (r + 1) + _; omega), ?_⟩)
  have hS' := h.2.1.next f1 f2 f3
  refine z_aload_n C 2 dL_law_250 rfl rfl ?_
  refine lw_arg hC (k := 1) (n := 1) (by omega) rfl dL_law_251 dL_law_252 dL_law_253 dL_law_254 dL_law_255 ?_
  refine lw_arg hC (k := 2) (n := 2) (by omega) rfl dL_law_256 dL_law_257 dL_law_258 dL_law_259 dL_law_260 ?_
  refine lw_arg hC (k := 3) (n := 3) (by omega) rfl dL_law_261 dL_law_262 dL_law_263 dL_law_264 dL_law_265 ?_
  refine z_callSj C (σ' := bm σm σx'.2.2.2.1) (w' := wmOf w B) (L' := zLm) (rest := [.int rv]) (av := (.ref ((wmOf w B).2.2 0) :: [.int (xs (6 * t + 1)), .int (xs (6 * t + 2)), .int (xs (6 * t + 3))])) (zPay.of q1589 q83) (fun H ls hH _ => zInv_V C (As := [.int (xs (6 * t + 1)), .int (xs (6 * t + 2)), .int (xs (6 * t + 3))]) (rest := [.int rv]) (ci := 6) (T := TX6) (N := 24) rfl (zSee.pool (outP_m ly_m0)) hH q1586 q1587 q1588 (Or.inl rfl) q1589 mh_X6 np_X6_lay dL_law_266) (sub_m h.2.2) (tX6_lay l (wmOf w B) em) (Nat.zero_le _) (Nat.zero_le _) (Nat.le_of_ble_eq_true rfl) (Nat.le_of_ble_eq_true rfl) (fun g1 g2 g3 => ⟨out w B σx' σm' (100 * r) (5000 * r), bk_m hS' h2, Nat.le_add_right _ _, Nat.le_add_right _ _, ?_⟩)
  refine z_icmp_eq C 1468 dL_law_269 (by decide) (fun _ => kk _ _ (LI.next hR hS' h.2.2 h2)) (fun q => absurd rfl q)
set_option maxHeartbeats 4000000 in
set_option maxRecDepth 100000 in
theorem lwc_2 {p : Program} {l : Launch} {e : Env} {s : State} {m : MethodId} {args : Array Value} {below : List Frame} {meth : Method} {c : Code} {Q : State → Prop} {w : ZW} {A : Nat → Prop} {b L B : Nat} {xs : Nat → Int32} {t r N : Nat} {σx σm : ZS} (hC : LC p s m args meth c w A b L xs) (ht : 6 * t + 6 ≤ L) (hN : N < 1000) (h : LI w B N σx σm) (kk : ∀ σx' σm', LI w B (N + 1) σx' σm' → Z p l e room_1 s m args below meth c Q w zL0 A 4 (out w B σx' σm' (100 * r) (5000 * r)) 1468 (lvL w B b t) []) : Z p l e room_1 s m args below meth c Q w zL0 A 4 (out w B σx σm (100 * (r + 1)) (5000 * (r + 1))) 274 (lvL w B b t) [] := by
  obtain ⟨C, hX, hbl, hbA, hL⟩ := id hC
  obtain ⟨rv, σx', σm', ex, em, hR, h2⟩ := act_S (m := fun σ => fX6_ofCell σ (xs (6 * t + 1)) (xs (6 * t + 2))) (fun S => ofCell_act (p1 := xs (6 * t + 1)) (p2 := xs (6 * t + 2)) (h.rr S))
  refine z_aload_n C 1 dL_law_274 rfl rfl ?_
  refine lw_arg hC (k := 1) (n := 1) (by omega) rfl dL_law_275 dL_law_276 dL_law_277 dL_law_278 dL_law_279 ?_
  refine lw_arg hC (k := 2) (n := 2) (by omega) rfl dL_law_280 dL_law_281 dL_law_282 dL_law_283 dL_law_284 ?_
  refine z_callSj C (σ' := bx σx) (w' := wxOf w B) (L' := zLx) (rest := []) (av := (.ref ((wxOf w B).2.2 0) :: [.int (xs (6 * t + 1)), .int (xs (6 * t + 2))])) (zPay.ofW q379 q74) (fun H ls hH _ => zInv_V C (As := [.int (xs (6 * t + 1)), .int (xs (6 * t + 2))]) (rest := []) (ci := 0) (T := TX0) (N := 8) rfl (zSee.pool (outP_x ly_x0)) hH q376 q377 q378 (Or.inr ⟨_, rfl⟩) q379 mh_X0 np_X0_ofCell dL_law_285) (sub_x h.2.1) (tX0_ofCell l (wxOf w B) ex) (by show 100 ≤ 100 * (r + 1); omega) (by show 5000 ≤ 5000 * (r + 1); omega) (Nat.le_of_ble_eq_true rfl) (Nat.le_of_ble_eq_true rfl) (fun f1 f2 f3 => ⟨out w B σx' σm (100 * r) (5000 * r), bk_x h.2.1, (by show 100 * r + 100 ≤ 100 * (r + 1) + _; omega), (by show 5000 * r + 5000 ≤ 5000 * (r + 1) + _; omega), ?_⟩)
  have hS' := h.2.1.next f1 f2 f3
  refine z_aload_n C 2 dL_law_288 rfl rfl ?_
  refine lw_arg hC (k := 1) (n := 1) (by omega) rfl dL_law_289 dL_law_290 dL_law_291 dL_law_292 dL_law_293 ?_
  refine lw_arg hC (k := 2) (n := 2) (by omega) rfl dL_law_294 dL_law_295 dL_law_296 dL_law_297 dL_law_298 ?_
  refine z_callSj C (σ' := bm σm σx'.2.2.2.1) (w' := wmOf w B) (L' := zLm) (rest := [.int rv]) (av := (.ref ((wmOf w B).2.2 0) :: [.int (xs (6 * t + 1)), .int (xs (6 * t + 2))])) (zPay.of q1597 q83) (fun H ls hH _ => zInv_V C (As := [.int (xs (6 * t + 1)), .int (xs (6 * t + 2))]) (rest := [.int rv]) (ci := 6) (T := TX6) (N := 24) rfl (zSee.pool (outP_m ly_m0)) hH q1594 q1595 q1596 (Or.inl rfl) q1597 mh_X6 np_X6_ofCell dL_law_299) (sub_m h.2.2) (tX6_ofCell l (wmOf w B) em) (Nat.zero_le _) (Nat.zero_le _) (Nat.le_of_ble_eq_true rfl) (Nat.le_of_ble_eq_true rfl) (fun g1 g2 g3 => ⟨out w B σx' σm' (100 * r) (5000 * r), bk_m hS' h2, Nat.le_add_right _ _, Nat.le_add_right _ _, ?_⟩)
  refine z_icmp_eq C 1468 dL_law_302 (by decide) (fun _ => kk _ _ (LI.next hR hS' h.2.2 h2)) (fun q => absurd rfl q)
set_option maxHeartbeats 4000000 in
set_option maxRecDepth 100000 in
theorem lwc_3 {p : Program} {l : Launch} {e : Env} {s : State} {m : MethodId} {args : Array Value} {below : List Frame} {meth : Method} {c : Code} {Q : State → Prop} {w : ZW} {A : Nat → Prop} {b L B : Nat} {xs : Nat → Int32} {t r N : Nat} {σx σm : ZS} (hC : LC p s m args meth c w A b L xs) (ht : 6 * t + 6 ≤ L) (hN : N < 1000) (h : LI w B N σx σm) (kk : ∀ σx' σm', LI w B (N + 1) σx' σm' → Z p l e room_1 s m args below meth c Q w zL0 A 4 (out w B σx' σm' (100 * r) (5000 * r)) 1468 (lvL w B b t) []) : Z p l e room_1 s m args below meth c Q w zL0 A 4 (out w B σx σm (100 * (r + 1)) (5000 * (r + 1))) 307 (lvL w B b t) [] := by
  obtain ⟨C, hX, hbl, hbA, hL⟩ := id hC
  obtain ⟨rv, σx', σm', ex, em, hR, h2⟩ := act_S (m := fun σ => fX6_set σ (xs (6 * t + 1)) (xs (6 * t + 2))) (fun S => set_act (p1 := xs (6 * t + 1)) (p2 := xs (6 * t + 2)) (h.rr S))
  refine z_aload_n C 1 dL_law_307 rfl rfl ?_
  refine lw_arg hC (k := 1) (n := 1) (by omega) rfl dL_law_308 dL_law_309 dL_law_310 dL_law_311 dL_law_312 ?_
  refine lw_arg hC (k := 2) (n := 2) (by omega) rfl dL_law_313 dL_law_314 dL_law_315 dL_law_316 dL_law_317 ?_
  refine z_callSj C (σ' := bx σx) (w' := wxOf w B) (L' := zLx) (rest := []) (av := (.ref ((wxOf w B).2.2 0) :: [.int (xs (6 * t + 1)), .int (xs (6 * t + 2))])) (zPay.ofW q440 q74) (fun H ls hH _ => zInv_V C (As := [.int (xs (6 * t + 1)), .int (xs (6 * t + 2))]) (rest := []) (ci := 0) (T := TX0) (N := 8) rfl (zSee.pool (outP_x ly_x0)) hH q437 q438 q439 (Or.inr ⟨_, rfl⟩) q440 mh_X0 np_X0_set dL_law_318) (sub_x h.2.1) (tX0_set l (wxOf w B) ex) (by show 100 ≤ 100 * (r + 1); omega) (by show 5000 ≤ 5000 * (r + 1); omega) (Nat.le_of_ble_eq_true rfl) (Nat.le_of_ble_eq_true rfl) (fun f1 f2 f3 => ⟨out w B σx' σm (100 * r) (5000 * r), bk_x h.2.1, (by show 100 * r + 100 ≤ 100 * (r + 1) + _; omega), (by show 5000 * r + 5000 ≤ 5000 * (r + 1) + _; omega), ?_⟩)
  have hS' := h.2.1.next f1 f2 f3
  refine z_aload_n C 2 dL_law_321 rfl rfl ?_
  refine lw_arg hC (k := 1) (n := 1) (by omega) rfl dL_law_322 dL_law_323 dL_law_324 dL_law_325 dL_law_326 ?_
  refine lw_arg hC (k := 2) (n := 2) (by omega) rfl dL_law_327 dL_law_328 dL_law_329 dL_law_330 dL_law_331 ?_
  refine z_callSj C (σ' := bm σm σx'.2.2.2.1) (w' := wmOf w B) (L' := zLm) (rest := [.int rv]) (av := (.ref ((wmOf w B).2.2 0) :: [.int (xs (6 * t + 1)), .int (xs (6 * t + 2))])) (zPay.of q1635 q83) (fun H ls hH _ => zInv_V C (As := [.int (xs (6 * t + 1)), .int (xs (6 * t + 2))]) (rest := [.int rv]) (ci := 6) (T := TX6) (N := 24) rfl (zSee.pool (outP_m ly_m0)) hH q1632 q1633 q1634 (Or.inl rfl) q1635 mh_X6 np_X6_set dL_law_332) (sub_m h.2.2) (tX6_set l (wmOf w B) em) (Nat.zero_le _) (Nat.zero_le _) (Nat.le_of_ble_eq_true rfl) (Nat.le_of_ble_eq_true rfl) (fun g1 g2 g3 => ⟨out w B σx' σm' (100 * r) (5000 * r), bk_m hS' h2, Nat.le_add_right _ _, Nat.le_add_right _ _, ?_⟩)
  refine z_icmp_eq C 1468 dL_law_335 (by decide) (fun _ => kk _ _ (LI.next hR hS' h.2.2 h2)) (fun q => absurd rfl q)
set_option maxHeartbeats 4000000 in
set_option maxRecDepth 100000 in
theorem lwc_4 {p : Program} {l : Launch} {e : Env} {s : State} {m : MethodId} {args : Array Value} {below : List Frame} {meth : Method} {c : Code} {Q : State → Prop} {w : ZW} {A : Nat → Prop} {b L B : Nat} {xs : Nat → Int32} {t r N : Nat} {σx σm : ZS} (hC : LC p s m args meth c w A b L xs) (ht : 6 * t + 6 ≤ L) (hN : N < 1000) (h : LI w B N σx σm) (kk : ∀ σx' σm', LI w B (N + 1) σx' σm' → Z p l e room_1 s m args below meth c Q w zL0 A 4 (out w B σx' σm' (100 * r) (5000 * r)) 1468 (lvL w B b t) []) : Z p l e room_1 s m args below meth c Q w zL0 A 4 (out w B σx σm (100 * (r + 1)) (5000 * (r + 1))) 340 (lvL w B b t) [] := by
  obtain ⟨C, hX, hbl, hbA, hL⟩ := id hC
  obtain ⟨rv, σx', σm', ex, em, hR, h2⟩ := act_S (m := fun σ => fX6_ship σ (xs (6 * t + 1)) (xs (6 * t + 2)) (xs (6 * t + 3))) (fun S => ship_act (p1 := xs (6 * t + 1)) (p2 := xs (6 * t + 2)) (p3 := xs (6 * t + 3)) (show 4 ≤ 100 by decide) (show 1000 ≤ 5000 by decide) (h.rr S))
  refine z_aload_n C 1 dL_law_340 rfl rfl ?_
  refine lw_arg hC (k := 1) (n := 1) (by omega) rfl dL_law_341 dL_law_342 dL_law_343 dL_law_344 dL_law_345 ?_
  refine lw_arg hC (k := 2) (n := 2) (by omega) rfl dL_law_346 dL_law_347 dL_law_348 dL_law_349 dL_law_350 ?_
  refine lw_arg hC (k := 3) (n := 3) (by omega) rfl dL_law_351 dL_law_352 dL_law_353 dL_law_354 dL_law_355 ?_
  refine z_callSj C (σ' := bx σx) (w' := wxOf w B) (L' := zLx) (rest := []) (av := (.ref ((wxOf w B).2.2 0) :: [.int (xs (6 * t + 1)), .int (xs (6 * t + 2)), .int (xs (6 * t + 3))])) (zPay.ofW q452 q74) (fun H ls hH _ => zInv_V C (As := [.int (xs (6 * t + 1)), .int (xs (6 * t + 2)), .int (xs (6 * t + 3))]) (rest := []) (ci := 0) (T := TX0) (N := 8) rfl (zSee.pool (outP_x ly_x0)) hH q449 q450 q451 (Or.inr ⟨_, rfl⟩) q452 mh_X0 np_X0_ship dL_law_356) (sub_x h.2.1) (tX0_ship l (wxOf w B) ex) (by show 100 ≤ 100 * (r + 1); omega) (by show 5000 ≤ 5000 * (r + 1); omega) (Nat.le_of_ble_eq_true rfl) (Nat.le_of_ble_eq_true rfl) (fun f1 f2 f3 => ⟨out w B σx' σm (100 * r) (5000 * r), bk_x h.2.1, (by show 100 * r + 100 ≤ 100 * (r + 1) + _; omega), (by show 5000 * r + 5000 ≤ 5000 * (r + 1) + _; omega), ?_⟩)
  have hS' := h.2.1.next f1 f2 f3
  refine z_aload_n C 2 dL_law_359 rfl rfl ?_
  refine lw_arg hC (k := 1) (n := 1) (by omega) rfl dL_law_360 dL_law_361 dL_law_362 dL_law_363 dL_law_364 ?_
  refine lw_arg hC (k := 2) (n := 2) (by omega) rfl dL_law_365 dL_law_366 dL_law_367 dL_law_368 dL_law_369 ?_
  refine lw_arg hC (k := 3) (n := 3) (by omega) rfl dL_law_370 dL_law_371 dL_law_372 dL_law_373 dL_law_374 ?_
  refine z_callSj C (σ' := bm σm σx'.2.2.2.1) (w' := wmOf w B) (L' := zLm) (rest := [.int rv]) (av := (.ref ((wmOf w B).2.2 0) :: [.int (xs (6 * t + 1)), .int (xs (6 * t + 2)), .int (xs (6 * t + 3))])) (zPay.of q1646 q83) (fun H ls hH _ => zInv_V C (As := [.int (xs (6 * t + 1)), .int (xs (6 * t + 2)), .int (xs (6 * t + 3))]) (rest := [.int rv]) (ci := 6) (T := TX6) (N := 24) rfl (zSee.pool (outP_m ly_m0)) hH q1643 q1644 q1645 (Or.inl rfl) q1646 mh_X6 np_X6_ship dL_law_375) (sub_m h.2.2) (tX6_ship l (wmOf w B) em) (Nat.zero_le _) (Nat.zero_le _) (Nat.le_of_ble_eq_true rfl) (Nat.le_of_ble_eq_true rfl) (fun g1 g2 g3 => ⟨out w B σx' σm' (100 * r) (5000 * r), bk_m hS' h2, Nat.le_add_right _ _, Nat.le_add_right _ _, ?_⟩)
  refine z_icmp_eq C 1468 dL_law_378 (by decide) (fun _ => kk _ _ (LI.next hR hS' h.2.2 h2)) (fun q => absurd rfl q)
set_option maxHeartbeats 4000000 in
set_option maxRecDepth 100000 in
theorem lwc_5 {p : Program} {l : Launch} {e : Env} {s : State} {m : MethodId} {args : Array Value} {below : List Frame} {meth : Method} {c : Code} {Q : State → Prop} {w : ZW} {A : Nat → Prop} {b L B : Nat} {xs : Nat → Int32} {t r N : Nat} {σx σm : ZS} (hC : LC p s m args meth c w A b L xs) (ht : 6 * t + 6 ≤ L) (hN : N < 1000) (h : LI w B N σx σm) (kk : ∀ σx' σm', LI w B (N + 1) σx' σm' → Z p l e room_1 s m args below meth c Q w zL0 A 4 (out w B σx' σm' (100 * r) (5000 * r)) 1468 (lvL w B b t) []) : Z p l e room_1 s m args below meth c Q w zL0 A 4 (out w B σx σm (100 * (r + 1)) (5000 * (r + 1))) 383 (lvL w B b t) [] := by
  obtain ⟨C, hX, hbl, hbA, hL⟩ := id hC
  obtain ⟨rv, σx', σm', ex, em, hR, h2⟩ := act_S (m := fun σ => fX6_ofShip σ (xs (6 * t + 1)) (xs (6 * t + 2))) (fun S => ofShip_act (p1 := xs (6 * t + 1)) (p2 := xs (6 * t + 2)) (h.rr S))
  refine z_aload_n C 1 dL_law_383 rfl rfl ?_
  refine lw_arg hC (k := 1) (n := 1) (by omega) rfl dL_law_384 dL_law_385 dL_law_386 dL_law_387 dL_law_388 ?_
  refine lw_arg hC (k := 2) (n := 2) (by omega) rfl dL_law_389 dL_law_390 dL_law_391 dL_law_392 dL_law_393 ?_
  refine z_callSj C (σ' := bx σx) (w' := wxOf w B) (L' := zLx) (rest := []) (av := (.ref ((wxOf w B).2.2 0) :: [.int (xs (6 * t + 1)), .int (xs (6 * t + 2))])) (zPay.ofW q553 q74) (fun H ls hH _ => zInv_V C (As := [.int (xs (6 * t + 1)), .int (xs (6 * t + 2))]) (rest := []) (ci := 0) (T := TX0) (N := 8) rfl (zSee.pool (outP_x ly_x0)) hH q550 q551 q552 (Or.inr ⟨_, rfl⟩) q553 mh_X0 np_X0_ofShip dL_law_394) (sub_x h.2.1) (tX0_ofShip l (wxOf w B) ex) (by show 100 ≤ 100 * (r + 1); omega) (by show 5000 ≤ 5000 * (r + 1); omega) (Nat.le_of_ble_eq_true rfl) (Nat.le_of_ble_eq_true rfl) (fun f1 f2 f3 => ⟨out w B σx' σm (100 * r) (5000 * r), bk_x h.2.1, (by show 100 * r + 100 ≤ 100 * (r + 1) + _; omega), (by show 5000 * r + 5000 ≤ 5000 * (r + 1) + _; omega), ?_⟩)
  have hS' := h.2.1.next f1 f2 f3
  refine z_aload_n C 2 dL_law_397 rfl rfl ?_
  refine lw_arg hC (k := 1) (n := 1) (by omega) rfl dL_law_398 dL_law_399 dL_law_400 dL_law_401 dL_law_402 ?_
  refine lw_arg hC (k := 2) (n := 2) (by omega) rfl dL_law_403 dL_law_404 dL_law_405 dL_law_406 dL_law_407 ?_
  refine z_callSj C (σ' := bm σm σx'.2.2.2.1) (w' := wmOf w B) (L' := zLm) (rest := [.int rv]) (av := (.ref ((wmOf w B).2.2 0) :: [.int (xs (6 * t + 1)), .int (xs (6 * t + 2))])) (zPay.of q1660 q83) (fun H ls hH _ => zInv_V C (As := [.int (xs (6 * t + 1)), .int (xs (6 * t + 2))]) (rest := [.int rv]) (ci := 6) (T := TX6) (N := 24) rfl (zSee.pool (outP_m ly_m0)) hH q1657 q1658 q1659 (Or.inl rfl) q1660 mh_X6 np_X6_ofShip dL_law_408) (sub_m h.2.2) (tX6_ofShip l (wmOf w B) em) (Nat.zero_le _) (Nat.zero_le _) (Nat.le_of_ble_eq_true rfl) (Nat.le_of_ble_eq_true rfl) (fun g1 g2 g3 => ⟨out w B σx' σm' (100 * r) (5000 * r), bk_m hS' h2, Nat.le_add_right _ _, Nat.le_add_right _ _, ?_⟩)
  refine z_icmp_eq C 1468 dL_law_411 (by decide) (fun _ => kk _ _ (LI.next hR hS' h.2.2 h2)) (fun q => absurd rfl q)
set_option maxHeartbeats 4000000 in
set_option maxRecDepth 100000 in
theorem lwc_6 {p : Program} {l : Launch} {e : Env} {s : State} {m : MethodId} {args : Array Value} {below : List Frame} {meth : Method} {c : Code} {Q : State → Prop} {w : ZW} {A : Nat → Prop} {b L B : Nat} {xs : Nat → Int32} {t r N : Nat} {σx σm : ZS} (hC : LC p s m args meth c w A b L xs) (ht : 6 * t + 6 ≤ L) (hN : N < 1000) (h : LI w B N σx σm) (kk : ∀ σx' σm', LI w B (N + 1) σx' σm' → Z p l e room_1 s m args below meth c Q w zL0 A 4 (out w B σx' σm' (100 * r) (5000 * r)) 1468 (lvL w B b t) []) : Z p l e room_1 s m args below meth c Q w zL0 A 4 (out w B σx σm (100 * (r + 1)) (5000 * (r + 1))) 416 (lvL w B b t) [] := by
  obtain ⟨C, hX, hbl, hbA, hL⟩ := id hC
  obtain ⟨rv, σx', σm', ex, em, hR, h2⟩ := act_S (m := fun σ => fX6_change σ (xs (6 * t + 1)) (xs (6 * t + 2)) (xs (6 * t + 3))) (fun S => change_act (p1 := xs (6 * t + 1)) (p2 := xs (6 * t + 2)) (p3 := xs (6 * t + 3)) (h.rr S))
  refine z_aload_n C 1 dL_law_416 rfl rfl ?_
  refine lw_arg hC (k := 1) (n := 1) (by omega) rfl dL_law_417 dL_law_418 dL_law_419 dL_law_420 dL_law_421 ?_
  refine lw_arg hC (k := 2) (n := 2) (by omega) rfl dL_law_422 dL_law_423 dL_law_424 dL_law_425 dL_law_426 ?_
  refine lw_arg hC (k := 3) (n := 3) (by omega) rfl dL_law_427 dL_law_428 dL_law_429 dL_law_430 dL_law_431 ?_
  refine z_callSj C (σ' := bx σx) (w' := wxOf w B) (L' := zLx) (rest := []) (av := (.ref ((wxOf w B).2.2 0) :: [.int (xs (6 * t + 1)), .int (xs (6 * t + 2)), .int (xs (6 * t + 3))])) (zPay.ofW q628 q74) (fun H ls hH _ => zInv_V C (As := [.int (xs (6 * t + 1)), .int (xs (6 * t + 2)), .int (xs (6 * t + 3))]) (rest := []) (ci := 0) (T := TX0) (N := 8) rfl (zSee.pool (outP_x ly_x0)) hH q625 q626 q627 (Or.inr ⟨_, rfl⟩) q628 mh_X0 np_X0_change dL_law_432) (sub_x h.2.1) (tX0_change l (wxOf w B) ex) (by show 100 ≤ 100 * (r + 1); omega) (by show 5000 ≤ 5000 * (r + 1); omega) (Nat.le_of_ble_eq_true rfl) (Nat.le_of_ble_eq_true rfl) (fun f1 f2 f3 => ⟨out w B σx' σm (100 * r) (5000 * r), bk_x h.2.1, (by show 100 * r + 100 ≤ 100 * (r + 1) + _; omega), (by show 5000 * r + 5000 ≤ 5000 * (r + 1) + _; omega), ?_⟩)
  have hS' := h.2.1.next f1 f2 f3
  refine z_aload_n C 2 dL_law_435 rfl rfl ?_
  refine lw_arg hC (k := 1) (n := 1) (by omega) rfl dL_law_436 dL_law_437 dL_law_438 dL_law_439 dL_law_440 ?_
  refine lw_arg hC (k := 2) (n := 2) (by omega) rfl dL_law_441 dL_law_442 dL_law_443 dL_law_444 dL_law_445 ?_
  refine lw_arg hC (k := 3) (n := 3) (by omega) rfl dL_law_446 dL_law_447 dL_law_448 dL_law_449 dL_law_450 ?_
  refine z_callSj C (σ' := bm σm σx'.2.2.2.1) (w' := wmOf w B) (L' := zLm) (rest := [.int rv]) (av := (.ref ((wmOf w B).2.2 0) :: [.int (xs (6 * t + 1)), .int (xs (6 * t + 2)), .int (xs (6 * t + 3))])) (zPay.of q1672 q83) (fun H ls hH _ => zInv_V C (As := [.int (xs (6 * t + 1)), .int (xs (6 * t + 2)), .int (xs (6 * t + 3))]) (rest := [.int rv]) (ci := 6) (T := TX6) (N := 24) rfl (zSee.pool (outP_m ly_m0)) hH q1669 q1670 q1671 (Or.inl rfl) q1672 mh_X6 np_X6_change dL_law_451) (sub_m h.2.2) (tX6_change l (wmOf w B) em) (Nat.zero_le _) (Nat.zero_le _) (Nat.le_of_ble_eq_true rfl) (Nat.le_of_ble_eq_true rfl) (fun g1 g2 g3 => ⟨out w B σx' σm' (100 * r) (5000 * r), bk_m hS' h2, Nat.le_add_right _ _, Nat.le_add_right _ _, ?_⟩)
  refine z_icmp_eq C 1468 dL_law_454 (by decide) (fun _ => kk _ _ (LI.next hR hS' h.2.2 h2)) (fun q => absurd rfl q)
set_option maxHeartbeats 4000000 in
set_option maxRecDepth 100000 in
theorem lwc_7 {p : Program} {l : Launch} {e : Env} {s : State} {m : MethodId} {args : Array Value} {below : List Frame} {meth : Method} {c : Code} {Q : State → Prop} {w : ZW} {A : Nat → Prop} {b L B : Nat} {xs : Nat → Int32} {t r N : Nat} {σx σm : ZS} (hC : LC p s m args meth c w A b L xs) (ht : 6 * t + 6 ≤ L) (hN : N < 1000) (h : LI w B N σx σm) (kk : ∀ σx' σm', LI w B (N + 1) σx' σm' → Z p l e room_1 s m args below meth c Q w zL0 A 4 (out w B σx' σm' (100 * r) (5000 * r)) 1468 (lvL w B b t) []) : Z p l e room_1 s m args below meth c Q w zL0 A 4 (out w B σx σm (100 * (r + 1)) (5000 * (r + 1))) 459 (lvL w B b t) [] := by
  obtain ⟨C, hX, hbl, hbA, hL⟩ := id hC
  obtain ⟨rv, σx', σm', ex, em, hR, h2⟩ := act_S (m := fun σ => fX6_become σ (xs (6 * t + 1)) (xs (6 * t + 2))) (fun S => become_act (p1 := xs (6 * t + 1)) (p2 := xs (6 * t + 2)) (show 4 ≤ 100 by decide) (show 1000 ≤ 5000 by decide) (h.rr S))
  refine z_aload_n C 1 dL_law_459 rfl rfl ?_
  refine lw_arg hC (k := 1) (n := 1) (by omega) rfl dL_law_460 dL_law_461 dL_law_462 dL_law_463 dL_law_464 ?_
  refine lw_arg hC (k := 2) (n := 2) (by omega) rfl dL_law_465 dL_law_466 dL_law_467 dL_law_468 dL_law_469 ?_
  refine z_callSj C (σ' := bx σx) (w' := wxOf w B) (L' := zLx) (rest := []) (av := (.ref ((wxOf w B).2.2 0) :: [.int (xs (6 * t + 1)), .int (xs (6 * t + 2))])) (zPay.ofW q636 q74) (fun H ls hH _ => zInv_V C (As := [.int (xs (6 * t + 1)), .int (xs (6 * t + 2))]) (rest := []) (ci := 0) (T := TX0) (N := 8) rfl (zSee.pool (outP_x ly_x0)) hH q633 q634 q635 (Or.inr ⟨_, rfl⟩) q636 mh_X0 np_X0_become dL_law_470) (sub_x h.2.1) (tX0_become l (wxOf w B) ex) (by show 100 ≤ 100 * (r + 1); omega) (by show 5000 ≤ 5000 * (r + 1); omega) (Nat.le_of_ble_eq_true rfl) (Nat.le_of_ble_eq_true rfl) (fun f1 f2 f3 => ⟨out w B σx' σm (100 * r) (5000 * r), bk_x h.2.1, (by show 100 * r + 100 ≤ 100 * (r + 1) + _; omega), (by show 5000 * r + 5000 ≤ 5000 * (r + 1) + _; omega), ?_⟩)
  have hS' := h.2.1.next f1 f2 f3
  refine z_aload_n C 2 dL_law_473 rfl rfl ?_
  refine lw_arg hC (k := 1) (n := 1) (by omega) rfl dL_law_474 dL_law_475 dL_law_476 dL_law_477 dL_law_478 ?_
  refine lw_arg hC (k := 2) (n := 2) (by omega) rfl dL_law_479 dL_law_480 dL_law_481 dL_law_482 dL_law_483 ?_
  refine z_callSj C (σ' := bm σm σx'.2.2.2.1) (w' := wmOf w B) (L' := zLm) (rest := [.int rv]) (av := (.ref ((wmOf w B).2.2 0) :: [.int (xs (6 * t + 1)), .int (xs (6 * t + 2))])) (zPay.of q1676 q83) (fun H ls hH _ => zInv_V C (As := [.int (xs (6 * t + 1)), .int (xs (6 * t + 2))]) (rest := [.int rv]) (ci := 6) (T := TX6) (N := 24) rfl (zSee.pool (outP_m ly_m0)) hH q1673 q1674 q1675 (Or.inl rfl) q1676 mh_X6 np_X6_become dL_law_484) (sub_m h.2.2) (tX6_become l (wmOf w B) em) (Nat.zero_le _) (Nat.zero_le _) (Nat.le_of_ble_eq_true rfl) (Nat.le_of_ble_eq_true rfl) (fun g1 g2 g3 => ⟨out w B σx' σm' (100 * r) (5000 * r), bk_m hS' h2, Nat.le_add_right _ _, Nat.le_add_right _ _, ?_⟩)
  refine z_icmp_eq C 1468 dL_law_487 (by decide) (fun _ => kk _ _ (LI.next hR hS' h.2.2 h2)) (fun q => absurd rfl q)
set_option maxHeartbeats 4000000 in
set_option maxRecDepth 100000 in
theorem lwc_8 {p : Program} {l : Launch} {e : Env} {s : State} {m : MethodId} {args : Array Value} {below : List Frame} {meth : Method} {c : Code} {Q : State → Prop} {w : ZW} {A : Nat → Prop} {b L B : Nat} {xs : Nat → Int32} {t r N : Nat} {σx σm : ZS} (hC : LC p s m args meth c w A b L xs) (ht : 6 * t + 6 ≤ L) (hN : N < 1000) (h : LI w B N σx σm) (kk : ∀ σx' σm', LI w B (N + 1) σx' σm' → Z p l e room_1 s m args below meth c Q w zL0 A 4 (out w B σx' σm' (100 * r) (5000 * r)) 1468 (lvL w B b t) []) : Z p l e room_1 s m args below meth c Q w zL0 A 4 (out w B σx σm (100 * (r + 1)) (5000 * (r + 1))) 492 (lvL w B b t) [] := by
  obtain ⟨C, hX, hbl, hbA, hL⟩ := id hC
  obtain ⟨rv, σx', σm', ex, em, hR, h2⟩ := act_S (m := fun σ => fX6_as σ (xs (6 * t + 1)) (xs (6 * t + 2))) (fun S => as_act (p1 := xs (6 * t + 1)) (p2 := xs (6 * t + 2)) (h.rr S))
  refine z_aload_n C 1 dL_law_492 rfl rfl ?_
  refine lw_arg hC (k := 1) (n := 1) (by omega) rfl dL_law_493 dL_law_494 dL_law_495 dL_law_496 dL_law_497 ?_
  refine lw_arg hC (k := 2) (n := 2) (by omega) rfl dL_law_498 dL_law_499 dL_law_500 dL_law_501 dL_law_502 ?_
  refine z_callSj C (σ' := bx σx) (w' := wxOf w B) (L' := zLx) (rest := []) (av := (.ref ((wxOf w B).2.2 0) :: [.int (xs (6 * t + 1)), .int (xs (6 * t + 2))])) (zPay.ofW q640 q74) (fun H ls hH _ => zInv_V C (As := [.int (xs (6 * t + 1)), .int (xs (6 * t + 2))]) (rest := []) (ci := 0) (T := TX0) (N := 8) rfl (zSee.pool (outP_x ly_x0)) hH q637 q638 q639 (Or.inr ⟨_, rfl⟩) q640 mh_X0 np_X0_as dL_law_503) (sub_x h.2.1) (tX0_as l (wxOf w B) ex) (by show 100 ≤ 100 * (r + 1); omega) (by show 5000 ≤ 5000 * (r + 1); omega) (Nat.le_of_ble_eq_true rfl) (Nat.le_of_ble_eq_true rfl) (fun f1 f2 f3 => ⟨out w B σx' σm (100 * r) (5000 * r), bk_x h.2.1, (by show 100 * r + 100 ≤ 100 * (r + 1) + _; omega), (by show 5000 * r + 5000 ≤ 5000 * (r + 1) + _; omega), ?_⟩)
  have hS' := h.2.1.next f1 f2 f3
  refine z_aload_n C 2 dL_law_506 rfl rfl ?_
  refine lw_arg hC (k := 1) (n := 1) (by omega) rfl dL_law_507 dL_law_508 dL_law_509 dL_law_510 dL_law_511 ?_
  refine lw_arg hC (k := 2) (n := 2) (by omega) rfl dL_law_512 dL_law_513 dL_law_514 dL_law_515 dL_law_516 ?_
  refine z_callSj C (σ' := bm σm σx'.2.2.2.1) (w' := wmOf w B) (L' := zLm) (rest := [.int rv]) (av := (.ref ((wmOf w B).2.2 0) :: [.int (xs (6 * t + 1)), .int (xs (6 * t + 2))])) (zPay.of q1680 q83) (fun H ls hH _ => zInv_V C (As := [.int (xs (6 * t + 1)), .int (xs (6 * t + 2))]) (rest := [.int rv]) (ci := 6) (T := TX6) (N := 24) rfl (zSee.pool (outP_m ly_m0)) hH q1677 q1678 q1679 (Or.inl rfl) q1680 mh_X6 np_X6_as dL_law_517) (sub_m h.2.2) (tX6_as l (wmOf w B) em) (Nat.zero_le _) (Nat.zero_le _) (Nat.le_of_ble_eq_true rfl) (Nat.le_of_ble_eq_true rfl) (fun g1 g2 g3 => ⟨out w B σx' σm' (100 * r) (5000 * r), bk_m hS' h2, Nat.le_add_right _ _, Nat.le_add_right _ _, ?_⟩)
  refine z_icmp_eq C 1468 dL_law_520 (by decide) (fun _ => kk _ _ (LI.next hR hS' h.2.2 h2)) (fun q => absurd rfl q)
set_option maxHeartbeats 4000000 in
set_option maxRecDepth 100000 in
theorem lwc_9 {p : Program} {l : Launch} {e : Env} {s : State} {m : MethodId} {args : Array Value} {below : List Frame} {meth : Method} {c : Code} {Q : State → Prop} {w : ZW} {A : Nat → Prop} {b L B : Nat} {xs : Nat → Int32} {t r N : Nat} {σx σm : ZS} (hC : LC p s m args meth c w A b L xs) (ht : 6 * t + 6 ≤ L) (hN : N < 1000) (h : LI w B N σx σm) (kk : ∀ σx' σm', LI w B (N + 1) σx' σm' → Z p l e room_1 s m args below meth c Q w zL0 A 4 (out w B σx' σm' (100 * r) (5000 * r)) 1468 (lvL w B b t) []) : Z p l e room_1 s m args below meth c Q w zL0 A 4 (out w B σx σm (100 * (r + 1)) (5000 * (r + 1))) 525 (lvL w B b t) [] := by
  obtain ⟨C, hX, hbl, hbA, hL⟩ := id hC
  obtain ⟨rv, σx', σm', ex, em, hR, h2⟩ := act_S (m := fun σ => fX6_feed σ (((((xs (6 * t + 1)).toInt64) <<< ((32 : Int32).toInt64 &&& 63)) ||| ((xs (6 * t + 2)).toInt64 &&& (4294967295 : Int64)))) (xs (6 * t + 3))) (fun S => feed_act (p1 := ((((xs (6 * t + 1)).toInt64) <<< ((32 : Int32).toInt64 &&& 63)) ||| ((xs (6 * t + 2)).toInt64 &&& (4294967295 : Int64)))) (p2 := xs (6 * t + 3)) (h.rr S))
  refine z_aload_n C 1 dL_law_525 rfl rfl ?_
  refine lw_arg hC (k := 1) (n := 1) (by omega) rfl dL_law_526 dL_law_527 dL_law_528 dL_law_529 dL_law_530 ?_
  refine z_i2l C dL_law_531 ?_
  refine z_bipush C 32 dL_law_532 (by decide) ?_
  refine z_lshl C dL_law_534 ?_
  refine lw_arg hC (k := 2) (n := 2) (by omega) rfl dL_law_535 dL_law_536 dL_law_537 dL_law_538 dL_law_539 ?_
  refine z_i2l C dL_law_540 ?_
  refine z_ldc2_w C dL_law_541 q1874 ?_
  refine z_land C dL_law_544 ?_
  refine z_lor C dL_law_545 ?_
  refine lw_arg hC (k := 3) (n := 3) (by omega) rfl dL_law_546 dL_law_547 dL_law_548 dL_law_549 dL_law_550 ?_
  refine z_callSj C (σ' := bx σx) (w' := wxOf w B) (L' := zLx) (rest := []) (av := (.ref ((wxOf w B).2.2 0) :: [.long (((((xs (6 * t + 1)).toInt64) <<< ((32 : Int32).toInt64 &&& 63)) ||| ((xs (6 * t + 2)).toInt64 &&& (4294967295 : Int64)))), .int (xs (6 * t + 3))])) (zPay.ofW q673 q74) (fun H ls hH _ => zInv_V C (As := [.long (((((xs (6 * t + 1)).toInt64) <<< ((32 : Int32).toInt64 &&& 63)) ||| ((xs (6 * t + 2)).toInt64 &&& (4294967295 : Int64)))), .int (xs (6 * t + 3))]) (rest := []) (ci := 0) (T := TX0) (N := 8) rfl (zSee.pool (outP_x ly_x0)) hH q670 q671 q672 (Or.inr ⟨_, rfl⟩) q673 mh_X0 np_X0_feed dL_law_551) (sub_x h.2.1) (tX0_feed l (wxOf w B) ex) (by show 100 ≤ 100 * (r + 1); omega) (by show 5000 ≤ 5000 * (r + 1); omega) (Nat.le_of_ble_eq_true rfl) (Nat.le_of_ble_eq_true rfl) (fun f1 f2 f3 => ⟨out w B σx' σm (100 * r) (5000 * r), bk_x h.2.1, (by show 100 * r + 100 ≤ 100 * (r + 1) + _; omega), (by show 5000 * r + 5000 ≤ 5000 * (r + 1) + _; omega), ?_⟩)
  have hS' := h.2.1.next f1 f2 f3
  refine z_aload_n C 2 dL_law_554 rfl rfl ?_
  refine lw_arg hC (k := 1) (n := 1) (by omega) rfl dL_law_555 dL_law_556 dL_law_557 dL_law_558 dL_law_559 ?_
  refine z_i2l C dL_law_560 ?_
  refine z_bipush C 32 dL_law_561 (by decide) ?_
  refine z_lshl C dL_law_563 ?_
  refine lw_arg hC (k := 2) (n := 2) (by omega) rfl dL_law_564 dL_law_565 dL_law_566 dL_law_567 dL_law_568 ?_
  refine z_i2l C dL_law_569 ?_
  refine z_ldc2_w C dL_law_570 q1874 ?_
  refine z_land C dL_law_573 ?_
  refine z_lor C dL_law_574 ?_
  refine lw_arg hC (k := 3) (n := 3) (by omega) rfl dL_law_575 dL_law_576 dL_law_577 dL_law_578 dL_law_579 ?_
  refine z_callSj C (σ' := bm σm σx'.2.2.2.1) (w' := wmOf w B) (L' := zLm) (rest := [.int rv]) (av := (.ref ((wmOf w B).2.2 0) :: [.long (((((xs (6 * t + 1)).toInt64) <<< ((32 : Int32).toInt64 &&& 63)) ||| ((xs (6 * t + 2)).toInt64 &&& (4294967295 : Int64)))), .int (xs (6 * t + 3))])) (zPay.of q1480 q83) (fun H ls hH _ => zInv_V C (As := [.long (((((xs (6 * t + 1)).toInt64) <<< ((32 : Int32).toInt64 &&& 63)) ||| ((xs (6 * t + 2)).toInt64 &&& (4294967295 : Int64)))), .int (xs (6 * t + 3))]) (rest := [.int rv]) (ci := 6) (T := TX6) (N := 24) rfl (zSee.pool (outP_m ly_m0)) hH q1477 q1478 q1479 (Or.inl rfl) q1480 mh_X6 np_X6_feed dL_law_580) (sub_m h.2.2) (tX6_feed l (wmOf w B) em) (Nat.zero_le _) (Nat.zero_le _) (Nat.le_of_ble_eq_true rfl) (Nat.le_of_ble_eq_true rfl) (fun g1 g2 g3 => ⟨out w B σx' σm' (100 * r) (5000 * r), bk_m hS' h2, Nat.le_add_right _ _, Nat.le_add_right _ _, ?_⟩)
  refine z_icmp_eq C 1468 dL_law_583 (by decide) (fun _ => kk _ _ (LI.next hR hS' h.2.2 h2)) (fun q => absurd rfl q)
set_option maxHeartbeats 4000000 in
set_option maxRecDepth 100000 in
theorem lwc_10 {p : Program} {l : Launch} {e : Env} {s : State} {m : MethodId} {args : Array Value} {below : List Frame} {meth : Method} {c : Code} {Q : State → Prop} {w : ZW} {A : Nat → Prop} {b L B : Nat} {xs : Nat → Int32} {t r N : Nat} {σx σm : ZS} (hC : LC p s m args meth c w A b L xs) (ht : 6 * t + 6 ≤ L) (hN : N < 1000) (h : LI w B N σx σm) (kk : ∀ σx' σm', LI w B (N + 1) σx' σm' → Z p l e room_1 s m args below meth c Q w zL0 A 4 (out w B σx' σm' (100 * r) (5000 * r)) 1468 (lvL w B b t) []) : Z p l e room_1 s m args below meth c Q w zL0 A 4 (out w B σx σm (100 * (r + 1)) (5000 * (r + 1))) 588 (lvL w B b t) [] := by
  obtain ⟨C, hX, hbl, hbA, hL⟩ := id hC
  obtain ⟨rv, σx', σm', ex, em, hR, h2⟩ := act_S (m := fun σ => fX6_text σ (xs (6 * t + 1))) (fun S => text_act (p1 := xs (6 * t + 1)) (show 100 ≤ 100 by decide) (show 1000 ≤ 5000 by decide) (h.rr S))
  refine z_aload_n C 1 dL_law_588 rfl rfl ?_
  refine lw_arg hC (k := 1) (n := 1) (by omega) rfl dL_law_589 dL_law_590 dL_law_591 dL_law_592 dL_law_593 ?_
  refine z_callSj C (σ' := bx σx) (w' := wxOf w B) (L' := zLx) (rest := []) (av := (.ref ((wxOf w B).2.2 0) :: [.int (xs (6 * t + 1))])) (zPay.ofW q677 q74) (fun H ls hH _ => zInv_V C (As := [.int (xs (6 * t + 1))]) (rest := []) (ci := 0) (T := TX0) (N := 8) rfl (zSee.pool (outP_x ly_x0)) hH q674 q675 q676 (Or.inr ⟨_, rfl⟩) q677 mh_X0 np_X0_text dL_law_594) (sub_x h.2.1) (tX0_text l (wxOf w B) ex) (by show 100 ≤ 100 * (r + 1); omega) (by show 5000 ≤ 5000 * (r + 1); omega) (Nat.le_of_ble_eq_true rfl) (Nat.le_of_ble_eq_true rfl) (fun f1 f2 f3 => ⟨out w B σx' σm (100 * r) (5000 * r), bk_x h.2.1, (by show 100 * r + 100 ≤ 100 * (r + 1) + _; omega), (by show 5000 * r + 5000 ≤ 5000 * (r + 1) + _; omega), ?_⟩)
  have hS' := h.2.1.next f1 f2 f3
  refine z_aload_n C 2 dL_law_597 rfl rfl ?_
  refine lw_arg hC (k := 1) (n := 1) (by omega) rfl dL_law_598 dL_law_599 dL_law_600 dL_law_601 dL_law_602 ?_
  refine z_callSj C (σ' := bm σm σx'.2.2.2.1) (w' := wmOf w B) (L' := zLm) (rest := [.int rv]) (av := (.ref ((wmOf w B).2.2 0) :: [.int (xs (6 * t + 1))])) (zPay.of q1495 q83) (fun H ls hH _ => zInv_V C (As := [.int (xs (6 * t + 1))]) (rest := [.int rv]) (ci := 6) (T := TX6) (N := 24) rfl (zSee.pool (outP_m ly_m0)) hH q1492 q1493 q1494 (Or.inl rfl) q1495 mh_X6 np_X6_text dL_law_603) (sub_m h.2.2) (tX6_text l (wmOf w B) em) (Nat.zero_le _) (Nat.zero_le _) (Nat.le_of_ble_eq_true rfl) (Nat.le_of_ble_eq_true rfl) (fun g1 g2 g3 => ⟨out w B σx' σm' (100 * r) (5000 * r), bk_m hS' h2, Nat.le_add_right _ _, Nat.le_add_right _ _, ?_⟩)
  refine z_icmp_eq C 1468 dL_law_606 (by decide) (fun _ => kk _ _ (LI.next hR hS' h.2.2 h2)) (fun q => absurd rfl q)
set_option maxHeartbeats 4000000 in
set_option maxRecDepth 100000 in
theorem lwc_11 {p : Program} {l : Launch} {e : Env} {s : State} {m : MethodId} {args : Array Value} {below : List Frame} {meth : Method} {c : Code} {Q : State → Prop} {w : ZW} {A : Nat → Prop} {b L B : Nat} {xs : Nat → Int32} {t r N : Nat} {σx σm : ZS} (hC : LC p s m args meth c w A b L xs) (ht : 6 * t + 6 ≤ L) (hN : N < 1000) (h : LI w B N σx σm) (kk : ∀ σx' σm', LI w B (N + 1) σx' σm' → Z p l e room_1 s m args below meth c Q w zL0 A 4 (out w B σx' σm' (100 * r) (5000 * r)) 1468 (lvL w B b t) []) : Z p l e room_1 s m args below meth c Q w zL0 A 4 (out w B σx σm (100 * (r + 1)) (5000 * (r + 1))) 611 (lvL w B b t) [] := by
  obtain ⟨C, hX, hbl, hbA, hL⟩ := id hC
  obtain ⟨rv, σx', σm', ex, em, hR, h2⟩ := act_S (m := fun σ => fX6_law σ (xs (6 * t + 1)) (xs (6 * t + 2)) (xs (6 * t + 3)) (xs (6 * t + 4))) (fun S => law_act (p1 := xs (6 * t + 1)) (p2 := xs (6 * t + 2)) (p3 := xs (6 * t + 3)) (p4 := xs (6 * t + 4)) (h.rr S))
  refine z_aload_n C 1 dL_law_611 rfl rfl ?_
  refine lw_arg hC (k := 1) (n := 1) (by omega) rfl dL_law_612 dL_law_613 dL_law_614 dL_law_615 dL_law_616 ?_
  refine lw_arg hC (k := 2) (n := 2) (by omega) rfl dL_law_617 dL_law_618 dL_law_619 dL_law_620 dL_law_621 ?_
  refine lw_arg hC (k := 3) (n := 3) (by omega) rfl dL_law_622 dL_law_623 dL_law_624 dL_law_625 dL_law_626 ?_
  refine lw_arg hC (k := 4) (n := 4) (by omega) rfl dL_law_627 dL_law_628 dL_law_629 dL_law_630 dL_law_631 ?_
  refine z_callSj C (σ' := bx σx) (w' := wxOf w B) (L' := zLx) (rest := []) (av := (.ref ((wxOf w B).2.2 0) :: [.int (xs (6 * t + 1)), .int (xs (6 * t + 2)), .int (xs (6 * t + 3)), .int (xs (6 * t + 4))])) (zPay.ofW q908 q74) (fun H ls hH _ => zInv_V C (As := [.int (xs (6 * t + 1)), .int (xs (6 * t + 2)), .int (xs (6 * t + 3)), .int (xs (6 * t + 4))]) (rest := []) (ci := 0) (T := TX0) (N := 8) rfl (zSee.pool (outP_x ly_x0)) hH q905 q906 q907 (Or.inr ⟨_, rfl⟩) q908 mh_X0 np_X0_law dL_law_632) (sub_x h.2.1) (tX0_law l (wxOf w B) ex) (by show 100 ≤ 100 * (r + 1); omega) (by show 5000 ≤ 5000 * (r + 1); omega) (Nat.le_of_ble_eq_true rfl) (Nat.le_of_ble_eq_true rfl) (fun f1 f2 f3 => ⟨out w B σx' σm (100 * r) (5000 * r), bk_x h.2.1, (by show 100 * r + 100 ≤ 100 * (r + 1) + _; omega), (by show 5000 * r + 5000 ≤ 5000 * (r + 1) + _; omega), ?_⟩)
  have hS' := h.2.1.next f1 f2 f3
  refine z_aload_n C 2 dL_law_635 rfl rfl ?_
  refine lw_arg hC (k := 1) (n := 1) (by omega) rfl dL_law_636 dL_law_637 dL_law_638 dL_law_639 dL_law_640 ?_
  refine lw_arg hC (k := 2) (n := 2) (by omega) rfl dL_law_641 dL_law_642 dL_law_643 dL_law_644 dL_law_645 ?_
  refine lw_arg hC (k := 3) (n := 3) (by omega) rfl dL_law_646 dL_law_647 dL_law_648 dL_law_649 dL_law_650 ?_
  refine lw_arg hC (k := 4) (n := 4) (by omega) rfl dL_law_651 dL_law_652 dL_law_653 dL_law_654 dL_law_655 ?_
  refine z_callSj C (σ' := bm σm σx'.2.2.2.1) (w' := wmOf w B) (L' := zLm) (rest := [.int rv]) (av := (.ref ((wmOf w B).2.2 0) :: [.int (xs (6 * t + 1)), .int (xs (6 * t + 2)), .int (xs (6 * t + 3)), .int (xs (6 * t + 4))])) (zPay.of q1560 q83) (fun H ls hH _ => zInv_V C (As := [.int (xs (6 * t + 1)), .int (xs (6 * t + 2)), .int (xs (6 * t + 3)), .int (xs (6 * t + 4))]) (rest := [.int rv]) (ci := 6) (T := TX6) (N := 24) rfl (zSee.pool (outP_m ly_m0)) hH q1557 q1558 q1559 (Or.inl rfl) q1560 mh_X6 np_X6_law dL_law_656) (sub_m h.2.2) (tX6_law l (wmOf w B) em) (Nat.zero_le _) (Nat.zero_le _) (Nat.le_of_ble_eq_true rfl) (Nat.le_of_ble_eq_true rfl) (fun g1 g2 g3 => ⟨out w B σx' σm' (100 * r) (5000 * r), bk_m hS' h2, Nat.le_add_right _ _, Nat.le_add_right _ _, ?_⟩)
  refine z_icmp_eq C 1468 dL_law_659 (by decide) (fun _ => kk _ _ (LI.next hR hS' h.2.2 h2)) (fun q => absurd rfl q)
set_option maxHeartbeats 4000000 in
set_option maxRecDepth 100000 in
theorem lwc_12 {p : Program} {l : Launch} {e : Env} {s : State} {m : MethodId} {args : Array Value} {below : List Frame} {meth : Method} {c : Code} {Q : State → Prop} {w : ZW} {A : Nat → Prop} {b L B : Nat} {xs : Nat → Int32} {t r N : Nat} {σx σm : ZS} (hC : LC p s m args meth c w A b L xs) (ht : 6 * t + 6 ≤ L) (hN : N < 1000) (h : LI w B N σx σm) (kk : ∀ σx' σm', LI w B (N + 1) σx' σm' → Z p l e room_1 s m args below meth c Q w zL0 A 4 (out w B σx' σm' (100 * r) (5000 * r)) 1468 (lvL w B b t) []) : Z p l e room_1 s m args below meth c Q w zL0 A 4 (out w B σx σm (100 * (r + 1)) (5000 * (r + 1))) 664 (lvL w B b t) [] := by
  obtain ⟨C, hX, hbl, hbA, hL⟩ := id hC
  obtain ⟨rv, σx', σm', ex, em, hR, h2⟩ := act_S (m := fun σ => fX6_hours σ (xs (6 * t + 1))) (fun S => hours_act (p1 := xs (6 * t + 1)) (h.rr S))
  refine z_aload_n C 1 dL_law_664 rfl rfl ?_
  refine lw_arg hC (k := 1) (n := 1) (by omega) rfl dL_law_665 dL_law_666 dL_law_667 dL_law_668 dL_law_669 ?_
  refine z_callSj C (σ' := bx σx) (w' := wxOf w B) (L' := zLx) (rest := []) (av := (.ref ((wxOf w B).2.2 0) :: [.int (xs (6 * t + 1))])) (zPay.ofW q917 q74) (fun H ls hH _ => zInv_V C (As := [.int (xs (6 * t + 1))]) (rest := []) (ci := 0) (T := TX0) (N := 8) rfl (zSee.pool (outP_x ly_x0)) hH q914 q915 q916 (Or.inr ⟨_, rfl⟩) q917 mh_X0 np_X0_hours dL_law_670) (sub_x h.2.1) (tX0_hours l (wxOf w B) ex) (by show 100 ≤ 100 * (r + 1); omega) (by show 5000 ≤ 5000 * (r + 1); omega) (Nat.le_of_ble_eq_true rfl) (Nat.le_of_ble_eq_true rfl) (fun f1 f2 f3 => ⟨out w B σx' σm (100 * r) (5000 * r), bk_x h.2.1, (by show 100 * r + 100 ≤ 100 * (r + 1) + _; omega), (by show 5000 * r + 5000 ≤ 5000 * (r + 1) + _; omega), ?_⟩)
  have hS' := h.2.1.next f1 f2 f3
  refine z_aload_n C 2 dL_law_673 rfl rfl ?_
  refine lw_arg hC (k := 1) (n := 1) (by omega) rfl dL_law_674 dL_law_675 dL_law_676 dL_law_677 dL_law_678 ?_
  refine z_callSj C (σ' := bm σm σx'.2.2.2.1) (w' := wmOf w B) (L' := zLm) (rest := [.int rv]) (av := (.ref ((wmOf w B).2.2 0) :: [.int (xs (6 * t + 1))])) (zPay.of q1691 q83) (fun H ls hH _ => zInv_V C (As := [.int (xs (6 * t + 1))]) (rest := [.int rv]) (ci := 6) (T := TX6) (N := 24) rfl (zSee.pool (outP_m ly_m0)) hH q1688 q1689 q1690 (Or.inl rfl) q1691 mh_X6 np_X6_hours dL_law_679) (sub_m h.2.2) (tX6_hours l (wmOf w B) em) (Nat.zero_le _) (Nat.zero_le _) (Nat.le_of_ble_eq_true rfl) (Nat.le_of_ble_eq_true rfl) (fun g1 g2 g3 => ⟨out w B σx' σm' (100 * r) (5000 * r), bk_m hS' h2, Nat.le_add_right _ _, Nat.le_add_right _ _, ?_⟩)
  refine z_icmp_eq C 1468 dL_law_682 (by decide) (fun _ => kk _ _ (LI.next hR hS' h.2.2 h2)) (fun q => absurd rfl q)
set_option maxHeartbeats 4000000 in
set_option maxRecDepth 100000 in
theorem lwc_13 {p : Program} {l : Launch} {e : Env} {s : State} {m : MethodId} {args : Array Value} {below : List Frame} {meth : Method} {c : Code} {Q : State → Prop} {w : ZW} {A : Nat → Prop} {b L B : Nat} {xs : Nat → Int32} {t r N : Nat} {σx σm : ZS} (hC : LC p s m args meth c w A b L xs) (ht : 6 * t + 6 ≤ L) (hN : N < 1000) (h : LI w B N σx σm) (kk : ∀ σx' σm', LI w B (N + 1) σx' σm' → Z p l e room_1 s m args below meth c Q w zL0 A 4 (out w B σx' σm' (100 * r) (5000 * r)) 1468 (lvL w B b t) []) : Z p l e room_1 s m args below meth c Q w zL0 A 4 (out w B σx σm (100 * (r + 1)) (5000 * (r + 1))) 687 (lvL w B b t) [] := by
  obtain ⟨C, hX, hbl, hbA, hL⟩ := id hC
  obtain ⟨rv, σx', σm', ex, em, hR, h2⟩ := act_S (m := fun σ => fX6_loose σ (xs (6 * t + 1))) (fun S => loose_act (p1 := xs (6 * t + 1)) (h.rr S))
  refine z_aload_n C 1 dL_law_687 rfl rfl ?_
  refine lw_arg hC (k := 1) (n := 1) (by omega) rfl dL_law_688 dL_law_689 dL_law_690 dL_law_691 dL_law_692 ?_
  refine z_callSj C (σ' := bx σx) (w' := wxOf w B) (L' := zLx) (rest := []) (av := (.ref ((wxOf w B).2.2 0) :: [.int (xs (6 * t + 1))])) (zPay.ofW q947 q74) (fun H ls hH _ => zInv_V C (As := [.int (xs (6 * t + 1))]) (rest := []) (ci := 0) (T := TX0) (N := 8) rfl (zSee.pool (outP_x ly_x0)) hH q944 q945 q946 (Or.inr ⟨_, rfl⟩) q947 mh_X0 np_X0_loose dL_law_693) (sub_x h.2.1) (tX0_loose l (wxOf w B) ex) (by show 100 ≤ 100 * (r + 1); omega) (by show 5000 ≤ 5000 * (r + 1); omega) (Nat.le_of_ble_eq_true rfl) (Nat.le_of_ble_eq_true rfl) (fun f1 f2 f3 => ⟨out w B σx' σm (100 * r) (5000 * r), bk_x h.2.1, (by show 100 * r + 100 ≤ 100 * (r + 1) + _; omega), (by show 5000 * r + 5000 ≤ 5000 * (r + 1) + _; omega), ?_⟩)
  have hS' := h.2.1.next f1 f2 f3
  refine z_aload_n C 2 dL_law_696 rfl rfl ?_
  refine lw_arg hC (k := 1) (n := 1) (by omega) rfl dL_law_697 dL_law_698 dL_law_699 dL_law_700 dL_law_701 ?_
  refine z_callSj C (σ' := bm σm σx'.2.2.2.1) (w' := wmOf w B) (L' := zLm) (rest := [.int rv]) (av := (.ref ((wmOf w B).2.2 0) :: [.int (xs (6 * t + 1))])) (zPay.of q1714 q83) (fun H ls hH _ => zInv_V C (As := [.int (xs (6 * t + 1))]) (rest := [.int rv]) (ci := 6) (T := TX6) (N := 24) rfl (zSee.pool (outP_m ly_m0)) hH q1711 q1712 q1713 (Or.inl rfl) q1714 mh_X6 np_X6_loose dL_law_702) (sub_m h.2.2) (tX6_loose l (wmOf w B) em) (Nat.zero_le _) (Nat.zero_le _) (Nat.le_of_ble_eq_true rfl) (Nat.le_of_ble_eq_true rfl) (fun g1 g2 g3 => ⟨out w B σx' σm' (100 * r) (5000 * r), bk_m hS' h2, Nat.le_add_right _ _, Nat.le_add_right _ _, ?_⟩)
  refine z_icmp_eq C 1468 dL_law_705 (by decide) (fun _ => kk _ _ (LI.next hR hS' h.2.2 h2)) (fun q => absurd rfl q)
set_option maxHeartbeats 4000000 in
set_option maxRecDepth 100000 in
theorem lwc_14 {p : Program} {l : Launch} {e : Env} {s : State} {m : MethodId} {args : Array Value} {below : List Frame} {meth : Method} {c : Code} {Q : State → Prop} {w : ZW} {A : Nat → Prop} {b L B : Nat} {xs : Nat → Int32} {t r N : Nat} {σx σm : ZS} (hC : LC p s m args meth c w A b L xs) (ht : 6 * t + 6 ≤ L) (hN : N < 1000) (h : LI w B N σx σm) (kk : ∀ σx' σm', LI w B (N + 1) σx' σm' → Z p l e room_1 s m args below meth c Q w zL0 A 4 (out w B σx' σm' (100 * r) (5000 * r)) 1468 (lvL w B b t) []) : Z p l e room_1 s m args below meth c Q w zL0 A 4 (out w B σx σm (100 * (r + 1)) (5000 * (r + 1))) 710 (lvL w B b t) [] := by
  obtain ⟨C, hX, hbl, hbA, hL⟩ := id hC
  obtain ⟨rv, σx', σm', ex, em, hR, h2⟩ := act_S (m := fun σ => fX6_depth σ (xs (6 * t + 1)) (xs (6 * t + 2))) (fun S => depth_act (p1 := xs (6 * t + 1)) (p2 := xs (6 * t + 2)) (h.rr S))
  refine z_aload_n C 1 dL_law_710 rfl rfl ?_
  refine lw_arg hC (k := 1) (n := 1) (by omega) rfl dL_law_711 dL_law_712 dL_law_713 dL_law_714 dL_law_715 ?_
  refine lw_arg hC (k := 2) (n := 2) (by omega) rfl dL_law_716 dL_law_717 dL_law_718 dL_law_719 dL_law_720 ?_
  refine z_callSj C (σ' := bx σx) (w' := wxOf w B) (L' := zLx) (rest := []) (av := (.ref ((wxOf w B).2.2 0) :: [.int (xs (6 * t + 1)), .int (xs (6 * t + 2))])) (zPay.ofW q960 q74) (fun H ls hH _ => zInv_V C (As := [.int (xs (6 * t + 1)), .int (xs (6 * t + 2))]) (rest := []) (ci := 0) (T := TX0) (N := 8) rfl (zSee.pool (outP_x ly_x0)) hH q957 q958 q959 (Or.inr ⟨_, rfl⟩) q960 mh_X0 np_X0_depth dL_law_721) (sub_x h.2.1) (tX0_depth l (wxOf w B) ex) (by show 100 ≤ 100 * (r + 1); omega) (by show 5000 ≤ 5000 * (r + 1); omega) (Nat.le_of_ble_eq_true rfl) (Nat.le_of_ble_eq_true rfl) (fun f1 f2 f3 => ⟨out w B σx' σm (100 * r) (5000 * r), bk_x h.2.1, (by show 100 * r + 100 ≤ 100 * (r + 1) + _; omega), (by show 5000 * r + 5000 ≤ 5000 * (r + 1) + _; omega), ?_⟩)
  have hS' := h.2.1.next f1 f2 f3
  refine z_aload_n C 2 dL_law_724 rfl rfl ?_
  refine lw_arg hC (k := 1) (n := 1) (by omega) rfl dL_law_725 dL_law_726 dL_law_727 dL_law_728 dL_law_729 ?_
  refine lw_arg hC (k := 2) (n := 2) (by omega) rfl dL_law_730 dL_law_731 dL_law_732 dL_law_733 dL_law_734 ?_
  refine z_callSj C (σ' := bm σm σx'.2.2.2.1) (w' := wmOf w B) (L' := zLm) (rest := [.int rv]) (av := (.ref ((wmOf w B).2.2 0) :: [.int (xs (6 * t + 1)), .int (xs (6 * t + 2))])) (zPay.of q1642 q83) (fun H ls hH _ => zInv_V C (As := [.int (xs (6 * t + 1)), .int (xs (6 * t + 2))]) (rest := [.int rv]) (ci := 6) (T := TX6) (N := 24) rfl (zSee.pool (outP_m ly_m0)) hH q1639 q1640 q1641 (Or.inl rfl) q1642 mh_X6 np_X6_depth dL_law_735) (sub_m h.2.2) (tX6_depth l (wmOf w B) em) (Nat.zero_le _) (Nat.zero_le _) (Nat.le_of_ble_eq_true rfl) (Nat.le_of_ble_eq_true rfl) (fun g1 g2 g3 => ⟨out w B σx' σm' (100 * r) (5000 * r), bk_m hS' h2, Nat.le_add_right _ _, Nat.le_add_right _ _, ?_⟩)
  refine z_icmp_eq C 1468 dL_law_738 (by decide) (fun _ => kk _ _ (LI.next hR hS' h.2.2 h2)) (fun q => absurd rfl q)
set_option maxHeartbeats 4000000 in
set_option maxRecDepth 100000 in
theorem lwc_15 {p : Program} {l : Launch} {e : Env} {s : State} {m : MethodId} {args : Array Value} {below : List Frame} {meth : Method} {c : Code} {Q : State → Prop} {w : ZW} {A : Nat → Prop} {b L B : Nat} {xs : Nat → Int32} {t r N : Nat} {σx σm : ZS} (hC : LC p s m args meth c w A b L xs) (ht : 6 * t + 6 ≤ L) (hN : N < 1000) (h : LI w B N σx σm) (kk : ∀ σx' σm', LI w B (N + 1) σx' σm' → Z p l e room_1 s m args below meth c Q w zL0 A 4 (out w B σx' σm' (100 * r) (5000 * r)) 1468 (lvL w B b t) []) : Z p l e room_1 s m args below meth c Q w zL0 A 4 (out w B σx σm (100 * (r + 1)) (5000 * (r + 1))) 743 (lvL w B b t) [] := by
  obtain ⟨C, hX, hbl, hbA, hL⟩ := id hC
  obtain ⟨rv, σx', σm', ex, em, hR, h2⟩ := act_S (m := fun σ => fX6_then σ (xs (6 * t + 1)) (xs (6 * t + 2)) (xs (6 * t + 3))) (fun S => then_act (p1 := xs (6 * t + 1)) (p2 := xs (6 * t + 2)) (p3 := xs (6 * t + 3)) (h.rr S))
  refine z_aload_n C 1 dL_law_743 rfl rfl ?_
  refine lw_arg hC (k := 1) (n := 1) (by omega) rfl dL_law_744 dL_law_745 dL_law_746 dL_law_747 dL_law_748 ?_
  refine lw_arg hC (k := 2) (n := 2) (by omega) rfl dL_law_749 dL_law_750 dL_law_751 dL_law_752 dL_law_753 ?_
  refine lw_arg hC (k := 3) (n := 3) (by omega) rfl dL_law_754 dL_law_755 dL_law_756 dL_law_757 dL_law_758 ?_
  refine z_callSj C (σ' := bx σx) (w' := wxOf w B) (L' := zLx) (rest := []) (av := (.ref ((wxOf w B).2.2 0) :: [.int (xs (6 * t + 1)), .int (xs (6 * t + 2)), .int (xs (6 * t + 3))])) (zPay.ofW q965 q74) (fun H ls hH _ => zInv_V C (As := [.int (xs (6 * t + 1)), .int (xs (6 * t + 2)), .int (xs (6 * t + 3))]) (rest := []) (ci := 0) (T := TX0) (N := 8) rfl (zSee.pool (outP_x ly_x0)) hH q962 q963 q964 (Or.inr ⟨_, rfl⟩) q965 mh_X0 np_X0_then dL_law_759) (sub_x h.2.1) (tX0_then l (wxOf w B) ex) (by show 100 ≤ 100 * (r + 1); omega) (by show 5000 ≤ 5000 * (r + 1); omega) (Nat.le_of_ble_eq_true rfl) (Nat.le_of_ble_eq_true rfl) (fun f1 f2 f3 => ⟨out w B σx' σm (100 * r) (5000 * r), bk_x h.2.1, (by show 100 * r + 100 ≤ 100 * (r + 1) + _; omega), (by show 5000 * r + 5000 ≤ 5000 * (r + 1) + _; omega), ?_⟩)
  have hS' := h.2.1.next f1 f2 f3
  refine z_aload_n C 2 dL_law_762 rfl rfl ?_
  refine lw_arg hC (k := 1) (n := 1) (by omega) rfl dL_law_763 dL_law_764 dL_law_765 dL_law_766 dL_law_767 ?_
  refine lw_arg hC (k := 2) (n := 2) (by omega) rfl dL_law_768 dL_law_769 dL_law_770 dL_law_771 dL_law_772 ?_
  refine lw_arg hC (k := 3) (n := 3) (by omega) rfl dL_law_773 dL_law_774 dL_law_775 dL_law_776 dL_law_777 ?_
  refine z_callSj C (σ' := bm σm σx'.2.2.2.1) (w' := wmOf w B) (L' := zLm) (rest := [.int rv]) (av := (.ref ((wmOf w B).2.2 0) :: [.int (xs (6 * t + 1)), .int (xs (6 * t + 2)), .int (xs (6 * t + 3))])) (zPay.of q1723 q83) (fun H ls hH _ => zInv_V C (As := [.int (xs (6 * t + 1)), .int (xs (6 * t + 2)), .int (xs (6 * t + 3))]) (rest := [.int rv]) (ci := 6) (T := TX6) (N := 24) rfl (zSee.pool (outP_m ly_m0)) hH q1720 q1721 q1722 (Or.inl rfl) q1723 mh_X6 np_X6_then dL_law_778) (sub_m h.2.2) (tX6_then l (wmOf w B) em) (Nat.zero_le _) (Nat.zero_le _) (Nat.le_of_ble_eq_true rfl) (Nat.le_of_ble_eq_true rfl) (fun g1 g2 g3 => ⟨out w B σx' σm' (100 * r) (5000 * r), bk_m hS' h2, Nat.le_add_right _ _, Nat.le_add_right _ _, ?_⟩)
  refine z_icmp_eq C 1468 dL_law_781 (by decide) (fun _ => kk _ _ (LI.next hR hS' h.2.2 h2)) (fun q => absurd rfl q)
set_option maxHeartbeats 4000000 in
set_option maxRecDepth 100000 in
theorem lwc_16 {p : Program} {l : Launch} {e : Env} {s : State} {m : MethodId} {args : Array Value} {below : List Frame} {meth : Method} {c : Code} {Q : State → Prop} {w : ZW} {A : Nat → Prop} {b L B : Nat} {xs : Nat → Int32} {t r N : Nat} {σx σm : ZS} (hC : LC p s m args meth c w A b L xs) (ht : 6 * t + 6 ≤ L) (hN : N < 1000) (h : LI w B N σx σm) (kk : ∀ σx' σm', LI w B (N + 1) σx' σm' → Z p l e room_1 s m args below meth c Q w zL0 A 4 (out w B σx' σm' (100 * r) (5000 * r)) 1468 (lvL w B b t) []) : Z p l e room_1 s m args below meth c Q w zL0 A 4 (out w B σx σm (100 * (r + 1)) (5000 * (r + 1))) 786 (lvL w B b t) [] := by
  obtain ⟨C, hX, hbl, hbA, hL⟩ := id hC
  obtain ⟨rv, σx', σm', ex, em, hR, h2⟩ := act_S (m := fun σ => fX6_lost σ (xs (6 * t + 1))) (fun S => lost_act (p1 := xs (6 * t + 1)) (h.rr S))
  refine z_aload_n C 1 dL_law_786 rfl rfl ?_
  refine lw_arg hC (k := 1) (n := 1) (by omega) rfl dL_law_787 dL_law_788 dL_law_789 dL_law_790 dL_law_791 ?_
  refine z_callSj C (σ' := bx σx) (w' := wxOf w B) (L' := zLx) (rest := []) (av := (.ref ((wxOf w B).2.2 0) :: [.int (xs (6 * t + 1))])) (zPay.ofW q979 q74) (fun H ls hH _ => zInv_V C (As := [.int (xs (6 * t + 1))]) (rest := []) (ci := 0) (T := TX0) (N := 8) rfl (zSee.pool (outP_x ly_x0)) hH q976 q977 q978 (Or.inr ⟨_, rfl⟩) q979 mh_X0 np_X0_lost dL_law_792) (sub_x h.2.1) (tX0_lost l (wxOf w B) ex) (by show 100 ≤ 100 * (r + 1); omega) (by show 5000 ≤ 5000 * (r + 1); omega) (Nat.le_of_ble_eq_true rfl) (Nat.le_of_ble_eq_true rfl) (fun f1 f2 f3 => ⟨out w B σx' σm (100 * r) (5000 * r), bk_x h.2.1, (by show 100 * r + 100 ≤ 100 * (r + 1) + _; omega), (by show 5000 * r + 5000 ≤ 5000 * (r + 1) + _; omega), ?_⟩)
  have hS' := h.2.1.next f1 f2 f3
  refine z_aload_n C 2 dL_law_795 rfl rfl ?_
  refine lw_arg hC (k := 1) (n := 1) (by omega) rfl dL_law_796 dL_law_797 dL_law_798 dL_law_799 dL_law_800 ?_
  refine z_callSj C (σ' := bm σm σx'.2.2.2.1) (w' := wmOf w B) (L' := zLm) (rest := [.int rv]) (av := (.ref ((wmOf w B).2.2 0) :: [.int (xs (6 * t + 1))])) (zPay.of q1737 q83) (fun H ls hH _ => zInv_V C (As := [.int (xs (6 * t + 1))]) (rest := [.int rv]) (ci := 6) (T := TX6) (N := 24) rfl (zSee.pool (outP_m ly_m0)) hH q1734 q1735 q1736 (Or.inl rfl) q1737 mh_X6 np_X6_lost dL_law_801) (sub_m h.2.2) (tX6_lost l (wmOf w B) em) (Nat.zero_le _) (Nat.zero_le _) (Nat.le_of_ble_eq_true rfl) (Nat.le_of_ble_eq_true rfl) (fun g1 g2 g3 => ⟨out w B σx' σm' (100 * r) (5000 * r), bk_m hS' h2, Nat.le_add_right _ _, Nat.le_add_right _ _, ?_⟩)
  refine z_icmp_eq C 1468 dL_law_804 (by decide) (fun _ => kk _ _ (LI.next hR hS' h.2.2 h2)) (fun q => absurd rfl q)
set_option maxHeartbeats 4000000 in
set_option maxRecDepth 100000 in
theorem lwc_17 {p : Program} {l : Launch} {e : Env} {s : State} {m : MethodId} {args : Array Value} {below : List Frame} {meth : Method} {c : Code} {Q : State → Prop} {w : ZW} {A : Nat → Prop} {b L B : Nat} {xs : Nat → Int32} {t r N : Nat} {σx σm : ZS} (hC : LC p s m args meth c w A b L xs) (ht : 6 * t + 6 ≤ L) (hN : N < 1000) (h : LI w B N σx σm) (kk : ∀ σx' σm', LI w B (N + 1) σx' σm' → Z p l e room_1 s m args below meth c Q w zL0 A 4 (out w B σx' σm' (100 * r) (5000 * r)) 1468 (lvL w B b t) []) : Z p l e room_1 s m args below meth c Q w zL0 A 4 (out w B σx σm (100 * (r + 1)) (5000 * (r + 1))) 809 (lvL w B b t) [] := by
  obtain ⟨C, hX, hbl, hbA, hL⟩ := id hC
  obtain ⟨rv, σx', σm', ex, em, hR, h2⟩ := act_S (m := fun σ => fX6_setting σ (xs (6 * t + 1)) (xs (6 * t + 2))) (fun S => setting_act (p1 := xs (6 * t + 1)) (p2 := xs (6 * t + 2)) (h.rr S))
  refine z_aload_n C 1 dL_law_809 rfl rfl ?_
  refine lw_arg hC (k := 1) (n := 1) (by omega) rfl dL_law_810 dL_law_811 dL_law_812 dL_law_813 dL_law_814 ?_
  refine lw_arg hC (k := 2) (n := 2) (by omega) rfl dL_law_815 dL_law_816 dL_law_817 dL_law_818 dL_law_819 ?_
  refine z_callSj C (σ' := bx σx) (w' := wxOf w B) (L' := zLx) (rest := []) (av := (.ref ((wxOf w B).2.2 0) :: [.int (xs (6 * t + 1)), .int (xs (6 * t + 2))])) (zPay.ofW q992 q74) (fun H ls hH _ => zInv_V C (As := [.int (xs (6 * t + 1)), .int (xs (6 * t + 2))]) (rest := []) (ci := 0) (T := TX0) (N := 8) rfl (zSee.pool (outP_x ly_x0)) hH q989 q990 q991 (Or.inr ⟨_, rfl⟩) q992 mh_X0 np_X0_setting dL_law_820) (sub_x h.2.1) (tX0_setting l (wxOf w B) ex) (by show 100 ≤ 100 * (r + 1); omega) (by show 5000 ≤ 5000 * (r + 1); omega) (Nat.le_of_ble_eq_true rfl) (Nat.le_of_ble_eq_true rfl) (fun f1 f2 f3 => ⟨out w B σx' σm (100 * r) (5000 * r), bk_x h.2.1, (by show 100 * r + 100 ≤ 100 * (r + 1) + _; omega), (by show 5000 * r + 5000 ≤ 5000 * (r + 1) + _; omega), ?_⟩)
  have hS' := h.2.1.next f1 f2 f3
  refine z_aload_n C 2 dL_law_823 rfl rfl ?_
  refine lw_arg hC (k := 1) (n := 1) (by omega) rfl dL_law_824 dL_law_825 dL_law_826 dL_law_827 dL_law_828 ?_
  refine lw_arg hC (k := 2) (n := 2) (by omega) rfl dL_law_829 dL_law_830 dL_law_831 dL_law_832 dL_law_833 ?_
  refine z_callSj C (σ' := bm σm σx'.2.2.2.1) (w' := wmOf w B) (L' := zLm) (rest := [.int rv]) (av := (.ref ((wmOf w B).2.2 0) :: [.int (xs (6 * t + 1)), .int (xs (6 * t + 2))])) (zPay.of q1746 q83) (fun H ls hH _ => zInv_V C (As := [.int (xs (6 * t + 1)), .int (xs (6 * t + 2))]) (rest := [.int rv]) (ci := 6) (T := TX6) (N := 24) rfl (zSee.pool (outP_m ly_m0)) hH q1743 q1744 q1745 (Or.inl rfl) q1746 mh_X6 np_X6_setting dL_law_834) (sub_m h.2.2) (tX6_setting l (wmOf w B) em) (Nat.zero_le _) (Nat.zero_le _) (Nat.le_of_ble_eq_true rfl) (Nat.le_of_ble_eq_true rfl) (fun g1 g2 g3 => ⟨out w B σx' σm' (100 * r) (5000 * r), bk_m hS' h2, Nat.le_add_right _ _, Nat.le_add_right _ _, ?_⟩)
  refine z_icmp_eq C 1468 dL_law_837 (by decide) (fun _ => kk _ _ (LI.next hR hS' h.2.2 h2)) (fun q => absurd rfl q)
set_option maxHeartbeats 4000000 in
set_option maxRecDepth 100000 in
theorem lwc_18 {p : Program} {l : Launch} {e : Env} {s : State} {m : MethodId} {args : Array Value} {below : List Frame} {meth : Method} {c : Code} {Q : State → Prop} {w : ZW} {A : Nat → Prop} {b L B : Nat} {xs : Nat → Int32} {t r N : Nat} {σx σm : ZS} (hC : LC p s m args meth c w A b L xs) (ht : 6 * t + 6 ≤ L) (hN : N < 1000) (h : LI w B N σx σm) (kk : ∀ σx' σm', LI w B (N + 1) σx' σm' → Z p l e room_1 s m args below meth c Q w zL0 A 4 (out w B σx' σm' (100 * r) (5000 * r)) 1468 (lvL w B b t) []) : Z p l e room_1 s m args below meth c Q w zL0 A 4 (out w B σx σm (100 * (r + 1)) (5000 * (r + 1))) 842 (lvL w B b t) [] := by
  obtain ⟨C, hX, hbl, hbA, hL⟩ := id hC
  obtain ⟨rv, σx', σm', ex, em, hR, h2⟩ := act_S (m := fun σ => fX6_leastFalse σ (xs (6 * t + 1))) (fun S => leastFalse_act (p1 := xs (6 * t + 1)) (h.rr S))
  refine z_aload_n C 1 dL_law_842 rfl rfl ?_
  refine lw_arg hC (k := 1) (n := 1) (by omega) rfl dL_law_843 dL_law_844 dL_law_845 dL_law_846 dL_law_847 ?_
  refine z_callSj C (σ' := bx σx) (w' := wxOf w B) (L' := zLx) (rest := []) (av := (.ref ((wxOf w B).2.2 0) :: [.int (xs (6 * t + 1))])) (zPay.ofW q1000 q74) (fun H ls hH _ => zInv_V C (As := [.int (xs (6 * t + 1))]) (rest := []) (ci := 0) (T := TX0) (N := 8) rfl (zSee.pool (outP_x ly_x0)) hH q997 q998 q999 (Or.inr ⟨_, rfl⟩) q1000 mh_X0 np_X0_leastFalse dL_law_848) (sub_x h.2.1) (tX0_leastFalse l (wxOf w B) ex) (by show 100 ≤ 100 * (r + 1); omega) (by show 5000 ≤ 5000 * (r + 1); omega) (Nat.le_of_ble_eq_true rfl) (Nat.le_of_ble_eq_true rfl) (fun f1 f2 f3 => ⟨out w B σx' σm (100 * r) (5000 * r), bk_x h.2.1, (by show 100 * r + 100 ≤ 100 * (r + 1) + _; omega), (by show 5000 * r + 5000 ≤ 5000 * (r + 1) + _; omega), ?_⟩)
  have hS' := h.2.1.next f1 f2 f3
  refine z_aload_n C 2 dL_law_851 rfl rfl ?_
  refine lw_arg hC (k := 1) (n := 1) (by omega) rfl dL_law_852 dL_law_853 dL_law_854 dL_law_855 dL_law_856 ?_
  refine z_callSj C (σ' := bm σm σx'.2.2.2.1) (w' := wmOf w B) (L' := zLm) (rest := [.int rv]) (av := (.ref ((wmOf w B).2.2 0) :: [.int (xs (6 * t + 1))])) (zPay.of q1754 q83) (fun H ls hH _ => zInv_V C (As := [.int (xs (6 * t + 1))]) (rest := [.int rv]) (ci := 6) (T := TX6) (N := 24) rfl (zSee.pool (outP_m ly_m0)) hH q1751 q1752 q1753 (Or.inl rfl) q1754 mh_X6 np_X6_leastFalse dL_law_857) (sub_m h.2.2) (tX6_leastFalse l (wmOf w B) em) (Nat.zero_le _) (Nat.zero_le _) (Nat.le_of_ble_eq_true rfl) (Nat.le_of_ble_eq_true rfl) (fun g1 g2 g3 => ⟨out w B σx' σm' (100 * r) (5000 * r), bk_m hS' h2, Nat.le_add_right _ _, Nat.le_add_right _ _, ?_⟩)
  refine z_icmp_eq C 1468 dL_law_860 (by decide) (fun _ => kk _ _ (LI.next hR hS' h.2.2 h2)) (fun q => absurd rfl q)
set_option maxHeartbeats 4000000 in
set_option maxRecDepth 100000 in
theorem lwc_19 {p : Program} {l : Launch} {e : Env} {s : State} {m : MethodId} {args : Array Value} {below : List Frame} {meth : Method} {c : Code} {Q : State → Prop} {w : ZW} {A : Nat → Prop} {b L B : Nat} {xs : Nat → Int32} {t r N : Nat} {σx σm : ZS} (hC : LC p s m args meth c w A b L xs) (ht : 6 * t + 6 ≤ L) (hN : N < 1000) (h : LI w B N σx σm) (kk : ∀ σx' σm', LI w B (N + 1) σx' σm' → Z p l e room_1 s m args below meth c Q w zL0 A 4 (out w B σx' σm' (100 * r) (5000 * r)) 1468 (lvL w B b t) []) : Z p l e room_1 s m args below meth c Q w zL0 A 4 (out w B σx σm (100 * (r + 1)) (5000 * (r + 1))) 865 (lvL w B b t) [] := by
  obtain ⟨C, hX, hbl, hbA, hL⟩ := id hC
  obtain ⟨rv, σx', σm', ex, em, hR, h2⟩ := act_S (m := fun σ => fX6_which σ (xs (6 * t + 1)) (xs (6 * t + 2))) (fun S => which_act (p1 := xs (6 * t + 1)) (p2 := xs (6 * t + 2)) (h.rr S))
  refine z_aload_n C 1 dL_law_865 rfl rfl ?_
  refine lw_arg hC (k := 1) (n := 1) (by omega) rfl dL_law_866 dL_law_867 dL_law_868 dL_law_869 dL_law_870 ?_
  refine lw_arg hC (k := 2) (n := 2) (by omega) rfl dL_law_871 dL_law_872 dL_law_873 dL_law_874 dL_law_875 ?_
  refine z_callSj C (σ' := bx σx) (w' := wxOf w B) (L' := zLx) (rest := []) (av := (.ref ((wxOf w B).2.2 0) :: [.int (xs (6 * t + 1)), .int (xs (6 * t + 2))])) (zPay.ofW q1005 q74) (fun H ls hH _ => zInv_V C (As := [.int (xs (6 * t + 1)), .int (xs (6 * t + 2))]) (rest := []) (ci := 0) (T := TX0) (N := 8) rfl (zSee.pool (outP_x ly_x0)) hH q1002 q1003 q1004 (Or.inr ⟨_, rfl⟩) q1005 mh_X0 np_X0_which dL_law_876) (sub_x h.2.1) (tX0_which l (wxOf w B) ex) (by show 100 ≤ 100 * (r + 1); omega) (by show 5000 ≤ 5000 * (r + 1); omega) (Nat.le_of_ble_eq_true rfl) (Nat.le_of_ble_eq_true rfl) (fun f1 f2 f3 => ⟨out w B σx' σm (100 * r) (5000 * r), bk_x h.2.1, (by show 100 * r + 100 ≤ 100 * (r + 1) + _; omega), (by show 5000 * r + 5000 ≤ 5000 * (r + 1) + _; omega), ?_⟩)
  have hS' := h.2.1.next f1 f2 f3
  refine z_aload_n C 2 dL_law_879 rfl rfl ?_
  refine lw_arg hC (k := 1) (n := 1) (by omega) rfl dL_law_880 dL_law_881 dL_law_882 dL_law_883 dL_law_884 ?_
  refine lw_arg hC (k := 2) (n := 2) (by omega) rfl dL_law_885 dL_law_886 dL_law_887 dL_law_888 dL_law_889 ?_
  refine z_callSj C (σ' := bm σm σx'.2.2.2.1) (w' := wmOf w B) (L' := zLm) (rest := [.int rv]) (av := (.ref ((wmOf w B).2.2 0) :: [.int (xs (6 * t + 1)), .int (xs (6 * t + 2))])) (zPay.of q1762 q83) (fun H ls hH _ => zInv_V C (As := [.int (xs (6 * t + 1)), .int (xs (6 * t + 2))]) (rest := [.int rv]) (ci := 6) (T := TX6) (N := 24) rfl (zSee.pool (outP_m ly_m0)) hH q1759 q1760 q1761 (Or.inl rfl) q1762 mh_X6 np_X6_which dL_law_890) (sub_m h.2.2) (tX6_which l (wmOf w B) em) (Nat.zero_le _) (Nat.zero_le _) (Nat.le_of_ble_eq_true rfl) (Nat.le_of_ble_eq_true rfl) (fun g1 g2 g3 => ⟨out w B σx' σm' (100 * r) (5000 * r), bk_m hS' h2, Nat.le_add_right _ _, Nat.le_add_right _ _, ?_⟩)
  refine z_icmp_eq C 1468 dL_law_893 (by decide) (fun _ => kk _ _ (LI.next hR hS' h.2.2 h2)) (fun q => absurd rfl q)
set_option maxHeartbeats 4000000 in
set_option maxRecDepth 100000 in
theorem lwc_20 {p : Program} {l : Launch} {e : Env} {s : State} {m : MethodId} {args : Array Value} {below : List Frame} {meth : Method} {c : Code} {Q : State → Prop} {w : ZW} {A : Nat → Prop} {b L B : Nat} {xs : Nat → Int32} {t r N : Nat} {σx σm : ZS} (hC : LC p s m args meth c w A b L xs) (ht : 6 * t + 6 ≤ L) (hN : N < 1000) (h : LI w B N σx σm) (kk : ∀ σx' σm', LI w B (N + 1) σx' σm' → Z p l e room_1 s m args below meth c Q w zL0 A 4 (out w B σx' σm' (100 * r) (5000 * r)) 1468 (lvL w B b t) []) : Z p l e room_1 s m args below meth c Q w zL0 A 4 (out w B σx σm (100 * (r + 1)) (5000 * (r + 1))) 898 (lvL w B b t) [] := by
  obtain ⟨C, hX, hbl, hbA, hL⟩ := id hC
  obtain ⟨rv, σx', σm', ex, em, hR, h2⟩ := act_S (m := fun σ => fX6_struck σ (xs (6 * t + 1))) (fun S => struck_act (p1 := xs (6 * t + 1)) (h.rr S))
  refine z_aload_n C 1 dL_law_898 rfl rfl ?_
  refine lw_arg hC (k := 1) (n := 1) (by omega) rfl dL_law_899 dL_law_900 dL_law_901 dL_law_902 dL_law_903 ?_
  refine z_callSj C (σ' := bx σx) (w' := wxOf w B) (L' := zLx) (rest := []) (av := (.ref ((wxOf w B).2.2 0) :: [.int (xs (6 * t + 1))])) (zPay.ofW q1045 q74) (fun H ls hH _ => zInv_V C (As := [.int (xs (6 * t + 1))]) (rest := []) (ci := 0) (T := TX0) (N := 8) rfl (zSee.pool (outP_x ly_x0)) hH q1042 q1043 q1044 (Or.inr ⟨_, rfl⟩) q1045 mh_X0 np_X0_struck dL_law_904) (sub_x h.2.1) (tX0_struck l (wxOf w B) ex) (by show 100 ≤ 100 * (r + 1); omega) (by show 5000 ≤ 5000 * (r + 1); omega) (Nat.le_of_ble_eq_true rfl) (Nat.le_of_ble_eq_true rfl) (fun f1 f2 f3 => ⟨out w B σx' σm (100 * r) (5000 * r), bk_x h.2.1, (by show 100 * r + 100 ≤ 100 * (r + 1) + _; omega), (by show 5000 * r + 5000 ≤ 5000 * (r + 1) + _; omega), ?_⟩)
  have hS' := h.2.1.next f1 f2 f3
  refine z_aload_n C 2 dL_law_907 rfl rfl ?_
  refine lw_arg hC (k := 1) (n := 1) (by omega) rfl dL_law_908 dL_law_909 dL_law_910 dL_law_911 dL_law_912 ?_
  refine z_callSj C (σ' := bm σm σx'.2.2.2.1) (w' := wmOf w B) (L' := zLm) (rest := [.int rv]) (av := (.ref ((wmOf w B).2.2 0) :: [.int (xs (6 * t + 1))])) (zPay.of q1773 q83) (fun H ls hH _ => zInv_V C (As := [.int (xs (6 * t + 1))]) (rest := [.int rv]) (ci := 6) (T := TX6) (N := 24) rfl (zSee.pool (outP_m ly_m0)) hH q1770 q1771 q1772 (Or.inl rfl) q1773 mh_X6 np_X6_struck dL_law_913) (sub_m h.2.2) (tX6_struck l (wmOf w B) em) (Nat.zero_le _) (Nat.zero_le _) (Nat.le_of_ble_eq_true rfl) (Nat.le_of_ble_eq_true rfl) (fun g1 g2 g3 => ⟨out w B σx' σm' (100 * r) (5000 * r), bk_m hS' h2, Nat.le_add_right _ _, Nat.le_add_right _ _, ?_⟩)
  refine z_icmp_eq C 1468 dL_law_916 (by decide) (fun _ => kk _ _ (LI.next hR hS' h.2.2 h2)) (fun q => absurd rfl q)
set_option maxHeartbeats 4000000 in
set_option maxRecDepth 100000 in
theorem lwc_21 {p : Program} {l : Launch} {e : Env} {s : State} {m : MethodId} {args : Array Value} {below : List Frame} {meth : Method} {c : Code} {Q : State → Prop} {w : ZW} {A : Nat → Prop} {b L B : Nat} {xs : Nat → Int32} {t r N : Nat} {σx σm : ZS} (hC : LC p s m args meth c w A b L xs) (ht : 6 * t + 6 ≤ L) (hN : N < 1000) (h : LI w B N σx σm) (kk : ∀ σx' σm', LI w B (N + 1) σx' σm' → Z p l e room_1 s m args below meth c Q w zL0 A 4 (out w B σx' σm' (100 * r) (5000 * r)) 1468 (lvL w B b t) []) : Z p l e room_1 s m args below meth c Q w zL0 A 4 (out w B σx σm (100 * (r + 1)) (5000 * (r + 1))) 921 (lvL w B b t) [] := by
  obtain ⟨C, hX, hbl, hbA, hL⟩ := id hC
  obtain ⟨rv, σx', σm', ex, em, hR, h2⟩ := act_S (m := fun σ => fX6_dark σ (xs (6 * t + 1))) (fun S => dark_act (p1 := xs (6 * t + 1)) (h.rr S))
  refine z_aload_n C 1 dL_law_921 rfl rfl ?_
  refine lw_arg hC (k := 1) (n := 1) (by omega) rfl dL_law_922 dL_law_923 dL_law_924 dL_law_925 dL_law_926 ?_
  refine z_callSj C (σ' := bx σx) (w' := wxOf w B) (L' := zLx) (rest := []) (av := (.ref ((wxOf w B).2.2 0) :: [.int (xs (6 * t + 1))])) (zPay.ofW q1049 q74) (fun H ls hH _ => zInv_V C (As := [.int (xs (6 * t + 1))]) (rest := []) (ci := 0) (T := TX0) (N := 8) rfl (zSee.pool (outP_x ly_x0)) hH q1046 q1047 q1048 (Or.inr ⟨_, rfl⟩) q1049 mh_X0 np_X0_dark dL_law_927) (sub_x h.2.1) (tX0_dark l (wxOf w B) ex) (by show 100 ≤ 100 * (r + 1); omega) (by show 5000 ≤ 5000 * (r + 1); omega) (Nat.le_of_ble_eq_true rfl) (Nat.le_of_ble_eq_true rfl) (fun f1 f2 f3 => ⟨out w B σx' σm (100 * r) (5000 * r), bk_x h.2.1, (by show 100 * r + 100 ≤ 100 * (r + 1) + _; omega), (by show 5000 * r + 5000 ≤ 5000 * (r + 1) + _; omega), ?_⟩)
  have hS' := h.2.1.next f1 f2 f3
  refine z_aload_n C 2 dL_law_930 rfl rfl ?_
  refine lw_arg hC (k := 1) (n := 1) (by omega) rfl dL_law_931 dL_law_932 dL_law_933 dL_law_934 dL_law_935 ?_
  refine z_callSj C (σ' := bm σm σx'.2.2.2.1) (w' := wmOf w B) (L' := zLm) (rest := [.int rv]) (av := (.ref ((wmOf w B).2.2 0) :: [.int (xs (6 * t + 1))])) (zPay.of q1777 q83) (fun H ls hH _ => zInv_V C (As := [.int (xs (6 * t + 1))]) (rest := [.int rv]) (ci := 6) (T := TX6) (N := 24) rfl (zSee.pool (outP_m ly_m0)) hH q1774 q1775 q1776 (Or.inl rfl) q1777 mh_X6 np_X6_dark dL_law_936) (sub_m h.2.2) (tX6_dark l (wmOf w B) em) (Nat.zero_le _) (Nat.zero_le _) (Nat.le_of_ble_eq_true rfl) (Nat.le_of_ble_eq_true rfl) (fun g1 g2 g3 => ⟨out w B σx' σm' (100 * r) (5000 * r), bk_m hS' h2, Nat.le_add_right _ _, Nat.le_add_right _ _, ?_⟩)
  refine z_icmp_eq C 1468 dL_law_939 (by decide) (fun _ => kk _ _ (LI.next hR hS' h.2.2 h2)) (fun q => absurd rfl q)
set_option maxHeartbeats 4000000 in
set_option maxRecDepth 100000 in
theorem lwc_22 {p : Program} {l : Launch} {e : Env} {s : State} {m : MethodId} {args : Array Value} {below : List Frame} {meth : Method} {c : Code} {Q : State → Prop} {w : ZW} {A : Nat → Prop} {b L B : Nat} {xs : Nat → Int32} {t r N : Nat} {σx σm : ZS} (hC : LC p s m args meth c w A b L xs) (ht : 6 * t + 6 ≤ L) (hN : N < 1000) (h : LI w B N σx σm) (kk : ∀ σx' σm', LI w B (N + 1) σx' σm' → Z p l e room_1 s m args below meth c Q w zL0 A 4 (out w B σx' σm' (100 * r) (5000 * r)) 1468 (lvL w B b t) []) : Z p l e room_1 s m args below meth c Q w zL0 A 4 (out w B σx σm (100 * (r + 1)) (5000 * (r + 1))) 944 (lvL w B b t) [] := by
  obtain ⟨C, hX, hbl, hbA, hL⟩ := id hC
  obtain ⟨rv, σx', σm', ex, em, hR, h2⟩ := act_S (m := fun σ => fX6_deep σ (xs (6 * t + 1)) (xs (6 * t + 2))) (fun S => deep_act (p1 := xs (6 * t + 1)) (p2 := xs (6 * t + 2)) (h.rr S))
  refine z_aload_n C 1 dL_law_944 rfl rfl ?_
  refine lw_arg hC (k := 1) (n := 1) (by omega) rfl dL_law_945 dL_law_946 dL_law_947 dL_law_948 dL_law_949 ?_
  refine lw_arg hC (k := 2) (n := 2) (by omega) rfl dL_law_950 dL_law_951 dL_law_952 dL_law_953 dL_law_954 ?_
  refine z_callSj C (σ' := bx σx) (w' := wxOf w B) (L' := zLx) (rest := []) (av := (.ref ((wxOf w B).2.2 0) :: [.int (xs (6 * t + 1)), .int (xs (6 * t + 2))])) (zPay.ofW q1063 q74) (fun H ls hH _ => zInv_V C (As := [.int (xs (6 * t + 1)), .int (xs (6 * t + 2))]) (rest := []) (ci := 0) (T := TX0) (N := 8) rfl (zSee.pool (outP_x ly_x0)) hH q1060 q1061 q1062 (Or.inr ⟨_, rfl⟩) q1063 mh_X0 np_X0_deep dL_law_955) (sub_x h.2.1) (tX0_deep l (wxOf w B) ex) (by show 100 ≤ 100 * (r + 1); omega) (by show 5000 ≤ 5000 * (r + 1); omega) (Nat.le_of_ble_eq_true rfl) (Nat.le_of_ble_eq_true rfl) (fun f1 f2 f3 => ⟨out w B σx' σm (100 * r) (5000 * r), bk_x h.2.1, (by show 100 * r + 100 ≤ 100 * (r + 1) + _; omega), (by show 5000 * r + 5000 ≤ 5000 * (r + 1) + _; omega), ?_⟩)
  have hS' := h.2.1.next f1 f2 f3
  refine z_aload_n C 2 dL_law_958 rfl rfl ?_
  refine lw_arg hC (k := 1) (n := 1) (by omega) rfl dL_law_959 dL_law_960 dL_law_961 dL_law_962 dL_law_963 ?_
  refine lw_arg hC (k := 2) (n := 2) (by omega) rfl dL_law_964 dL_law_965 dL_law_966 dL_law_967 dL_law_968 ?_
  refine z_callSj C (σ' := bm σm σx'.2.2.2.1) (w' := wmOf w B) (L' := zLm) (rest := [.int rv]) (av := (.ref ((wmOf w B).2.2 0) :: [.int (xs (6 * t + 1)), .int (xs (6 * t + 2))])) (zPay.of q1781 q83) (fun H ls hH _ => zInv_V C (As := [.int (xs (6 * t + 1)), .int (xs (6 * t + 2))]) (rest := [.int rv]) (ci := 6) (T := TX6) (N := 24) rfl (zSee.pool (outP_m ly_m0)) hH q1778 q1779 q1780 (Or.inl rfl) q1781 mh_X6 np_X6_deep dL_law_969) (sub_m h.2.2) (tX6_deep l (wmOf w B) em) (Nat.zero_le _) (Nat.zero_le _) (Nat.le_of_ble_eq_true rfl) (Nat.le_of_ble_eq_true rfl) (fun g1 g2 g3 => ⟨out w B σx' σm' (100 * r) (5000 * r), bk_m hS' h2, Nat.le_add_right _ _, Nat.le_add_right _ _, ?_⟩)
  refine z_icmp_eq C 1468 dL_law_972 (by decide) (fun _ => kk _ _ (LI.next hR hS' h.2.2 h2)) (fun q => absurd rfl q)
set_option maxHeartbeats 4000000 in
set_option maxRecDepth 100000 in
theorem lwc_23 {p : Program} {l : Launch} {e : Env} {s : State} {m : MethodId} {args : Array Value} {below : List Frame} {meth : Method} {c : Code} {Q : State → Prop} {w : ZW} {A : Nat → Prop} {b L B : Nat} {xs : Nat → Int32} {t r N : Nat} {σx σm : ZS} (hC : LC p s m args meth c w A b L xs) (ht : 6 * t + 6 ≤ L) (hN : N < 1000) (h : LI w B N σx σm) (kk : ∀ σx' σm', LI w B (N + 1) σx' σm' → Z p l e room_1 s m args below meth c Q w zL0 A 4 (out w B σx' σm' (100 * r) (5000 * r)) 1468 (lvL w B b t) []) : Z p l e room_1 s m args below meth c Q w zL0 A 4 (out w B σx σm (100 * (r + 1)) (5000 * (r + 1))) 977 (lvL w B b t) [] := by
  obtain ⟨C, hX, hbl, hbA, hL⟩ := id hC
  obtain ⟨rv, σx', σm', ex, em, hR, h2⟩ := act_S (m := fun σ => fX6_draws σ (xs (6 * t + 1))) (fun S => draws_act (p1 := xs (6 * t + 1)) (h.rr S))
  refine z_aload_n C 1 dL_law_977 rfl rfl ?_
  refine lw_arg hC (k := 1) (n := 1) (by omega) rfl dL_law_978 dL_law_979 dL_law_980 dL_law_981 dL_law_982 ?_
  refine z_callSj C (σ' := bx σx) (w' := wxOf w B) (L' := zLx) (rest := []) (av := (.ref ((wxOf w B).2.2 0) :: [.int (xs (6 * t + 1))])) (zPay.ofW q1067 q74) (fun H ls hH _ => zInv_V C (As := [.int (xs (6 * t + 1))]) (rest := []) (ci := 0) (T := TX0) (N := 8) rfl (zSee.pool (outP_x ly_x0)) hH q1064 q1065 q1066 (Or.inr ⟨_, rfl⟩) q1067 mh_X0 np_X0_draws dL_law_983) (sub_x h.2.1) (tX0_draws l (wxOf w B) ex) (by show 100 ≤ 100 * (r + 1); omega) (by show 5000 ≤ 5000 * (r + 1); omega) (Nat.le_of_ble_eq_true rfl) (Nat.le_of_ble_eq_true rfl) (fun f1 f2 f3 => ⟨out w B σx' σm (100 * r) (5000 * r), bk_x h.2.1, (by show 100 * r + 100 ≤ 100 * (r + 1) + _; omega), (by show 5000 * r + 5000 ≤ 5000 * (r + 1) + _; omega), ?_⟩)
  have hS' := h.2.1.next f1 f2 f3
  refine z_aload_n C 2 dL_law_986 rfl rfl ?_
  refine lw_arg hC (k := 1) (n := 1) (by omega) rfl dL_law_987 dL_law_988 dL_law_989 dL_law_990 dL_law_991 ?_
  refine z_callSj C (σ' := bm σm σx'.2.2.2.1) (w' := wmOf w B) (L' := zLm) (rest := [.int rv]) (av := (.ref ((wmOf w B).2.2 0) :: [.int (xs (6 * t + 1))])) (zPay.of q1785 q83) (fun H ls hH _ => zInv_V C (As := [.int (xs (6 * t + 1))]) (rest := [.int rv]) (ci := 6) (T := TX6) (N := 24) rfl (zSee.pool (outP_m ly_m0)) hH q1782 q1783 q1784 (Or.inl rfl) q1785 mh_X6 np_X6_draws dL_law_992) (sub_m h.2.2) (tX6_draws l (wmOf w B) em) (Nat.zero_le _) (Nat.zero_le _) (Nat.le_of_ble_eq_true rfl) (Nat.le_of_ble_eq_true rfl) (fun g1 g2 g3 => ⟨out w B σx' σm' (100 * r) (5000 * r), bk_m hS' h2, Nat.le_add_right _ _, Nat.le_add_right _ _, ?_⟩)
  refine z_icmp_eq C 1468 dL_law_995 (by decide) (fun _ => kk _ _ (LI.next hR hS' h.2.2 h2)) (fun q => absurd rfl q)
set_option maxHeartbeats 4000000 in
set_option maxRecDepth 100000 in
theorem lwc_24 {p : Program} {l : Launch} {e : Env} {s : State} {m : MethodId} {args : Array Value} {below : List Frame} {meth : Method} {c : Code} {Q : State → Prop} {w : ZW} {A : Nat → Prop} {b L B : Nat} {xs : Nat → Int32} {t r N : Nat} {σx σm : ZS} (hC : LC p s m args meth c w A b L xs) (ht : 6 * t + 6 ≤ L) (hN : N < 1000) (h : LI w B N σx σm) (kk : ∀ σx' σm', LI w B (N + 1) σx' σm' → Z p l e room_1 s m args below meth c Q w zL0 A 4 (out w B σx' σm' (100 * r) (5000 * r)) 1468 (lvL w B b t) []) : Z p l e room_1 s m args below meth c Q w zL0 A 4 (out w B σx σm (100 * (r + 1)) (5000 * (r + 1))) 1000 (lvL w B b t) [] := by
  obtain ⟨C, hX, hbl, hbA, hL⟩ := id hC
  obtain ⟨rv, σx', σm', ex, em, hR, h2⟩ := act_S (m := fun σ => fX6_traffic σ (xs (6 * t + 1)) (xs (6 * t + 2))) (fun S => traffic_act (p1 := xs (6 * t + 1)) (p2 := xs (6 * t + 2)) (h.rr S))
  refine z_aload_n C 1 dL_law_1000 rfl rfl ?_
  refine lw_arg hC (k := 1) (n := 1) (by omega) rfl dL_law_1001 dL_law_1002 dL_law_1003 dL_law_1004 dL_law_1005 ?_
  refine lw_arg hC (k := 2) (n := 2) (by omega) rfl dL_law_1006 dL_law_1007 dL_law_1008 dL_law_1009 dL_law_1010 ?_
  refine z_callSj C (σ' := bx σx) (w' := wxOf w B) (L' := zLx) (rest := []) (av := (.ref ((wxOf w B).2.2 0) :: [.int (xs (6 * t + 1)), .int (xs (6 * t + 2))])) (zPay.ofW q1075 q74) (fun H ls hH _ => zInv_V C (As := [.int (xs (6 * t + 1)), .int (xs (6 * t + 2))]) (rest := []) (ci := 0) (T := TX0) (N := 8) rfl (zSee.pool (outP_x ly_x0)) hH q1072 q1073 q1074 (Or.inr ⟨_, rfl⟩) q1075 mh_X0 np_X0_traffic dL_law_1011) (sub_x h.2.1) (tX0_traffic l (wxOf w B) ex) (by show 100 ≤ 100 * (r + 1); omega) (by show 5000 ≤ 5000 * (r + 1); omega) (Nat.le_of_ble_eq_true rfl) (Nat.le_of_ble_eq_true rfl) (fun f1 f2 f3 => ⟨out w B σx' σm (100 * r) (5000 * r), bk_x h.2.1, (by show 100 * r + 100 ≤ 100 * (r + 1) + _; omega), (by show 5000 * r + 5000 ≤ 5000 * (r + 1) + _; omega), ?_⟩)
  have hS' := h.2.1.next f1 f2 f3
  refine z_aload_n C 2 dL_law_1014 rfl rfl ?_
  refine lw_arg hC (k := 1) (n := 1) (by omega) rfl dL_law_1015 dL_law_1016 dL_law_1017 dL_law_1018 dL_law_1019 ?_
  refine lw_arg hC (k := 2) (n := 2) (by omega) rfl dL_law_1020 dL_law_1021 dL_law_1022 dL_law_1023 dL_law_1024 ?_
  refine z_callSj C (σ' := bm σm σx'.2.2.2.1) (w' := wmOf w B) (L' := zLm) (rest := [.int rv]) (av := (.ref ((wmOf w B).2.2 0) :: [.int (xs (6 * t + 1)), .int (xs (6 * t + 2))])) (zPay.of q1789 q83) (fun H ls hH _ => zInv_V C (As := [.int (xs (6 * t + 1)), .int (xs (6 * t + 2))]) (rest := [.int rv]) (ci := 6) (T := TX6) (N := 24) rfl (zSee.pool (outP_m ly_m0)) hH q1786 q1787 q1788 (Or.inl rfl) q1789 mh_X6 np_X6_traffic dL_law_1025) (sub_m h.2.2) (tX6_traffic l (wmOf w B) em) (Nat.zero_le _) (Nat.zero_le _) (Nat.le_of_ble_eq_true rfl) (Nat.le_of_ble_eq_true rfl) (fun g1 g2 g3 => ⟨out w B σx' σm' (100 * r) (5000 * r), bk_m hS' h2, Nat.le_add_right _ _, Nat.le_add_right _ _, ?_⟩)
  refine z_icmp_eq C 1468 dL_law_1028 (by decide) (fun _ => kk _ _ (LI.next hR hS' h.2.2 h2)) (fun q => absurd rfl q)
set_option maxHeartbeats 4000000 in
set_option maxRecDepth 100000 in
theorem lwc_25 {p : Program} {l : Launch} {e : Env} {s : State} {m : MethodId} {args : Array Value} {below : List Frame} {meth : Method} {c : Code} {Q : State → Prop} {w : ZW} {A : Nat → Prop} {b L B : Nat} {xs : Nat → Int32} {t r N : Nat} {σx σm : ZS} (hC : LC p s m args meth c w A b L xs) (ht : 6 * t + 6 ≤ L) (hN : N < 1000) (h : LI w B N σx σm) (kk : ∀ σx' σm', LI w B (N + 1) σx' σm' → Z p l e room_1 s m args below meth c Q w zL0 A 4 (out w B σx' σm' (100 * r) (5000 * r)) 1468 (lvL w B b t) []) : Z p l e room_1 s m args below meth c Q w zL0 A 4 (out w B σx σm (100 * (r + 1)) (5000 * (r + 1))) 1033 (lvL w B b t) [] := by
  obtain ⟨C, hX, hbl, hbA, hL⟩ := id hC
  obtain ⟨rv, σx', σm', ex, em, hR, h2⟩ := act_S (m := fun σ => fX6_odds σ (xs (6 * t + 1)) (xs (6 * t + 2)) (xs (6 * t + 3))) (fun S => odds_act (p1 := xs (6 * t + 1)) (p2 := xs (6 * t + 2)) (p3 := xs (6 * t + 3)) (h.rr S))
  refine z_aload_n C 1 dL_law_1033 rfl rfl ?_
  refine lw_arg hC (k := 1) (n := 1) (by omega) rfl dL_law_1034 dL_law_1035 dL_law_1036 dL_law_1037 dL_law_1038 ?_
  refine lw_arg hC (k := 2) (n := 2) (by omega) rfl dL_law_1039 dL_law_1040 dL_law_1041 dL_law_1042 dL_law_1043 ?_
  refine lw_arg hC (k := 3) (n := 3) (by omega) rfl dL_law_1044 dL_law_1045 dL_law_1046 dL_law_1047 dL_law_1048 ?_
  refine z_callSj C (σ' := bx σx) (w' := wxOf w B) (L' := zLx) (rest := []) (av := (.ref ((wxOf w B).2.2 0) :: [.int (xs (6 * t + 1)), .int (xs (6 * t + 2)), .int (xs (6 * t + 3))])) (zPay.ofW q1080 q74) (fun H ls hH _ => zInv_V C (As := [.int (xs (6 * t + 1)), .int (xs (6 * t + 2)), .int (xs (6 * t + 3))]) (rest := []) (ci := 0) (T := TX0) (N := 8) rfl (zSee.pool (outP_x ly_x0)) hH q1077 q1078 q1079 (Or.inr ⟨_, rfl⟩) q1080 mh_X0 np_X0_odds dL_law_1049) (sub_x h.2.1) (tX0_odds l (wxOf w B) ex) (by show 100 ≤ 100 * (r + 1); omega) (by show 5000 ≤ 5000 * (r + 1); omega) (Nat.le_of_ble_eq_true rfl) (Nat.le_of_ble_eq_true rfl) (fun f1 f2 f3 => ⟨out w B σx' σm (100 * r) (5000 * r), bk_x h.2.1, (by show 100 * r + 100 ≤ 100 * (r + 1) + _; omega), (by show 5000 * r + 5000 ≤ 5000 * (r + 1) + _; omega), ?_⟩)
  have hS' := h.2.1.next f1 f2 f3
  refine z_aload_n C 2 dL_law_1052 rfl rfl ?_
  refine lw_arg hC (k := 1) (n := 1) (by omega) rfl dL_law_1053 dL_law_1054 dL_law_1055 dL_law_1056 dL_law_1057 ?_
  refine lw_arg hC (k := 2) (n := 2) (by omega) rfl dL_law_1058 dL_law_1059 dL_law_1060 dL_law_1061 dL_law_1062 ?_
  refine lw_arg hC (k := 3) (n := 3) (by omega) rfl dL_law_1063 dL_law_1064 dL_law_1065 dL_law_1066 dL_law_1067 ?_
  refine z_callSj C (σ' := bm σm σx'.2.2.2.1) (w' := wmOf w B) (L' := zLm) (rest := [.int rv]) (av := (.ref ((wmOf w B).2.2 0) :: [.int (xs (6 * t + 1)), .int (xs (6 * t + 2)), .int (xs (6 * t + 3))])) (zPay.of q1793 q83) (fun H ls hH _ => zInv_V C (As := [.int (xs (6 * t + 1)), .int (xs (6 * t + 2)), .int (xs (6 * t + 3))]) (rest := [.int rv]) (ci := 6) (T := TX6) (N := 24) rfl (zSee.pool (outP_m ly_m0)) hH q1790 q1791 q1792 (Or.inl rfl) q1793 mh_X6 np_X6_odds dL_law_1068) (sub_m h.2.2) (tX6_odds l (wmOf w B) em) (Nat.zero_le _) (Nat.zero_le _) (Nat.le_of_ble_eq_true rfl) (Nat.le_of_ble_eq_true rfl) (fun g1 g2 g3 => ⟨out w B σx' σm' (100 * r) (5000 * r), bk_m hS' h2, Nat.le_add_right _ _, Nat.le_add_right _ _, ?_⟩)
  refine z_icmp_eq C 1468 dL_law_1071 (by decide) (fun _ => kk _ _ (LI.next hR hS' h.2.2 h2)) (fun q => absurd rfl q)
set_option maxHeartbeats 4000000 in
set_option maxRecDepth 100000 in
theorem lwc_26 {p : Program} {l : Launch} {e : Env} {s : State} {m : MethodId} {args : Array Value} {below : List Frame} {meth : Method} {c : Code} {Q : State → Prop} {w : ZW} {A : Nat → Prop} {b L B : Nat} {xs : Nat → Int32} {t r N : Nat} {σx σm : ZS} (hC : LC p s m args meth c w A b L xs) (ht : 6 * t + 6 ≤ L) (hN : N < 1000) (h : LI w B N σx σm) (kk : ∀ σx' σm', LI w B (N + 1) σx' σm' → Z p l e room_1 s m args below meth c Q w zL0 A 4 (out w B σx' σm' (100 * r) (5000 * r)) 1468 (lvL w B b t) []) : Z p l e room_1 s m args below meth c Q w zL0 A 4 (out w B σx σm (100 * (r + 1)) (5000 * (r + 1))) 1076 (lvL w B b t) [] := by
  obtain ⟨C, hX, hbl, hbA, hL⟩ := id hC
  obtain ⟨rv, σx', σm', ex, em, hR, h2⟩ := act_S (m := fun σ => fX6_seed σ (xs (6 * t + 1))) (fun S => seed_act (v := xs (6 * t + 1)) (h.rr S))
  refine z_aload_n C 1 dL_law_1076 rfl rfl ?_
  refine lw_arg hC (k := 1) (n := 1) (by omega) rfl dL_law_1077 dL_law_1078 dL_law_1079 dL_law_1080 dL_law_1081 ?_
  refine z_callSj C (σ' := bx σx) (w' := wxOf w B) (L' := zLx) (rest := []) (av := (.ref ((wxOf w B).2.2 0) :: [.int (xs (6 * t + 1))])) (zPay.of q1087 q74) (fun H ls hH _ => zInv_V C (As := [.int (xs (6 * t + 1))]) (rest := []) (ci := 0) (T := TX0) (N := 8) rfl (zSee.pool (outP_x ly_x0)) hH q1084 q1085 q1086 (Or.inl rfl) q1087 mh_X0 np_X0_seed dL_law_1082) (sub_x h.2.1) (tX0_seed l (wxOf w B) ex) (by show 100 ≤ 100 * (r + 1); omega) (by show 5000 ≤ 5000 * (r + 1); omega) (Nat.le_of_ble_eq_true rfl) (Nat.le_of_ble_eq_true rfl) (fun f1 f2 f3 => ⟨out w B σx' σm (100 * r) (5000 * r), bk_x h.2.1, (by show 100 * r + 100 ≤ 100 * (r + 1) + _; omega), (by show 5000 * r + 5000 ≤ 5000 * (r + 1) + _; omega), ?_⟩)
  have hS' := h.2.1.next f1 f2 f3
  refine z_aload_n C 2 dL_law_1085 rfl rfl ?_
  refine lw_arg hC (k := 1) (n := 1) (by omega) rfl dL_law_1086 dL_law_1087 dL_law_1088 dL_law_1089 dL_law_1090 ?_
  refine z_callSj C (σ' := bm σm σx'.2.2.2.1) (w' := wmOf w B) (L' := zLm) (rest := [.int rv]) (av := (.ref ((wmOf w B).2.2 0) :: [.int (xs (6 * t + 1))])) (zPay.of q1797 q83) (fun H ls hH _ => zInv_V C (As := [.int (xs (6 * t + 1))]) (rest := [.int rv]) (ci := 6) (T := TX6) (N := 24) rfl (zSee.pool (outP_m ly_m0)) hH q1794 q1795 q1796 (Or.inl rfl) q1797 mh_X6 np_X6_seed dL_law_1091) (sub_m h.2.2) (tX6_seed l (wmOf w B) em) (Nat.zero_le _) (Nat.zero_le _) (Nat.le_of_ble_eq_true rfl) (Nat.le_of_ble_eq_true rfl) (fun g1 g2 g3 => ⟨out w B σx' σm' (100 * r) (5000 * r), bk_m hS' h2, Nat.le_add_right _ _, Nat.le_add_right _ _, ?_⟩)
  refine z_icmp_eq C 1468 dL_law_1094 (by decide) (fun _ => kk _ _ (LI.next hR hS' h.2.2 h2)) (fun q => absurd rfl q)
set_option maxHeartbeats 4000000 in
set_option maxRecDepth 100000 in
theorem lwc_27 {p : Program} {l : Launch} {e : Env} {s : State} {m : MethodId} {args : Array Value} {below : List Frame} {meth : Method} {c : Code} {Q : State → Prop} {w : ZW} {A : Nat → Prop} {b L B : Nat} {xs : Nat → Int32} {t r N : Nat} {σx σm : ZS} (hC : LC p s m args meth c w A b L xs) (ht : 6 * t + 6 ≤ L) (hN : N < 1000) (h : LI w B N σx σm) (kk : ∀ σx' σm', LI w B (N + 1) σx' σm' → Z p l e room_1 s m args below meth c Q w zL0 A 4 (out w B σx' σm' (100 * r) (5000 * r)) 1468 (lvL w B b t) []) : Z p l e room_1 s m args below meth c Q w zL0 A 4 (out w B σx σm (100 * (r + 1)) (5000 * (r + 1))) 1099 (lvL w B b t) [] := by
  obtain ⟨C, hX, hbl, hbA, hL⟩ := id hC
  obtain ⟨rv, σx', σm', ex, em, hR, h2⟩ := act_S (m := fun σ => fX6_voice σ (xs (6 * t + 1)) (xs (6 * t + 2)) (xs (6 * t + 3))) (fun S => voice_act (p1 := xs (6 * t + 1)) (p2 := xs (6 * t + 2)) (p3 := xs (6 * t + 3)) (h.rr S))
  refine z_aload_n C 1 dL_law_1099 rfl rfl ?_
  refine lw_arg hC (k := 1) (n := 1) (by omega) rfl dL_law_1100 dL_law_1101 dL_law_1102 dL_law_1103 dL_law_1104 ?_
  refine lw_arg hC (k := 2) (n := 2) (by omega) rfl dL_law_1105 dL_law_1106 dL_law_1107 dL_law_1108 dL_law_1109 ?_
  refine lw_arg hC (k := 3) (n := 3) (by omega) rfl dL_law_1110 dL_law_1111 dL_law_1112 dL_law_1113 dL_law_1114 ?_
  refine z_callSj C (σ' := bx σx) (w' := wxOf w B) (L' := zLx) (rest := []) (av := (.ref ((wxOf w B).2.2 0) :: [.int (xs (6 * t + 1)), .int (xs (6 * t + 2)), .int (xs (6 * t + 3))])) (zPay.ofW q1091 q74) (fun H ls hH _ => zInv_V C (As := [.int (xs (6 * t + 1)), .int (xs (6 * t + 2)), .int (xs (6 * t + 3))]) (rest := []) (ci := 0) (T := TX0) (N := 8) rfl (zSee.pool (outP_x ly_x0)) hH q1088 q1089 q1090 (Or.inr ⟨_, rfl⟩) q1091 mh_X0 np_X0_voice dL_law_1115) (sub_x h.2.1) (tX0_voice l (wxOf w B) ex) (by show 100 ≤ 100 * (r + 1); omega) (by show 5000 ≤ 5000 * (r + 1); omega) (Nat.le_of_ble_eq_true rfl) (Nat.le_of_ble_eq_true rfl) (fun f1 f2 f3 => ⟨out w B σx' σm (100 * r) (5000 * r), bk_x h.2.1, (by show 100 * r + 100 ≤ 100 * (r + 1) + _; omega), (by show 5000 * r + 5000 ≤ 5000 * (r + 1) + _; omega), ?_⟩)
  have hS' := h.2.1.next f1 f2 f3
  refine z_aload_n C 2 dL_law_1118 rfl rfl ?_
  refine lw_arg hC (k := 1) (n := 1) (by omega) rfl dL_law_1119 dL_law_1120 dL_law_1121 dL_law_1122 dL_law_1123 ?_
  refine lw_arg hC (k := 2) (n := 2) (by omega) rfl dL_law_1124 dL_law_1125 dL_law_1126 dL_law_1127 dL_law_1128 ?_
  refine lw_arg hC (k := 3) (n := 3) (by omega) rfl dL_law_1129 dL_law_1130 dL_law_1131 dL_law_1132 dL_law_1133 ?_
  refine z_callSj C (σ' := bm σm σx'.2.2.2.1) (w' := wmOf w B) (L' := zLm) (rest := [.int rv]) (av := (.ref ((wmOf w B).2.2 0) :: [.int (xs (6 * t + 1)), .int (xs (6 * t + 2)), .int (xs (6 * t + 3))])) (zPay.of q1801 q83) (fun H ls hH _ => zInv_V C (As := [.int (xs (6 * t + 1)), .int (xs (6 * t + 2)), .int (xs (6 * t + 3))]) (rest := [.int rv]) (ci := 6) (T := TX6) (N := 24) rfl (zSee.pool (outP_m ly_m0)) hH q1798 q1799 q1800 (Or.inl rfl) q1801 mh_X6 np_X6_voice dL_law_1134) (sub_m h.2.2) (tX6_voice l (wmOf w B) em) (Nat.zero_le _) (Nat.zero_le _) (Nat.le_of_ble_eq_true rfl) (Nat.le_of_ble_eq_true rfl) (fun g1 g2 g3 => ⟨out w B σx' σm' (100 * r) (5000 * r), bk_m hS' h2, Nat.le_add_right _ _, Nat.le_add_right _ _, ?_⟩)
  refine z_icmp_eq C 1468 dL_law_1137 (by decide) (fun _ => kk _ _ (LI.next hR hS' h.2.2 h2)) (fun q => absurd rfl q)
set_option maxHeartbeats 4000000 in
set_option maxRecDepth 100000 in
theorem lwc_28 {p : Program} {l : Launch} {e : Env} {s : State} {m : MethodId} {args : Array Value} {below : List Frame} {meth : Method} {c : Code} {Q : State → Prop} {w : ZW} {A : Nat → Prop} {b L B : Nat} {xs : Nat → Int32} {t r N : Nat} {σx σm : ZS} (hC : LC p s m args meth c w A b L xs) (ht : 6 * t + 6 ≤ L) (hN : N < 1000) (h : LI w B N σx σm) (kk : ∀ σx' σm', LI w B (N + 1) σx' σm' → Z p l e room_1 s m args below meth c Q w zL0 A 4 (out w B σx' σm' (100 * r) (5000 * r)) 1468 (lvL w B b t) []) : Z p l e room_1 s m args below meth c Q w zL0 A 4 (out w B σx σm (100 * (r + 1)) (5000 * (r + 1))) 1142 (lvL w B b t) [] := by
  obtain ⟨C, hX, hbl, hbA, hL⟩ := id hC
  obtain ⟨rv, σx', σm', ex, em, hR, h2⟩ := act_S (m := fun σ => fX6_trace σ (xs (6 * t + 1))) (fun S => trace_act (p1 := xs (6 * t + 1)) (h.rr S))
  refine z_aload_n C 1 dL_law_1142 rfl rfl ?_
  refine lw_arg hC (k := 1) (n := 1) (by omega) rfl dL_law_1143 dL_law_1144 dL_law_1145 dL_law_1146 dL_law_1147 ?_
  refine z_callSj C (σ' := bx σx) (w' := wxOf w B) (L' := zLx) (rest := []) (av := (.ref ((wxOf w B).2.2 0) :: [.int (xs (6 * t + 1))])) (zPay.ofW q1264 q74) (fun H ls hH _ => zInv_V C (As := [.int (xs (6 * t + 1))]) (rest := []) (ci := 0) (T := TX0) (N := 8) rfl (zSee.pool (outP_x ly_x0)) hH q1261 q1262 q1263 (Or.inr ⟨_, rfl⟩) q1264 mh_X0 np_X0_trace dL_law_1148) (sub_x h.2.1) (tX0_trace l (wxOf w B) ex) (by show 100 ≤ 100 * (r + 1); omega) (by show 5000 ≤ 5000 * (r + 1); omega) (Nat.le_of_ble_eq_true rfl) (Nat.le_of_ble_eq_true rfl) (fun f1 f2 f3 => ⟨out w B σx' σm (100 * r) (5000 * r), bk_x h.2.1, (by show 100 * r + 100 ≤ 100 * (r + 1) + _; omega), (by show 5000 * r + 5000 ≤ 5000 * (r + 1) + _; omega), ?_⟩)
  have hS' := h.2.1.next f1 f2 f3
  refine z_aload_n C 2 dL_law_1151 rfl rfl ?_
  refine lw_arg hC (k := 1) (n := 1) (by omega) rfl dL_law_1152 dL_law_1153 dL_law_1154 dL_law_1155 dL_law_1156 ?_
  refine z_callSj C (σ' := bm σm σx'.2.2.2.1) (w' := wmOf w B) (L' := zLm) (rest := [.int rv]) (av := (.ref ((wmOf w B).2.2 0) :: [.int (xs (6 * t + 1))])) (zPay.of q1829 q83) (fun H ls hH _ => zInv_V C (As := [.int (xs (6 * t + 1))]) (rest := [.int rv]) (ci := 6) (T := TX6) (N := 24) rfl (zSee.pool (outP_m ly_m0)) hH q1826 q1827 q1828 (Or.inl rfl) q1829 mh_X6 np_X6_trace dL_law_1157) (sub_m h.2.2) (tX6_trace l (wmOf w B) em) (Nat.zero_le _) (Nat.zero_le _) (Nat.le_of_ble_eq_true rfl) (Nat.le_of_ble_eq_true rfl) (fun g1 g2 g3 => ⟨out w B σx' σm' (100 * r) (5000 * r), bk_m hS' h2, Nat.le_add_right _ _, Nat.le_add_right _ _, ?_⟩)
  refine z_icmp_eq C 1468 dL_law_1160 (by decide) (fun _ => kk _ _ (LI.next hR hS' h.2.2 h2)) (fun q => absurd rfl q)
set_option maxHeartbeats 4000000 in
set_option maxRecDepth 100000 in
theorem lwc_29 {p : Program} {l : Launch} {e : Env} {s : State} {m : MethodId} {args : Array Value} {below : List Frame} {meth : Method} {c : Code} {Q : State → Prop} {w : ZW} {A : Nat → Prop} {b L B : Nat} {xs : Nat → Int32} {t r N : Nat} {σx σm : ZS} (hC : LC p s m args meth c w A b L xs) (ht : 6 * t + 6 ≤ L) (hN : N < 1000) (h : LI w B N σx σm) (kk : ∀ σx' σm', LI w B (N + 1) σx' σm' → Z p l e room_1 s m args below meth c Q w zL0 A 4 (out w B σx' σm' (100 * r) (5000 * r)) 1468 (lvL w B b t) []) : Z p l e room_1 s m args below meth c Q w zL0 A 4 (out w B σx σm (100 * (r + 1)) (5000 * (r + 1))) 1165 (lvL w B b t) [] := by
  obtain ⟨C, hX, hbl, hbA, hL⟩ := id hC
  obtain ⟨rv, σx', σm', ex, em, hR, h2⟩ := act_S (m := fun σ => fX6_sheet σ (xs (6 * t + 1)) (xs (6 * t + 2)) (xs (6 * t + 3))) (fun S => sheet_act (p1 := xs (6 * t + 1)) (p2 := xs (6 * t + 2)) (p3 := xs (6 * t + 3)) (show 4 ≤ 100 by decide) (show 1000 ≤ 5000 by decide) (h.rr S))
  refine z_aload_n C 1 dL_law_1165 rfl rfl ?_
  refine lw_arg hC (k := 1) (n := 1) (by omega) rfl dL_law_1166 dL_law_1167 dL_law_1168 dL_law_1169 dL_law_1170 ?_
  refine lw_arg hC (k := 2) (n := 2) (by omega) rfl dL_law_1171 dL_law_1172 dL_law_1173 dL_law_1174 dL_law_1175 ?_
  refine lw_arg hC (k := 3) (n := 3) (by omega) rfl dL_law_1176 dL_law_1177 dL_law_1178 dL_law_1179 dL_law_1180 ?_
  refine z_callSj C (σ' := bx σx) (w' := wxOf w B) (L' := zLx) (rest := []) (av := (.ref ((wxOf w B).2.2 0) :: [.int (xs (6 * t + 1)), .int (xs (6 * t + 2)), .int (xs (6 * t + 3))])) (zPay.ofW q1276 q74) (fun H ls hH _ => zInv_V C (As := [.int (xs (6 * t + 1)), .int (xs (6 * t + 2)), .int (xs (6 * t + 3))]) (rest := []) (ci := 0) (T := TX0) (N := 8) rfl (zSee.pool (outP_x ly_x0)) hH q1273 q1274 q1275 (Or.inr ⟨_, rfl⟩) q1276 mh_X0 np_X0_sheet dL_law_1181) (sub_x h.2.1) (tX0_sheet l (wxOf w B) ex) (by show 100 ≤ 100 * (r + 1); omega) (by show 5000 ≤ 5000 * (r + 1); omega) (Nat.le_of_ble_eq_true rfl) (Nat.le_of_ble_eq_true rfl) (fun f1 f2 f3 => ⟨out w B σx' σm (100 * r) (5000 * r), bk_x h.2.1, (by show 100 * r + 100 ≤ 100 * (r + 1) + _; omega), (by show 5000 * r + 5000 ≤ 5000 * (r + 1) + _; omega), ?_⟩)
  have hS' := h.2.1.next f1 f2 f3
  refine z_aload_n C 2 dL_law_1184 rfl rfl ?_
  refine lw_arg hC (k := 1) (n := 1) (by omega) rfl dL_law_1185 dL_law_1186 dL_law_1187 dL_law_1188 dL_law_1189 ?_
  refine lw_arg hC (k := 2) (n := 2) (by omega) rfl dL_law_1190 dL_law_1191 dL_law_1192 dL_law_1193 dL_law_1194 ?_
  refine lw_arg hC (k := 3) (n := 3) (by omega) rfl dL_law_1195 dL_law_1196 dL_law_1197 dL_law_1198 dL_law_1199 ?_
  refine z_callSj C (σ' := bm σm σx'.2.2.2.1) (w' := wmOf w B) (L' := zLm) (rest := [.int rv]) (av := (.ref ((wmOf w B).2.2 0) :: [.int (xs (6 * t + 1)), .int (xs (6 * t + 2)), .int (xs (6 * t + 3))])) (zPay.of q1833 q83) (fun H ls hH _ => zInv_V C (As := [.int (xs (6 * t + 1)), .int (xs (6 * t + 2)), .int (xs (6 * t + 3))]) (rest := [.int rv]) (ci := 6) (T := TX6) (N := 24) rfl (zSee.pool (outP_m ly_m0)) hH q1830 q1831 q1832 (Or.inl rfl) q1833 mh_X6 np_X6_sheet dL_law_1200) (sub_m h.2.2) (tX6_sheet l (wmOf w B) em) (Nat.zero_le _) (Nat.zero_le _) (Nat.le_of_ble_eq_true rfl) (Nat.le_of_ble_eq_true rfl) (fun g1 g2 g3 => ⟨out w B σx' σm' (100 * r) (5000 * r), bk_m hS' h2, Nat.le_add_right _ _, Nat.le_add_right _ _, ?_⟩)
  refine z_icmp_eq C 1468 dL_law_1203 (by decide) (fun _ => kk _ _ (LI.next hR hS' h.2.2 h2)) (fun q => absurd rfl q)
set_option maxHeartbeats 4000000 in
set_option maxRecDepth 100000 in
theorem lwc_30 {p : Program} {l : Launch} {e : Env} {s : State} {m : MethodId} {args : Array Value} {below : List Frame} {meth : Method} {c : Code} {Q : State → Prop} {w : ZW} {A : Nat → Prop} {b L B : Nat} {xs : Nat → Int32} {t r N : Nat} {σx σm : ZS} (hC : LC p s m args meth c w A b L xs) (ht : 6 * t + 6 ≤ L) (hN : N < 1000) (h : LI w B N σx σm) (kk : ∀ σx' σm', LI w B (N + 1) σx' σm' → Z p l e room_1 s m args below meth c Q w zL0 A 4 (out w B σx' σm' (100 * r) (5000 * r)) 1468 (lvL w B b t) []) : Z p l e room_1 s m args below meth c Q w zL0 A 4 (out w B σx σm (100 * (r + 1)) (5000 * (r + 1))) 1208 (lvL w B b t) [] := by
  obtain ⟨C, hX, hbl, hbA, hL⟩ := id hC
  obtain ⟨rv, σx', σm', ex, em, hR, h2⟩ := act_S (m := fun σ => fX6_put σ (xs (6 * t + 1)) (xs (6 * t + 2)) (xs (6 * t + 3))) (fun S => put_act (p1 := xs (6 * t + 1)) (p2 := xs (6 * t + 2)) (p3 := xs (6 * t + 3)) (h.rr S))
  refine z_aload_n C 1 dL_law_1208 rfl rfl ?_
  refine lw_arg hC (k := 1) (n := 1) (by omega) rfl dL_law_1209 dL_law_1210 dL_law_1211 dL_law_1212 dL_law_1213 ?_
  refine lw_arg hC (k := 2) (n := 2) (by omega) rfl dL_law_1214 dL_law_1215 dL_law_1216 dL_law_1217 dL_law_1218 ?_
  refine lw_arg hC (k := 3) (n := 3) (by omega) rfl dL_law_1219 dL_law_1220 dL_law_1221 dL_law_1222 dL_law_1223 ?_
  refine z_callSj C (σ' := bx σx) (w' := wxOf w B) (L' := zLx) (rest := []) (av := (.ref ((wxOf w B).2.2 0) :: [.int (xs (6 * t + 1)), .int (xs (6 * t + 2)), .int (xs (6 * t + 3))])) (zPay.ofW q1317 q74) (fun H ls hH _ => zInv_V C (As := [.int (xs (6 * t + 1)), .int (xs (6 * t + 2)), .int (xs (6 * t + 3))]) (rest := []) (ci := 0) (T := TX0) (N := 8) rfl (zSee.pool (outP_x ly_x0)) hH q1314 q1315 q1316 (Or.inr ⟨_, rfl⟩) q1317 mh_X0 np_X0_put dL_law_1224) (sub_x h.2.1) (tX0_put l (wxOf w B) ex) (by show 100 ≤ 100 * (r + 1); omega) (by show 5000 ≤ 5000 * (r + 1); omega) (Nat.le_of_ble_eq_true rfl) (Nat.le_of_ble_eq_true rfl) (fun f1 f2 f3 => ⟨out w B σx' σm (100 * r) (5000 * r), bk_x h.2.1, (by show 100 * r + 100 ≤ 100 * (r + 1) + _; omega), (by show 5000 * r + 5000 ≤ 5000 * (r + 1) + _; omega), ?_⟩)
  have hS' := h.2.1.next f1 f2 f3
  refine z_aload_n C 2 dL_law_1227 rfl rfl ?_
  refine lw_arg hC (k := 1) (n := 1) (by omega) rfl dL_law_1228 dL_law_1229 dL_law_1230 dL_law_1231 dL_law_1232 ?_
  refine lw_arg hC (k := 2) (n := 2) (by omega) rfl dL_law_1233 dL_law_1234 dL_law_1235 dL_law_1236 dL_law_1237 ?_
  refine lw_arg hC (k := 3) (n := 3) (by omega) rfl dL_law_1238 dL_law_1239 dL_law_1240 dL_law_1241 dL_law_1242 ?_
  refine z_callSj C (σ' := bm σm σx'.2.2.2.1) (w' := wmOf w B) (L' := zLm) (rest := [.int rv]) (av := (.ref ((wmOf w B).2.2 0) :: [.int (xs (6 * t + 1)), .int (xs (6 * t + 2)), .int (xs (6 * t + 3))])) (zPay.of q1837 q83) (fun H ls hH _ => zInv_V C (As := [.int (xs (6 * t + 1)), .int (xs (6 * t + 2)), .int (xs (6 * t + 3))]) (rest := [.int rv]) (ci := 6) (T := TX6) (N := 24) rfl (zSee.pool (outP_m ly_m0)) hH q1834 q1835 q1836 (Or.inl rfl) q1837 mh_X6 np_X6_put dL_law_1243) (sub_m h.2.2) (tX6_put l (wmOf w B) em) (Nat.zero_le _) (Nat.zero_le _) (Nat.le_of_ble_eq_true rfl) (Nat.le_of_ble_eq_true rfl) (fun g1 g2 g3 => ⟨out w B σx' σm' (100 * r) (5000 * r), bk_m hS' h2, Nat.le_add_right _ _, Nat.le_add_right _ _, ?_⟩)
  refine z_icmp_eq C 1468 dL_law_1246 (by decide) (fun _ => kk _ _ (LI.next hR hS' h.2.2 h2)) (fun q => absurd rfl q)
set_option maxHeartbeats 4000000 in
set_option maxRecDepth 100000 in
theorem lwc_31 {p : Program} {l : Launch} {e : Env} {s : State} {m : MethodId} {args : Array Value} {below : List Frame} {meth : Method} {c : Code} {Q : State → Prop} {w : ZW} {A : Nat → Prop} {b L B : Nat} {xs : Nat → Int32} {t r N : Nat} {σx σm : ZS} (hC : LC p s m args meth c w A b L xs) (ht : 6 * t + 6 ≤ L) (hN : N < 1000) (h : LI w B N σx σm) (kk : ∀ σx' σm', LI w B (N + 1) σx' σm' → Z p l e room_1 s m args below meth c Q w zL0 A 4 (out w B σx' σm' (100 * r) (5000 * r)) 1468 (lvL w B b t) []) : Z p l e room_1 s m args below meth c Q w zL0 A 4 (out w B σx σm (100 * (r + 1)) (5000 * (r + 1))) 1251 (lvL w B b t) [] := by
  obtain ⟨C, hX, hbl, hbA, hL⟩ := id hC
  obtain ⟨rv, σx', σm', ex, em, hR, h2⟩ := act_S (m := fun σ => fX6_move σ (xs (6 * t + 1)) (xs (6 * t + 2)) (xs (6 * t + 3)) (xs (6 * t + 4)) (xs (6 * t + 5))) (fun S => move_act (p1 := xs (6 * t + 1)) (p2 := xs (6 * t + 2)) (p3 := xs (6 * t + 3)) (p4 := xs (6 * t + 4)) (p5 := xs (6 * t + 5)) (show 4 ≤ 100 by decide) (show 1000 ≤ 5000 by decide) (h.rr S))
  refine z_aload_n C 1 dL_law_1251 rfl rfl ?_
  refine lw_arg hC (k := 1) (n := 1) (by omega) rfl dL_law_1252 dL_law_1253 dL_law_1254 dL_law_1255 dL_law_1256 ?_
  refine lw_arg hC (k := 2) (n := 2) (by omega) rfl dL_law_1257 dL_law_1258 dL_law_1259 dL_law_1260 dL_law_1261 ?_
  refine lw_arg hC (k := 3) (n := 3) (by omega) rfl dL_law_1262 dL_law_1263 dL_law_1264 dL_law_1265 dL_law_1266 ?_
  refine lw_arg hC (k := 4) (n := 4) (by omega) rfl dL_law_1267 dL_law_1268 dL_law_1269 dL_law_1270 dL_law_1271 ?_
  refine lw_arg hC (k := 5) (n := 5) (by omega) rfl dL_law_1272 dL_law_1273 dL_law_1274 dL_law_1275 dL_law_1276 ?_
  refine z_callSj C (σ' := bx σx) (w' := wxOf w B) (L' := zLx) (rest := []) (av := (.ref ((wxOf w B).2.2 0) :: [.int (xs (6 * t + 1)), .int (xs (6 * t + 2)), .int (xs (6 * t + 3)), .int (xs (6 * t + 4)), .int (xs (6 * t + 5))])) (zPay.ofW q1333 q74) (fun H ls hH _ => zInv_V C (As := [.int (xs (6 * t + 1)), .int (xs (6 * t + 2)), .int (xs (6 * t + 3)), .int (xs (6 * t + 4)), .int (xs (6 * t + 5))]) (rest := []) (ci := 0) (T := TX0) (N := 8) rfl (zSee.pool (outP_x ly_x0)) hH q1330 q1331 q1332 (Or.inr ⟨_, rfl⟩) q1333 mh_X0 np_X0_move dL_law_1277) (sub_x h.2.1) (tX0_move l (wxOf w B) ex) (by show 100 ≤ 100 * (r + 1); omega) (by show 5000 ≤ 5000 * (r + 1); omega) (Nat.le_of_ble_eq_true rfl) (Nat.le_of_ble_eq_true rfl) (fun f1 f2 f3 => ⟨out w B σx' σm (100 * r) (5000 * r), bk_x h.2.1, (by show 100 * r + 100 ≤ 100 * (r + 1) + _; omega), (by show 5000 * r + 5000 ≤ 5000 * (r + 1) + _; omega), ?_⟩)
  have hS' := h.2.1.next f1 f2 f3
  refine z_aload_n C 2 dL_law_1280 rfl rfl ?_
  refine lw_arg hC (k := 1) (n := 1) (by omega) rfl dL_law_1281 dL_law_1282 dL_law_1283 dL_law_1284 dL_law_1285 ?_
  refine lw_arg hC (k := 2) (n := 2) (by omega) rfl dL_law_1286 dL_law_1287 dL_law_1288 dL_law_1289 dL_law_1290 ?_
  refine lw_arg hC (k := 3) (n := 3) (by omega) rfl dL_law_1291 dL_law_1292 dL_law_1293 dL_law_1294 dL_law_1295 ?_
  refine lw_arg hC (k := 4) (n := 4) (by omega) rfl dL_law_1296 dL_law_1297 dL_law_1298 dL_law_1299 dL_law_1300 ?_
  refine lw_arg hC (k := 5) (n := 5) (by omega) rfl dL_law_1301 dL_law_1302 dL_law_1303 dL_law_1304 dL_law_1305 ?_
  refine z_callSj C (σ' := bm σm σx'.2.2.2.1) (w' := wmOf w B) (L' := zLm) (rest := [.int rv]) (av := (.ref ((wmOf w B).2.2 0) :: [.int (xs (6 * t + 1)), .int (xs (6 * t + 2)), .int (xs (6 * t + 3)), .int (xs (6 * t + 4)), .int (xs (6 * t + 5))])) (zPay.of q1841 q83) (fun H ls hH _ => zInv_V C (As := [.int (xs (6 * t + 1)), .int (xs (6 * t + 2)), .int (xs (6 * t + 3)), .int (xs (6 * t + 4)), .int (xs (6 * t + 5))]) (rest := [.int rv]) (ci := 6) (T := TX6) (N := 24) rfl (zSee.pool (outP_m ly_m0)) hH q1838 q1839 q1840 (Or.inl rfl) q1841 mh_X6 np_X6_move dL_law_1306) (sub_m h.2.2) (tX6_move l (wmOf w B) em) (Nat.zero_le _) (Nat.zero_le _) (Nat.le_of_ble_eq_true rfl) (Nat.le_of_ble_eq_true rfl) (fun g1 g2 g3 => ⟨out w B σx' σm' (100 * r) (5000 * r), bk_m hS' h2, Nat.le_add_right _ _, Nat.le_add_right _ _, ?_⟩)
  refine z_icmp_eq C 1468 dL_law_1309 (by decide) (fun _ => kk _ _ (LI.next hR hS' h.2.2 h2)) (fun q => absurd rfl q)
set_option maxHeartbeats 4000000 in
set_option maxRecDepth 100000 in
theorem lwc_32 {p : Program} {l : Launch} {e : Env} {s : State} {m : MethodId} {args : Array Value} {below : List Frame} {meth : Method} {c : Code} {Q : State → Prop} {w : ZW} {A : Nat → Prop} {b L B : Nat} {xs : Nat → Int32} {t r N : Nat} {σx σm : ZS} (hC : LC p s m args meth c w A b L xs) (ht : 6 * t + 6 ≤ L) (hN : N < 1000) (h : LI w B N σx σm) (kk : ∀ σx' σm', LI w B (N + 1) σx' σm' → Z p l e room_1 s m args below meth c Q w zL0 A 4 (out w B σx' σm' (100 * r) (5000 * r)) 1468 (lvL w B b t) []) : Z p l e room_1 s m args below meth c Q w zL0 A 4 (out w B σx σm (100 * (r + 1)) (5000 * (r + 1))) 1314 (lvL w B b t) [] := by
  obtain ⟨C, hX, hbl, hbA, hL⟩ := id hC
  obtain ⟨rv, σx', σm', ex, em, hR, h2⟩ := act_S (m := fun σ => fX6_beds σ (xs (6 * t + 1))) (fun S => beds_act (p1 := xs (6 * t + 1)) (h.rr S))
  refine z_aload_n C 1 dL_law_1314 rfl rfl ?_
  refine lw_arg hC (k := 1) (n := 1) (by omega) rfl dL_law_1315 dL_law_1316 dL_law_1317 dL_law_1318 dL_law_1319 ?_
  refine z_callSj C (σ' := bx σx) (w' := wxOf w B) (L' := zLx) (rest := []) (av := (.ref ((wxOf w B).2.2 0) :: [.int (xs (6 * t + 1))])) (zPay.ofW q1268 q74) (fun H ls hH _ => zInv_V C (As := [.int (xs (6 * t + 1))]) (rest := []) (ci := 0) (T := TX0) (N := 8) rfl (zSee.pool (outP_x ly_x0)) hH q1265 q1266 q1267 (Or.inr ⟨_, rfl⟩) q1268 mh_X0 np_X0_beds dL_law_1320) (sub_x h.2.1) (tX0_beds l (wxOf w B) ex) (by show 100 ≤ 100 * (r + 1); omega) (by show 5000 ≤ 5000 * (r + 1); omega) (Nat.le_of_ble_eq_true rfl) (Nat.le_of_ble_eq_true rfl) (fun f1 f2 f3 => ⟨out w B σx' σm (100 * r) (5000 * r), bk_x h.2.1, (by show 100 * r + 100 ≤ 100 * (r + 1) + _; omega), (by show 5000 * r + 5000 ≤ 5000 * (r + 1) + _; omega), ?_⟩)
  have hS' := h.2.1.next f1 f2 f3
  refine z_aload_n C 2 dL_law_1323 rfl rfl ?_
  refine lw_arg hC (k := 1) (n := 1) (by omega) rfl dL_law_1324 dL_law_1325 dL_law_1326 dL_law_1327 dL_law_1328 ?_
  refine z_callSj C (σ' := bm σm σx'.2.2.2.1) (w' := wmOf w B) (L' := zLm) (rest := [.int rv]) (av := (.ref ((wmOf w B).2.2 0) :: [.int (xs (6 * t + 1))])) (zPay.of q1845 q83) (fun H ls hH _ => zInv_V C (As := [.int (xs (6 * t + 1))]) (rest := [.int rv]) (ci := 6) (T := TX6) (N := 24) rfl (zSee.pool (outP_m ly_m0)) hH q1842 q1843 q1844 (Or.inl rfl) q1845 mh_X6 np_X6_beds dL_law_1329) (sub_m h.2.2) (tX6_beds l (wmOf w B) em) (Nat.zero_le _) (Nat.zero_le _) (Nat.le_of_ble_eq_true rfl) (Nat.le_of_ble_eq_true rfl) (fun g1 g2 g3 => ⟨out w B σx' σm' (100 * r) (5000 * r), bk_m hS' h2, Nat.le_add_right _ _, Nat.le_add_right _ _, ?_⟩)
  refine z_icmp_eq C 1468 dL_law_1332 (by decide) (fun _ => kk _ _ (LI.next hR hS' h.2.2 h2)) (fun q => absurd rfl q)
set_option maxHeartbeats 4000000 in
set_option maxRecDepth 100000 in
theorem lwc_33 {p : Program} {l : Launch} {e : Env} {s : State} {m : MethodId} {args : Array Value} {below : List Frame} {meth : Method} {c : Code} {Q : State → Prop} {w : ZW} {A : Nat → Prop} {b L B : Nat} {xs : Nat → Int32} {t r N : Nat} {σx σm : ZS} (hC : LC p s m args meth c w A b L xs) (ht : 6 * t + 6 ≤ L) (hN : N < 1000) (h : LI w B N σx σm) (kk : ∀ σx' σm', LI w B (N + 1) σx' σm' → Z p l e room_1 s m args below meth c Q w zL0 A 4 (out w B σx' σm' (100 * r) (5000 * r)) 1468 (lvL w B b t) []) : Z p l e room_1 s m args below meth c Q w zL0 A 4 (out w B σx σm (100 * (r + 1)) (5000 * (r + 1))) 1337 (lvL w B b t) [] := by
  obtain ⟨C, hX, hbl, hbA, hL⟩ := id hC
  obtain ⟨rv, σx', σm', ex, em, hR, h2⟩ := act_S (m := fun σ => fX6_judge σ (xs (6 * t + 1))) (fun S => judge_act (p1 := xs (6 * t + 1)) (h.rr S))
  refine z_aload_n C 1 dL_law_1337 rfl rfl ?_
  refine lw_arg hC (k := 1) (n := 1) (by omega) rfl dL_law_1338 dL_law_1339 dL_law_1340 dL_law_1341 dL_law_1342 ?_
  refine z_callSj C (σ' := bx σx) (w' := wxOf w B) (L' := zLx) (rest := []) (av := (.ref ((wxOf w B).2.2 0) :: [.int (xs (6 * t + 1))])) (zPay.ofW q1272 q74) (fun H ls hH _ => zInv_V C (As := [.int (xs (6 * t + 1))]) (rest := []) (ci := 0) (T := TX0) (N := 8) rfl (zSee.pool (outP_x ly_x0)) hH q1269 q1270 q1271 (Or.inr ⟨_, rfl⟩) q1272 mh_X0 np_X0_judge dL_law_1343) (sub_x h.2.1) (tX0_judge l (wxOf w B) ex) (by show 100 ≤ 100 * (r + 1); omega) (by show 5000 ≤ 5000 * (r + 1); omega) (Nat.le_of_ble_eq_true rfl) (Nat.le_of_ble_eq_true rfl) (fun f1 f2 f3 => ⟨out w B σx' σm (100 * r) (5000 * r), bk_x h.2.1, (by show 100 * r + 100 ≤ 100 * (r + 1) + _; omega), (by show 5000 * r + 5000 ≤ 5000 * (r + 1) + _; omega), ?_⟩)
  have hS' := h.2.1.next f1 f2 f3
  refine z_aload_n C 2 dL_law_1346 rfl rfl ?_
  refine lw_arg hC (k := 1) (n := 1) (by omega) rfl dL_law_1347 dL_law_1348 dL_law_1349 dL_law_1350 dL_law_1351 ?_
  refine z_callSj C (σ' := bm σm σx'.2.2.2.1) (w' := wmOf w B) (L' := zLm) (rest := [.int rv]) (av := (.ref ((wmOf w B).2.2 0) :: [.int (xs (6 * t + 1))])) (zPay.of q1849 q83) (fun H ls hH _ => zInv_V C (As := [.int (xs (6 * t + 1))]) (rest := [.int rv]) (ci := 6) (T := TX6) (N := 24) rfl (zSee.pool (outP_m ly_m0)) hH q1846 q1847 q1848 (Or.inl rfl) q1849 mh_X6 np_X6_judge dL_law_1352) (sub_m h.2.2) (tX6_judge l (wmOf w B) em) (Nat.zero_le _) (Nat.zero_le _) (Nat.le_of_ble_eq_true rfl) (Nat.le_of_ble_eq_true rfl) (fun g1 g2 g3 => ⟨out w B σx' σm' (100 * r) (5000 * r), bk_m hS' h2, Nat.le_add_right _ _, Nat.le_add_right _ _, ?_⟩)
  refine z_icmp_eq C 1468 dL_law_1355 (by decide) (fun _ => kk _ _ (LI.next hR hS' h.2.2 h2)) (fun q => absurd rfl q)
set_option maxHeartbeats 4000000 in
set_option maxRecDepth 100000 in
theorem lwc_34 {p : Program} {l : Launch} {e : Env} {s : State} {m : MethodId} {args : Array Value} {below : List Frame} {meth : Method} {c : Code} {Q : State → Prop} {w : ZW} {A : Nat → Prop} {b L B : Nat} {xs : Nat → Int32} {t r N : Nat} {σx σm : ZS} (hC : LC p s m args meth c w A b L xs) (ht : 6 * t + 6 ≤ L) (hN : N < 1000) (h : LI w B N σx σm) (kk : ∀ σx' σm', LI w B (N + 1) σx' σm' → Z p l e room_1 s m args below meth c Q w zL0 A 4 (out w B σx' σm' (100 * r) (5000 * r)) 1468 (lvL w B b t) []) : Z p l e room_1 s m args below meth c Q w zL0 A 4 (out w B σx σm (100 * (r + 1)) (5000 * (r + 1))) 1360 (lvL w B b t) [] := by
  obtain ⟨C, hX, hbl, hbA, hL⟩ := id hC
  obtain ⟨rv, σx', σm', ex, em, hR, h2⟩ := act_S (m := fun σ => fX6_image σ) (fun S => image_act  hN (h.rr S))
  refine z_aload_n C 1 dL_law_1360 rfl rfl ?_
  refine z_callSj C (σ' := bx σx) (w' := wxOf w B) (L' := zLx) (rest := []) (av := (.ref ((wxOf w B).2.2 0) :: [])) (zPay.of q1358 q74) (fun H ls hH _ => zInv_V C (As := []) (rest := []) (ci := 0) (T := TX0) (N := 8) rfl (zSee.pool (outP_x ly_x0)) hH q1355 q1356 q1357 (Or.inl rfl) q1358 mh_X0 np_X0_image dL_law_1361) (sub_x h.2.1) (tX0_image l (wxOf w B) ex) (by show 100 ≤ 100 * (r + 1); omega) (by show 5000 ≤ 5000 * (r + 1); omega) (Nat.le_of_ble_eq_true rfl) (Nat.le_of_ble_eq_true rfl) (fun f1 f2 f3 => ⟨out w B σx' σm (100 * r) (5000 * r), bk_x h.2.1, (by show 100 * r + 100 ≤ 100 * (r + 1) + _; omega), (by show 5000 * r + 5000 ≤ 5000 * (r + 1) + _; omega), ?_⟩)
  have hS' := h.2.1.next f1 f2 f3
  refine z_aload_n C 2 dL_law_1364 rfl rfl ?_
  refine z_callSj C (σ' := bm σm σx'.2.2.2.1) (w' := wmOf w B) (L' := zLm) (rest := [.int rv]) (av := (.ref ((wmOf w B).2.2 0) :: [])) (zPay.of q1853 q83) (fun H ls hH _ => zInv_V C (As := []) (rest := [.int rv]) (ci := 6) (T := TX6) (N := 24) rfl (zSee.pool (outP_m ly_m0)) hH q1850 q1851 q1852 (Or.inl rfl) q1853 mh_X6 np_X6_image dL_law_1365) (sub_m h.2.2) (tX6_image l (wmOf w B) em) (Nat.zero_le _) (Nat.zero_le _) (Nat.le_of_ble_eq_true rfl) (Nat.le_of_ble_eq_true rfl) (fun g1 g2 g3 => ⟨out w B σx' σm' (100 * r) (5000 * r), bk_m hS' h2, Nat.le_add_right _ _, Nat.le_add_right _ _, ?_⟩)
  refine z_icmp_eq C 1468 dL_law_1368 (by decide) (fun _ => kk _ _ (LI.next hR hS' h.2.2 h2)) (fun q => absurd rfl q)
set_option maxHeartbeats 4000000 in
set_option maxRecDepth 100000 in
theorem lwc_35 {p : Program} {l : Launch} {e : Env} {s : State} {m : MethodId} {args : Array Value} {below : List Frame} {meth : Method} {c : Code} {Q : State → Prop} {w : ZW} {A : Nat → Prop} {b L B : Nat} {xs : Nat → Int32} {t r N : Nat} {σx σm : ZS} (hC : LC p s m args meth c w A b L xs) (ht : 6 * t + 6 ≤ L) (hN : N < 1000) (h : LI w B N σx σm) (kk : ∀ σx' σm', LI w B (N + 1) σx' σm' → Z p l e room_1 s m args below meth c Q w zL0 A 4 (out w B σx' σm' (100 * r) (5000 * r)) 1468 (lvL w B b t) []) : Z p l e room_1 s m args below meth c Q w zL0 A 4 (out w B σx σm (100 * (r + 1)) (5000 * (r + 1))) 1373 (lvL w B b t) [] := by
  obtain ⟨C, hX, hbl, hbA, hL⟩ := id hC
  obtain ⟨rv, σx', σm', ex, em, hR, h2⟩ := act_S (m := fun σ => fX6_restore σ) (fun S => restore_act  hN (h.rr S))
  refine z_aload_n C 1 dL_law_1373 rfl rfl ?_
  refine z_callSj C (σ' := bx σx) (w' := wxOf w B) (L' := zLx) (rest := []) (av := (.ref ((wxOf w B).2.2 0) :: [])) (zPay.ofW q1362 q74) (fun H ls hH _ => zInv_V C (As := []) (rest := []) (ci := 0) (T := TX0) (N := 8) rfl (zSee.pool (outP_x ly_x0)) hH q1359 q1360 q1361 (Or.inr ⟨_, rfl⟩) q1362 mh_X0 np_X0_restore dL_law_1374) (sub_x h.2.1) (tX0_restore l (wxOf w B) ex) (by show 100 ≤ 100 * (r + 1); omega) (by show 5000 ≤ 5000 * (r + 1); omega) (Nat.le_of_ble_eq_true rfl) (Nat.le_of_ble_eq_true rfl) (fun f1 f2 f3 => ⟨out w B σx' σm (100 * r) (5000 * r), bk_x h.2.1, (by show 100 * r + 100 ≤ 100 * (r + 1) + _; omega), (by show 5000 * r + 5000 ≤ 5000 * (r + 1) + _; omega), ?_⟩)
  have hS' := h.2.1.next f1 f2 f3
  refine z_aload_n C 2 dL_law_1377 rfl rfl ?_
  refine z_callSj C (σ' := bm σm σx'.2.2.2.1) (w' := wmOf w B) (L' := zLm) (rest := [.int rv]) (av := (.ref ((wmOf w B).2.2 0) :: [])) (zPay.of q1857 q83) (fun H ls hH _ => zInv_V C (As := []) (rest := [.int rv]) (ci := 6) (T := TX6) (N := 24) rfl (zSee.pool (outP_m ly_m0)) hH q1854 q1855 q1856 (Or.inl rfl) q1857 mh_X6 np_X6_restore dL_law_1378) (sub_m h.2.2) (tX6_restore l (wmOf w B) em) (Nat.zero_le _) (Nat.zero_le _) (Nat.le_of_ble_eq_true rfl) (Nat.le_of_ble_eq_true rfl) (fun g1 g2 g3 => ⟨out w B σx' σm' (100 * r) (5000 * r), bk_m hS' h2, Nat.le_add_right _ _, Nat.le_add_right _ _, ?_⟩)
  refine z_icmp_eq C 1468 dL_law_1381 (by decide) (fun _ => kk _ _ (LI.next hR hS' h.2.2 h2)) (fun q => absurd rfl q)
set_option maxHeartbeats 4000000 in
set_option maxRecDepth 100000 in
theorem lwc_36 {p : Program} {l : Launch} {e : Env} {s : State} {m : MethodId} {args : Array Value} {below : List Frame} {meth : Method} {c : Code} {Q : State → Prop} {w : ZW} {A : Nat → Prop} {b L B : Nat} {xs : Nat → Int32} {t r N : Nat} {σx σm : ZS} (hC : LC p s m args meth c w A b L xs) (ht : 6 * t + 6 ≤ L) (hN : N < 1000) (h : LI w B N σx σm) (kk : ∀ σx' σm', LI w B (N + 1) σx' σm' → Z p l e room_1 s m args below meth c Q w zL0 A 4 (out w B σx' σm' (100 * r) (5000 * r)) 1468 (lvL w B b t) []) : Z p l e room_1 s m args below meth c Q w zL0 A 4 (out w B σx σm (100 * (r + 1)) (5000 * (r + 1))) 1386 (lvL w B b t) [] := by
  obtain ⟨C, hX, hbl, hbA, hL⟩ := id hC
  obtain ⟨rv, σx', σm', ex, em, hR, h2⟩ := act_S (m := fun σ => fX6_tell σ (xs (6 * t + 1))) (fun S => tell_act (p1 := xs (6 * t + 1)) (h.rr S))
  refine z_aload_n C 1 dL_law_1386 rfl rfl ?_
  refine lw_arg hC (k := 1) (n := 1) (by omega) rfl dL_law_1387 dL_law_1388 dL_law_1389 dL_law_1390 dL_law_1391 ?_
  refine z_callSj C (σ' := bx σx) (w' := wxOf w B) (L' := zLx) (rest := []) (av := (.ref ((wxOf w B).2.2 0) :: [.int (xs (6 * t + 1))])) (zPay.ofW q1366 q74) (fun H ls hH _ => zInv_V C (As := [.int (xs (6 * t + 1))]) (rest := []) (ci := 0) (T := TX0) (N := 8) rfl (zSee.pool (outP_x ly_x0)) hH q1363 q1364 q1365 (Or.inr ⟨_, rfl⟩) q1366 mh_X0 np_X0_tell dL_law_1392) (sub_x h.2.1) (tX0_tell l (wxOf w B) ex) (by show 100 ≤ 100 * (r + 1); omega) (by show 5000 ≤ 5000 * (r + 1); omega) (Nat.le_of_ble_eq_true rfl) (Nat.le_of_ble_eq_true rfl) (fun f1 f2 f3 => ⟨out w B σx' σm (100 * r) (5000 * r), bk_x h.2.1, (by show 100 * r + 100 ≤ 100 * (r + 1) + _; omega), (by show 5000 * r + 5000 ≤ 5000 * (r + 1) + _; omega), ?_⟩)
  have hS' := h.2.1.next f1 f2 f3
  refine z_aload_n C 2 dL_law_1395 rfl rfl ?_
  refine lw_arg hC (k := 1) (n := 1) (by omega) rfl dL_law_1396 dL_law_1397 dL_law_1398 dL_law_1399 dL_law_1400 ?_
  refine z_callSj C (σ' := bm σm σx'.2.2.2.1) (w' := wmOf w B) (L' := zLm) (rest := [.int rv]) (av := (.ref ((wmOf w B).2.2 0) :: [.int (xs (6 * t + 1))])) (zPay.of q1861 q83) (fun H ls hH _ => zInv_V C (As := [.int (xs (6 * t + 1))]) (rest := [.int rv]) (ci := 6) (T := TX6) (N := 24) rfl (zSee.pool (outP_m ly_m0)) hH q1858 q1859 q1860 (Or.inl rfl) q1861 mh_X6 np_X6_tell dL_law_1401) (sub_m h.2.2) (tX6_tell l (wmOf w B) em) (Nat.zero_le _) (Nat.zero_le _) (Nat.le_of_ble_eq_true rfl) (Nat.le_of_ble_eq_true rfl) (fun g1 g2 g3 => ⟨out w B σx' σm' (100 * r) (5000 * r), bk_m hS' h2, Nat.le_add_right _ _, Nat.le_add_right _ _, ?_⟩)
  refine z_icmp_eq C 1468 dL_law_1404 (by decide) (fun _ => kk _ _ (LI.next hR hS' h.2.2 h2)) (fun q => absurd rfl q)
set_option maxHeartbeats 4000000 in
set_option maxRecDepth 100000 in
theorem lwc_37 {p : Program} {l : Launch} {e : Env} {s : State} {m : MethodId} {args : Array Value} {below : List Frame} {meth : Method} {c : Code} {Q : State → Prop} {w : ZW} {A : Nat → Prop} {b L B : Nat} {xs : Nat → Int32} {t r N : Nat} {σx σm : ZS} (hC : LC p s m args meth c w A b L xs) (ht : 6 * t + 6 ≤ L) (hN : N < 1000) (h : LI w B N σx σm) (kk : ∀ σx' σm', LI w B (N + 1) σx' σm' → Z p l e room_1 s m args below meth c Q w zL0 A 4 (out w B σx' σm' (100 * r) (5000 * r)) 1468 (lvL w B b t) []) : Z p l e room_1 s m args below meth c Q w zL0 A 4 (out w B σx σm (100 * (r + 1)) (5000 * (r + 1))) 1409 (lvL w B b t) [] := by
  obtain ⟨C, hX, hbl, hbA, hL⟩ := id hC
  obtain ⟨rv, σx', σm', ex, em, hR, h2⟩ := act_S (m := fun σ => fX6_check σ) (fun S => check_act  (h.rr S))
  refine z_aload_n C 1 dL_law_1409 rfl rfl ?_
  refine z_callSj C (σ' := bx σx) (w' := wxOf w B) (L' := zLx) (rest := []) (av := (.ref ((wxOf w B).2.2 0) :: [])) (zPay.of q1370 q74) (fun H ls hH _ => zInv_V C (As := []) (rest := []) (ci := 0) (T := TX0) (N := 8) rfl (zSee.pool (outP_x ly_x0)) hH q1367 q1368 q1369 (Or.inl rfl) q1370 mh_X0 np_X0_check dL_law_1410) (sub_x h.2.1) (tX0_check l (wxOf w B) ex) (by show 100 ≤ 100 * (r + 1); omega) (by show 5000 ≤ 5000 * (r + 1); omega) (Nat.le_of_ble_eq_true rfl) (Nat.le_of_ble_eq_true rfl) (fun f1 f2 f3 => ⟨out w B σx' σm (100 * r) (5000 * r), bk_x h.2.1, (by show 100 * r + 100 ≤ 100 * (r + 1) + _; omega), (by show 5000 * r + 5000 ≤ 5000 * (r + 1) + _; omega), ?_⟩)
  have hS' := h.2.1.next f1 f2 f3
  refine z_aload_n C 2 dL_law_1413 rfl rfl ?_
  refine z_callSj C (σ' := bm σm σx'.2.2.2.1) (w' := wmOf w B) (L' := zLm) (rest := [.int rv]) (av := (.ref ((wmOf w B).2.2 0) :: [])) (zPay.of q1865 q83) (fun H ls hH _ => zInv_V C (As := []) (rest := [.int rv]) (ci := 6) (T := TX6) (N := 24) rfl (zSee.pool (outP_m ly_m0)) hH q1862 q1863 q1864 (Or.inl rfl) q1865 mh_X6 np_X6_check dL_law_1414) (sub_m h.2.2) (tX6_check l (wmOf w B) em) (Nat.zero_le _) (Nat.zero_le _) (Nat.le_of_ble_eq_true rfl) (Nat.le_of_ble_eq_true rfl) (fun g1 g2 g3 => ⟨out w B σx' σm' (100 * r) (5000 * r), bk_m hS' h2, Nat.le_add_right _ _, Nat.le_add_right _ _, ?_⟩)
  refine z_icmp_eq C 1468 dL_law_1417 (by decide) (fun _ => kk _ _ (LI.next hR hS' h.2.2 h2)) (fun q => absurd rfl q)
set_option maxHeartbeats 4000000 in
set_option maxRecDepth 100000 in
theorem lwc_38 {p : Program} {l : Launch} {e : Env} {s : State} {m : MethodId} {args : Array Value} {below : List Frame} {meth : Method} {c : Code} {Q : State → Prop} {w : ZW} {A : Nat → Prop} {b L B : Nat} {xs : Nat → Int32} {t r N : Nat} {σx σm : ZS} (hC : LC p s m args meth c w A b L xs) (ht : 6 * t + 6 ≤ L) (hN : N < 1000) (h : LI w B N σx σm) (kk : ∀ σx' σm', LI w B (N + 1) σx' σm' → Z p l e room_1 s m args below meth c Q w zL0 A 4 (out w B σx' σm' (100 * r) (5000 * r)) 1468 (lvL w B b t) []) : Z p l e room_1 s m args below meth c Q w zL0 A 4 (out w B σx σm (100 * (r + 1)) (5000 * (r + 1))) 1422 (lvL w B b t) [] := by
  obtain ⟨C, hX, hbl, hbA, hL⟩ := id hC
  obtain ⟨rv, σx', σm', ex, em, hR, h2⟩ := act_S (m := fun σ => fX6_count σ (xs (6 * t + 1))) (fun S => count_act (p1 := xs (6 * t + 1)) (h.rr S))
  refine z_aload_n C 1 dL_law_1422 rfl rfl ?_
  refine lw_arg hC (k := 1) (n := 1) (by omega) rfl dL_law_1423 dL_law_1424 dL_law_1425 dL_law_1426 dL_law_1427 ?_
  refine z_callSj C (σ' := bx σx) (w' := wxOf w B) (L' := zLx) (rest := []) (av := (.ref ((wxOf w B).2.2 0) :: [.int (xs (6 * t + 1))])) (zPay.ofW q1374 q74) (fun H ls hH _ => zInv_V C (As := [.int (xs (6 * t + 1))]) (rest := []) (ci := 0) (T := TX0) (N := 8) rfl (zSee.pool (outP_x ly_x0)) hH q1371 q1372 q1373 (Or.inr ⟨_, rfl⟩) q1374 mh_X0 np_X0_count dL_law_1428) (sub_x h.2.1) (tX0_count l (wxOf w B) ex) (by show 100 ≤ 100 * (r + 1); omega) (by show 5000 ≤ 5000 * (r + 1); omega) (Nat.le_of_ble_eq_true rfl) (Nat.le_of_ble_eq_true rfl) (fun f1 f2 f3 => ⟨out w B σx' σm (100 * r) (5000 * r), bk_x h.2.1, (by show 100 * r + 100 ≤ 100 * (r + 1) + _; omega), (by show 5000 * r + 5000 ≤ 5000 * (r + 1) + _; omega), ?_⟩)
  have hS' := h.2.1.next f1 f2 f3
  refine z_aload_n C 2 dL_law_1431 rfl rfl ?_
  refine lw_arg hC (k := 1) (n := 1) (by omega) rfl dL_law_1432 dL_law_1433 dL_law_1434 dL_law_1435 dL_law_1436 ?_
  refine z_callSj C (σ' := bm σm σx'.2.2.2.1) (w' := wmOf w B) (L' := zLm) (rest := [.int rv]) (av := (.ref ((wmOf w B).2.2 0) :: [.int (xs (6 * t + 1))])) (zPay.of q1869 q83) (fun H ls hH _ => zInv_V C (As := [.int (xs (6 * t + 1))]) (rest := [.int rv]) (ci := 6) (T := TX6) (N := 24) rfl (zSee.pool (outP_m ly_m0)) hH q1866 q1867 q1868 (Or.inl rfl) q1869 mh_X6 np_X6_count dL_law_1437) (sub_m h.2.2) (tX6_count l (wmOf w B) em) (Nat.zero_le _) (Nat.zero_le _) (Nat.le_of_ble_eq_true rfl) (Nat.le_of_ble_eq_true rfl) (fun g1 g2 g3 => ⟨out w B σx' σm' (100 * r) (5000 * r), bk_m hS' h2, Nat.le_add_right _ _, Nat.le_add_right _ _, ?_⟩)
  refine z_icmp_eq C 1468 dL_law_1440 (by decide) (fun _ => kk _ _ (LI.next hR hS' h.2.2 h2)) (fun q => absurd rfl q)
set_option maxHeartbeats 4000000 in
set_option maxRecDepth 100000 in
theorem lwc_39 {p : Program} {l : Launch} {e : Env} {s : State} {m : MethodId} {args : Array Value} {below : List Frame} {meth : Method} {c : Code} {Q : State → Prop} {w : ZW} {A : Nat → Prop} {b L B : Nat} {xs : Nat → Int32} {t r N : Nat} {σx σm : ZS} (hC : LC p s m args meth c w A b L xs) (ht : 6 * t + 6 ≤ L) (hN : N < 1000) (h : LI w B N σx σm) (kk : ∀ σx' σm', LI w B (N + 1) σx' σm' → Z p l e room_1 s m args below meth c Q w zL0 A 4 (out w B σx' σm' (100 * r) (5000 * r)) 1468 (lvL w B b t) []) : Z p l e room_1 s m args below meth c Q w zL0 A 4 (out w B σx σm (100 * (r + 1)) (5000 * (r + 1))) 1445 (lvL w B b t) [] := by
  obtain ⟨C, hX, hbl, hbA, hL⟩ := id hC
  obtain ⟨rv, σx', σm', ex, em, hR, h2⟩ := act_S (m := fun σ => fX6_told σ (xs (6 * t + 1))) (fun S => told_act (p1 := xs (6 * t + 1)) (h.rr S))
  refine z_aload_n C 1 dL_law_1445 rfl rfl ?_
  refine lw_arg hC (k := 1) (n := 1) (by omega) rfl dL_law_1446 dL_law_1447 dL_law_1448 dL_law_1449 dL_law_1450 ?_
  refine z_callSj C (σ' := bx σx) (w' := wxOf w B) (L' := zLx) (rest := []) (av := (.ref ((wxOf w B).2.2 0) :: [.int (xs (6 * t + 1))])) (zPay.ofW q1378 q74) (fun H ls hH _ => zInv_V C (As := [.int (xs (6 * t + 1))]) (rest := []) (ci := 0) (T := TX0) (N := 8) rfl (zSee.pool (outP_x ly_x0)) hH q1375 q1376 q1377 (Or.inr ⟨_, rfl⟩) q1378 mh_X0 np_X0_told dL_law_1451) (sub_x h.2.1) (tX0_told l (wxOf w B) ex) (by show 100 ≤ 100 * (r + 1); omega) (by show 5000 ≤ 5000 * (r + 1); omega) (Nat.le_of_ble_eq_true rfl) (Nat.le_of_ble_eq_true rfl) (fun f1 f2 f3 => ⟨out w B σx' σm (100 * r) (5000 * r), bk_x h.2.1, (by show 100 * r + 100 ≤ 100 * (r + 1) + _; omega), (by show 5000 * r + 5000 ≤ 5000 * (r + 1) + _; omega), ?_⟩)
  have hS' := h.2.1.next f1 f2 f3
  refine z_aload_n C 2 dL_law_1454 rfl rfl ?_
  refine lw_arg hC (k := 1) (n := 1) (by omega) rfl dL_law_1455 dL_law_1456 dL_law_1457 dL_law_1458 dL_law_1459 ?_
  refine z_callSj C (σ' := bm σm σx'.2.2.2.1) (w' := wmOf w B) (L' := zLm) (rest := [.int rv]) (av := (.ref ((wmOf w B).2.2 0) :: [.int (xs (6 * t + 1))])) (zPay.of q1873 q83) (fun H ls hH _ => zInv_V C (As := [.int (xs (6 * t + 1))]) (rest := [.int rv]) (ci := 6) (T := TX6) (N := 24) rfl (zSee.pool (outP_m ly_m0)) hH q1870 q1871 q1872 (Or.inl rfl) q1873 mh_X6 np_X6_told dL_law_1460) (sub_m h.2.2) (tX6_told l (wmOf w B) em) (Nat.zero_le _) (Nat.zero_le _) (Nat.le_of_ble_eq_true rfl) (Nat.le_of_ble_eq_true rfl) (fun g1 g2 g3 => ⟨out w B σx' σm' (100 * r) (5000 * r), bk_m hS' h2, Nat.le_add_right _ _, Nat.le_add_right _ _, ?_⟩)
  refine z_icmp_eq C 1468 dL_law_1463 (by decide) (fun _ => kk _ _ (LI.next hR hS' h.2.2 h2)) (fun q => absurd rfl q)
theorem and63 (v : Int32) : 0 ≤ (v &&& 63).toInt ∧ (v &&& 63).toInt ≤ 63 := by
  have e : (v &&& 63).toInt = (v.toBitVec &&& 63#32).toInt := rfl
  have h : (v.toBitVec &&& 63#32).toNat ≤ 63 := by
    rw [BitVec.toNat_and]
    exact Nat.and_le_right
  rw [e, BitVec.toInt_eq_toNat_of_lt (by omega)]
  omega
theorem more6 {L t : Nat} (hL : L ≤ 384) (ht : t ≤ 64) (h : ¬ on L - 6 < on (6 * t)) : 6 * t + 6 ≤ L := by
  by_cases h6 : 6 ≤ L
  · obtain ⟨M, rfl⟩ : ∃ M, L = M + 6 := ⟨L - 6, by omega⟩
    rw [← on_add, show on 6 = 6 from rfl, Int32.add_sub_cancel, on_lt (by omega) (by omega)] at h
    omega
  · refine absurd ?_ h
    rw [i_lt, i_ofNat (by omega)]
    rcases (show L = 0 ∨ L = 1 ∨ L = 2 ∨ L = 3 ∨ L = 4 ∨ L = 5 by omega) with rfl | rfl | rfl | rfl | rfl | rfl
    · exact Int.lt_of_lt_of_le (show (on 0 - 6).toInt < 0 by decide) (Int.natCast_nonneg _)
    · exact Int.lt_of_lt_of_le (show (on 1 - 6).toInt < 0 by decide) (Int.natCast_nonneg _)
    · exact Int.lt_of_lt_of_le (show (on 2 - 6).toInt < 0 by decide) (Int.natCast_nonneg _)
    · exact Int.lt_of_lt_of_le (show (on 3 - 6).toInt < 0 by decide) (Int.natCast_nonneg _)
    · exact Int.lt_of_lt_of_le (show (on 4 - 6).toInt < 0 by decide) (Int.natCast_nonneg _)
    · exact Int.lt_of_lt_of_le (show (on 5 - 6).toInt < 0 by decide) (Int.natCast_nonneg _)
set_option maxHeartbeats 4000000 in
set_option maxRecDepth 100000 in
theorem lw_case {p : Program} {l : Launch} {e : Env} {s : State} {m : MethodId} {args : Array Value} {below : List Frame} {meth : Method} {c : Code} {Q : State → Prop} {w : ZW} {A : Nat → Prop} {b L B : Nat} {xs : Nat → Int32} {t r N : Nat} {σx σm : ZS} (hC : LC p s m args meth c w A b L xs) (ht : 6 * t + 6 ≤ L) (hN : N < 1000) (h : LI w B N σx σm) (kk : ∀ σx' σm', LI w B (N + 1) σx' σm' → Z p l e room_1 s m args below meth c Q w zL0 A 4 (out w B σx' σm' (100 * r) (5000 * r)) 1468 (lvL w B b t) []) (kd : Z p l e room_1 s m args below meth c Q w zL0 A 4 (out w B σx σm (100 * (r + 1)) (5000 * (r + 1))) 1468 (lvL w B b t) []) : Z p l e room_1 s m args below meth c Q w zL0 A 4 (out w B σx σm (100 * (r + 1)) (5000 * (r + 1))) 27 (lvL w B b t) [] := by
  obtain ⟨C, hX, hbl, hbA, hL⟩ := id hC
  refine z_aload_n C 0 dL_law_27 rfl rfl ?_
  refine z_iload_n C 3 dL_law_28 rfl rfl ?_
  refine z_sld C hX hbl hbA (on_in (by omega) (by omega)) dL_law_29 ?_
  refine z_bipush C 63 dL_law_30 (by decide) ?_
  refine z_iand C dL_law_32 ?_
  obtain ⟨h0, h63⟩ := and63 (xs (on (6 * t)).toNatClampNeg)
  generalize xs (on (6 * t)).toNatClampNeg &&& 63 = v at h0 h63 ⊢
  by_cases h39 : 39 < v.toInt
  · exact z_tableOut C 1468 dL_law_33 (Or.inr h39) (by decide) kd
  · obtain ⟨k, hk⟩ : ∃ k : Nat, v.toInt = (k : Int) := ⟨v.toInt.toNat, by omega⟩
    have hk40 : k < 40 := by omega
    rcases (show k = 0 ∨ k = 1 ∨ k = 2 ∨ k = 3 ∨ k = 4 ∨ k = 5 ∨ k = 6 ∨ k = 7 ∨ k = 8 ∨ k = 9 ∨ k = 10 ∨ k = 11 ∨ k = 12 ∨ k = 13 ∨ k = 14 ∨ k = 15 ∨ k = 16 ∨ k = 17 ∨ k = 18 ∨ k = 19 ∨ k = 20 ∨ k = 21 ∨ k = 22 ∨ k = 23 ∨ k = 24 ∨ k = 25 ∨ k = 26 ∨ k = 27 ∨ k = 28 ∨ k = 29 ∨ k = 30 ∨ k = 31 ∨ k = 32 ∨ k = 33 ∨ k = 34 ∨ k = 35 ∨ k = 36 ∨ k = 37 ∨ k = 38 ∨ k = 39 by omega) with rfl | rfl | rfl | rfl | rfl | rfl | rfl | rfl | rfl | rfl | rfl | rfl | rfl | rfl | rfl | rfl | rfl | rfl | rfl | rfl | rfl | rfl | rfl | rfl | rfl | rfl | rfl | rfl | rfl | rfl | rfl | rfl | rfl | rfl | rfl | rfl | rfl | rfl | rfl | rfl
    · refine z_tableIn C 208 dL_law_33 (by rw [hk]; decide) (by rw [hk]; decide) (by rw [hk]; rfl) (by decide) ?_
      exact lwc_0 hC ht hN h kk
    · refine z_tableIn C 231 dL_law_33 (by rw [hk]; decide) (by rw [hk]; decide) (by rw [hk]; rfl) (by decide) ?_
      exact lwc_1 hC ht hN h kk
    · refine z_tableIn C 274 dL_law_33 (by rw [hk]; decide) (by rw [hk]; decide) (by rw [hk]; rfl) (by decide) ?_
      exact lwc_2 hC ht hN h kk
    · refine z_tableIn C 307 dL_law_33 (by rw [hk]; decide) (by rw [hk]; decide) (by rw [hk]; rfl) (by decide) ?_
      exact lwc_3 hC ht hN h kk
    · refine z_tableIn C 340 dL_law_33 (by rw [hk]; decide) (by rw [hk]; decide) (by rw [hk]; rfl) (by decide) ?_
      exact lwc_4 hC ht hN h kk
    · refine z_tableIn C 383 dL_law_33 (by rw [hk]; decide) (by rw [hk]; decide) (by rw [hk]; rfl) (by decide) ?_
      exact lwc_5 hC ht hN h kk
    · refine z_tableIn C 416 dL_law_33 (by rw [hk]; decide) (by rw [hk]; decide) (by rw [hk]; rfl) (by decide) ?_
      exact lwc_6 hC ht hN h kk
    · refine z_tableIn C 459 dL_law_33 (by rw [hk]; decide) (by rw [hk]; decide) (by rw [hk]; rfl) (by decide) ?_
      exact lwc_7 hC ht hN h kk
    · refine z_tableIn C 492 dL_law_33 (by rw [hk]; decide) (by rw [hk]; decide) (by rw [hk]; rfl) (by decide) ?_
      exact lwc_8 hC ht hN h kk
    · refine z_tableIn C 525 dL_law_33 (by rw [hk]; decide) (by rw [hk]; decide) (by rw [hk]; rfl) (by decide) ?_
      exact lwc_9 hC ht hN h kk
    · refine z_tableIn C 588 dL_law_33 (by rw [hk]; decide) (by rw [hk]; decide) (by rw [hk]; rfl) (by decide) ?_
      exact lwc_10 hC ht hN h kk
    · refine z_tableIn C 611 dL_law_33 (by rw [hk]; decide) (by rw [hk]; decide) (by rw [hk]; rfl) (by decide) ?_
      exact lwc_11 hC ht hN h kk
    · refine z_tableIn C 664 dL_law_33 (by rw [hk]; decide) (by rw [hk]; decide) (by rw [hk]; rfl) (by decide) ?_
      exact lwc_12 hC ht hN h kk
    · refine z_tableIn C 687 dL_law_33 (by rw [hk]; decide) (by rw [hk]; decide) (by rw [hk]; rfl) (by decide) ?_
      exact lwc_13 hC ht hN h kk
    · refine z_tableIn C 710 dL_law_33 (by rw [hk]; decide) (by rw [hk]; decide) (by rw [hk]; rfl) (by decide) ?_
      exact lwc_14 hC ht hN h kk
    · refine z_tableIn C 743 dL_law_33 (by rw [hk]; decide) (by rw [hk]; decide) (by rw [hk]; rfl) (by decide) ?_
      exact lwc_15 hC ht hN h kk
    · refine z_tableIn C 786 dL_law_33 (by rw [hk]; decide) (by rw [hk]; decide) (by rw [hk]; rfl) (by decide) ?_
      exact lwc_16 hC ht hN h kk
    · refine z_tableIn C 809 dL_law_33 (by rw [hk]; decide) (by rw [hk]; decide) (by rw [hk]; rfl) (by decide) ?_
      exact lwc_17 hC ht hN h kk
    · refine z_tableIn C 842 dL_law_33 (by rw [hk]; decide) (by rw [hk]; decide) (by rw [hk]; rfl) (by decide) ?_
      exact lwc_18 hC ht hN h kk
    · refine z_tableIn C 865 dL_law_33 (by rw [hk]; decide) (by rw [hk]; decide) (by rw [hk]; rfl) (by decide) ?_
      exact lwc_19 hC ht hN h kk
    · refine z_tableIn C 898 dL_law_33 (by rw [hk]; decide) (by rw [hk]; decide) (by rw [hk]; rfl) (by decide) ?_
      exact lwc_20 hC ht hN h kk
    · refine z_tableIn C 921 dL_law_33 (by rw [hk]; decide) (by rw [hk]; decide) (by rw [hk]; rfl) (by decide) ?_
      exact lwc_21 hC ht hN h kk
    · refine z_tableIn C 944 dL_law_33 (by rw [hk]; decide) (by rw [hk]; decide) (by rw [hk]; rfl) (by decide) ?_
      exact lwc_22 hC ht hN h kk
    · refine z_tableIn C 977 dL_law_33 (by rw [hk]; decide) (by rw [hk]; decide) (by rw [hk]; rfl) (by decide) ?_
      exact lwc_23 hC ht hN h kk
    · refine z_tableIn C 1000 dL_law_33 (by rw [hk]; decide) (by rw [hk]; decide) (by rw [hk]; rfl) (by decide) ?_
      exact lwc_24 hC ht hN h kk
    · refine z_tableIn C 1033 dL_law_33 (by rw [hk]; decide) (by rw [hk]; decide) (by rw [hk]; rfl) (by decide) ?_
      exact lwc_25 hC ht hN h kk
    · refine z_tableIn C 1076 dL_law_33 (by rw [hk]; decide) (by rw [hk]; decide) (by rw [hk]; rfl) (by decide) ?_
      exact lwc_26 hC ht hN h kk
    · refine z_tableIn C 1099 dL_law_33 (by rw [hk]; decide) (by rw [hk]; decide) (by rw [hk]; rfl) (by decide) ?_
      exact lwc_27 hC ht hN h kk
    · refine z_tableIn C 1142 dL_law_33 (by rw [hk]; decide) (by rw [hk]; decide) (by rw [hk]; rfl) (by decide) ?_
      exact lwc_28 hC ht hN h kk
    · refine z_tableIn C 1165 dL_law_33 (by rw [hk]; decide) (by rw [hk]; decide) (by rw [hk]; rfl) (by decide) ?_
      exact lwc_29 hC ht hN h kk
    · refine z_tableIn C 1208 dL_law_33 (by rw [hk]; decide) (by rw [hk]; decide) (by rw [hk]; rfl) (by decide) ?_
      exact lwc_30 hC ht hN h kk
    · refine z_tableIn C 1251 dL_law_33 (by rw [hk]; decide) (by rw [hk]; decide) (by rw [hk]; rfl) (by decide) ?_
      exact lwc_31 hC ht hN h kk
    · refine z_tableIn C 1314 dL_law_33 (by rw [hk]; decide) (by rw [hk]; decide) (by rw [hk]; rfl) (by decide) ?_
      exact lwc_32 hC ht hN h kk
    · refine z_tableIn C 1337 dL_law_33 (by rw [hk]; decide) (by rw [hk]; decide) (by rw [hk]; rfl) (by decide) ?_
      exact lwc_33 hC ht hN h kk
    · refine z_tableIn C 1360 dL_law_33 (by rw [hk]; decide) (by rw [hk]; decide) (by rw [hk]; rfl) (by decide) ?_
      exact lwc_34 hC ht hN h kk
    · refine z_tableIn C 1373 dL_law_33 (by rw [hk]; decide) (by rw [hk]; decide) (by rw [hk]; rfl) (by decide) ?_
      exact lwc_35 hC ht hN h kk
    · refine z_tableIn C 1386 dL_law_33 (by rw [hk]; decide) (by rw [hk]; decide) (by rw [hk]; rfl) (by decide) ?_
      exact lwc_36 hC ht hN h kk
    · refine z_tableIn C 1409 dL_law_33 (by rw [hk]; decide) (by rw [hk]; decide) (by rw [hk]; rfl) (by decide) ?_
      exact lwc_37 hC ht hN h kk
    · refine z_tableIn C 1422 dL_law_33 (by rw [hk]; decide) (by rw [hk]; decide) (by rw [hk]; rfl) (by decide) ?_
      exact lwc_38 hC ht hN h kk
    · refine z_tableIn C 1445 dL_law_33 (by rw [hk]; decide) (by rw [hk]; decide) (by rw [hk]; rfl) (by decide) ?_
      exact lwc_39 hC ht hN h kk
theorem z_low {p : Program} {l : Launch} {e : Env} {R : Room} {s : State} {m : MethodId} {args : Array Value} {below : List Frame} {meth : Method} {c : Code} {Q : State → Prop} {w : ZW} {L : ZL} {A : Nat → Prop} {nL : Nat} {σ : ZS} {pc c' n' : Nat} {lv : List (Nat × Value)} {st : List Value} (hc : c' ≤ σ.2.2.2.2.1) (hn : n' ≤ σ.2.2.2.2.2) (kk : Z p l e R s m args below meth c Q w L A nL (σ.1, σ.2.1, σ.2.2.1, σ.2.2.2.1, c', n') pc lv st) : Z p l e R s m args below meth c Q w L A nL σ pc lv st := by
  intro H locs k n ls h1 h2 h3 h4 h5 hl
  have e : ∀ i d, zCellOf w (σ.1, σ.2.1, σ.2.2.1, σ.2.2.2.1, c', n') i d = zCellOf w σ i d := fun i d => zCell_agree (σ := σ) (σ' := (σ.1, σ.2.1, σ.2.2.1, σ.2.2.2.1, c', n')) rfl rfl d
  exact kk H locs k n ls ⟨h1.1, fun i d hi => by rw [e]; exact h1.2.1 i d hi, h1.2.2.1, h1.2.2.2⟩ h2 h3 (by show k + c' ≤ _; omega) (by show n + n' ≤ _; omega) hl
set_option maxHeartbeats 4000000 in
set_option maxRecDepth 100000 in
theorem lw_loop {p : Program} {l : Launch} {e : Env} {s : State} {m : MethodId} {args : Array Value} {below : List Frame} {meth : Method} {c : Code} {Q : State → Prop} {w : ZW} {A : Nat → Prop} {b L B : Nat} {xs : Nat → Int32} (hC : LC p s m args meth c w A b L xs) (hend : ∀ (σ : ZS) (lv : List (Nat × Value)), Z p l e room_1 s m args below meth c Q w zL0 A 4 σ 1475 lv [.int 1]) : ∀ (r t N : Nat), t + r = 64 → N ≤ t → ∀ σx σm, LI w B N σx σm → Z p l e room_1 s m args below meth c Q w zL0 A 4 (out w B σx σm (100 * r) (5000 * r)) 18 (lvL w B b t) [] := by
  obtain ⟨C, hX, hbl, hbA, hL⟩ := id hC
  intro r
  induction r with
  | zero =>
    intro t N htr hN σx σm h
    refine z_iload_n C 3 dL_law_18 rfl rfl ?_
    refine z_aload_n C 0 dL_law_19 rfl rfl ?_
    refine z_slen C hX hbl hbA dL_law_20 ?_
    refine z_bipush C 6 dL_law_21 (by decide) ?_
    refine z_isub C dL_law_23 ?_
    refine z_icmp_gt C 1474 dL_law_24 (by decide) (fun _ => ?_) (fun q => ?_)
    · refine z_iconst C 1 dL_law_1474 (by decide) ?_
      exact hend _ _
    · have := more6 hL (by omega) q
      omega
  | succ r ih =>
    intro t N htr hN σx σm h
    have hnext : ∀ N', N' ≤ t + 1 → ∀ σx' σm', LI w B N' σx' σm' → ∀ c' n', 100 * r ≤ c' → 5000 * r ≤ n' → Z p l e room_1 s m args below meth c Q w zL0 A 4 (out w B σx' σm' c' n') 1468 (lvL w B b t) [] := by
      intro N' hN' σx' σm' h' c' n' hc' hn'
      refine z_low (c' := 100 * r) (n' := 5000 * r) hc' hn' ?_
      refine z_iinc C (on (6 * (t + 1))) 3 dL_law_1468 rfl (by rw [show Int32.ofInt 6 = on 6 from rfl, on_add, show 6 * (t + 1) = 6 * t + 6 by omega]) (by decide) rfl (lv' := [(3, .int (on (6 * (t + 1)))), (0, .ref b), (1, .ref ((wxOf w B).2.2 0)), (2, .ref ((wmOf w B).2.2 0))]) ?_
      refine z_goto C 18 dL_law_1471 (by decide) ?_
      exact z_lv [1, 2, 3, 0] rfl (ih (t + 1) N' (by omega) hN' σx' σm' h')
    refine z_iload_n C 3 dL_law_18 rfl rfl ?_
    refine z_aload_n C 0 dL_law_19 rfl rfl ?_
    refine z_slen C hX hbl hbA dL_law_20 ?_
    refine z_bipush C 6 dL_law_21 (by decide) ?_
    refine z_isub C dL_law_23 ?_
    refine z_icmp_gt C 1474 dL_law_24 (by decide) (fun _ => ?_) (fun q => ?_)
    · refine z_iconst C 1 dL_law_1474 (by decide) ?_
      exact hend _ _
    · exact lw_case hC (more6 hL (by omega) q) (by omega) h (fun σx' σm' h' => hnext (N + 1) (by omega) σx' σm' h' _ _ (Nat.le_refl _) (Nat.le_refl _)) (hnext N (by omega) σx σm h _ _ (by omega) (by omega))
