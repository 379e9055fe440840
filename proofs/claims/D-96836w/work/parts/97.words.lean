/-! what the Statement gives at the start: the tables, the strings, the statics (written by gen/mk97.py) -/
theorem str_of {args : Array Value} {s : State} {A : Nat → Prop} {own tx : String} {k : Nat} {b : List Int32} (hb : b.length < 2 ^ 31) (h1 : (Cond.stringRef own k tx).before args s = true) (h2 : (Cond.exactly (.string own k) "java/lang/String").before args s = true) (h3 : (Cond.eq (.field (.string own k) "java/lang/String" "coder" "B") (.int 0)).before args s = true) (h4 : (Cond.arrayOf (.field (.string own k) "java/lang/String" "value" "[B") .byte).before args s = true) (h5 : (Cond.eq (.length (.field (.string own k) "java/lang/String" "value" "[B")) (.int (Int32.ofNat b.length))).before args s = true) (h6 : ∀ j : Nat, j < b.length → (Cond.eq (.elem (.field (.string own k) "java/lang/String" "value" "[B") (.int (Int32.ofNat j))) (.int (b.getD j 0))).before args s = true) (hA : ∀ a : Nat, a < s.heap.size → ¬ A a) :
    ∃ q : Nat × Nat, vk_R own k tx q.1 s ∧ va_O "java/lang/String" q.1 A s s.heap ∧ va_OF "java/lang/String" "coder" "B" (.int 0) q.1 A s s.heap ∧ va_OF "java/lang/String" "value" "[B" (.ref q.2) q.1 A s s.heap ∧ va_T .byte q.2 b.length (fun j => .int (b.getD j 0)) A s s.heap := by
  have a1 : ∀ i : Nat, i < 1 → ([b.length] : List Nat).getD i 0 < 2 ^ 31 := by
    intro i hi
    obtain rfl : i = 0 := Nat.lt_one_iff.mp hi
    exact hb
  have a5 : ∀ i : Nat, i < 1 → (Cond.eq (.length (.field (.string own k) "java/lang/String" "value" "[B")) (.int (Int32.ofNat (([b.length] : List Nat).getD i 0)))).before args s = true := by
    intro i hi
    obtain rfl : i = 0 := Nat.lt_one_iff.mp hi
    exact h5
  have a6 : ∀ i : Nat, i < 1 → ∀ j : Nat, j < ([b.length] : List Nat).getD i 0 → (Cond.eq (.elem (.field (.string own k) "java/lang/String" "value" "[B") (.int (Int32.ofNat j))) (.int ((([b] : List (List Int32)).getD i []).getD j 0))).before args s = true := by
    intro i hi j hj
    obtain rfl : i = 0 := Nat.lt_one_iff.mp hi
    exact h6 j hj
  obtain ⟨adK, adV, hS, hE⟩ := vk_Sof (args := args) (s := s) (N := 1) (tm := fun _ => .string own k) (len := [b.length]) (byt := [b]) (A := A) a1 (fun i _ => h2) (fun i _ => h3) (fun i _ => h4) a5 a6 (fun i j hi hj h => absurd ((Nat.lt_one_iff.mp hi).trans (Nat.lt_one_iff.mp hj).symm) h) hA
  exact ⟨(adK 0, adV 0), vk_R.of h1 (hE 0 (by decide)), hS.1 0 (by decide)⟩
theorem arr_p {args : Array Value} {s : State} {ty : FieldType} (h : (Cond.arrayClass ty).before args s = true) : ∃ c : ClassId, ArrOfT s c ty ∧ s.vm.findClass ("[" ++ ty.toString) = some c := by
  obtain ⟨c, k, comp, e1, e2, e3⟩ := Cond.arrayClass_spec (args := args) (first := s) (o := none) (s := s) (idx := []) h
  exact ⟨c, fun n z => ⟨fun k h => (by cases h), k, e2, comp, e3⟩, e1⟩
theorem arr_o {args : Array Value} {s : State} {n : String} (h : (Cond.arrayOver (.object n)).before args s = true) : ∃ c : ClassId, ArrOfT s c (.object n) ∧ va_RA s c (.object n) := by
  obtain ⟨comp, c, k, e1, -, e2, e3, e4⟩ := Cond.arrayOver_spec (args := args) (first := s) (o := none) (s := s) (idx := []) h
  exact ⟨c, fun n z => ⟨fun k h => (by cases h), k, e2, comp, e3⟩, k, comp, e2, e3, e1, e4⟩
def rfN (n : Nat) : Value := va_rf (match n with
  | 0 => none
  | n + 1 => some n)
theorem zq_of {C n d : String} {A : Nat → Prop} {s : State} (h : va_Zq C n d A s s.heap) : ∃ k : Nat, va_Z C n d (rfN k) A s s.heap := by
  rcases h with h | ⟨t, h⟩
  · exact ⟨0, h⟩
  · exact ⟨t + 1, h⟩
set_option maxHeartbeats 4000000 in
set_option maxRecDepth 100000 in
theorem st_cls {args : Array Value} {s : State} (hall : ∀ w ∈ lw_all, w.before args s = true) : ∀ k : Nat, ∃ q : ClassId × (Nat → Nat), ∀ r, zcl[k]? = some r → u_Kn s r.1 r.2.1 r.2.2 q.1 q.2 := by
  intro k
  match k with
  | 0 =>
    obtain ⟨a, i, h⟩ := u_known (C := RX0) (T := TX0) (N := 8) (n := 8) hall in_X0 (hall _ q111)
    exact ⟨(a, i), fun r hr => by cases hr; exact h⟩
  | 1 =>
    obtain ⟨a, i, h⟩ := u_known (C := RX1) (T := TX1) (N := 7) (n := 7) hall in_X1 (hall _ q119)
    exact ⟨(a, i), fun r hr => by cases hr; exact h⟩
  | 2 =>
    obtain ⟨a, i, h⟩ := u_known (C := RX2) (T := TX2) (N := 20) (n := 20) hall in_X2 (hall _ q188)
    exact ⟨(a, i), fun r hr => by cases hr; exact h⟩
  | 3 =>
    obtain ⟨a, i, h⟩ := u_known (C := RX3) (T := TX3) (N := 1) (n := 1) hall in_X3 (hall _ q198)
    exact ⟨(a, i), fun r hr => by cases hr; exact h⟩
  | 4 =>
    obtain ⟨a, i, h⟩ := u_known (C := RX4) (T := TX4) (N := 2) (n := 2) hall in_X4 (hall _ q294)
    exact ⟨(a, i), fun r hr => by cases hr; exact h⟩
  | 5 =>
    obtain ⟨a, i, h⟩ := u_known (C := RX5) (T := TX5) (N := 1) (n := 1) hall in_X5 (hall _ q310)
    exact ⟨(a, i), fun r hr => by cases hr; exact h⟩
  | 6 =>
    obtain ⟨a, i, h⟩ := u_known (C := RX6) (T := TX6) (N := 24) (n := 24) hall in_X6 (hall _ q1380)
    exact ⟨(a, i), fun r hr => by cases hr; exact h⟩
  | 7 =>
    obtain ⟨a, i, h⟩ := u_known (C := RX8) (T := TX8) (N := 3) (n := 3) hall in_X8 (hall _ q886)
    exact ⟨(a, i), fun r hr => by cases hr; exact h⟩
  | 8 =>
    obtain ⟨a, i, h⟩ := u_known (C := RX9) (T := TX9) (N := 3) (n := 3) hall in_X9 (hall _ q544)
    exact ⟨(a, i), fun r hr => by cases hr; exact h⟩
  | 9 =>
    obtain ⟨a, i, h⟩ := u_known (C := RX10) (T := TX10) (N := 3) (n := 3) hall in_X10 (hall _ q457)
    exact ⟨(a, i), fun r hr => by cases hr; exact h⟩
  | 10 =>
    obtain ⟨a, i, h⟩ := u_known (C := RX11) (T := TX11) (N := 3) (n := 3) hall in_X11 (hall _ q494)
    exact ⟨(a, i), fun r hr => by cases hr; exact h⟩
  | 11 =>
    obtain ⟨a, i, h⟩ := u_known (C := RX12) (T := TX12) (N := 3) (n := 3) hall in_X12 (hall _ q504)
    exact ⟨(a, i), fun r hr => by cases hr; exact h⟩
  | 12 =>
    obtain ⟨a, i, h⟩ := u_known (C := RX13) (T := TX13) (N := 3) (n := 3) hall in_X13 (hall _ q514)
    exact ⟨(a, i), fun r hr => by cases hr; exact h⟩
  | 13 =>
    obtain ⟨a, i, h⟩ := u_known (C := RX14) (T := TX14) (N := 3) (n := 3) hall in_X14 (hall _ q524)
    exact ⟨(a, i), fun r hr => by cases hr; exact h⟩
  | 14 =>
    obtain ⟨a, i, h⟩ := u_known (C := RX15) (T := TX15) (N := 3) (n := 3) hall in_X15 (hall _ q534)
    exact ⟨(a, i), fun r hr => by cases hr; exact h⟩
  | 15 =>
    obtain ⟨a, i, h⟩ := u_known (C := RX16) (T := TX16) (N := 5) (n := 5) hall in_X16 (hall _ q680)
    exact ⟨(a, i), fun r hr => by cases hr; exact h⟩
  | 16 =>
    obtain ⟨a, i, h⟩ := u_known (C := RX17) (T := TX17) (N := 1) (n := 1) hall in_X17 (hall _ q822)
    exact ⟨(a, i), fun r hr => by cases hr; exact h⟩
  | 17 =>
    obtain ⟨a, i, h⟩ := u_known (C := RX18) (T := TX18) (N := 7) (n := 7) hall in_X18 (hall _ q844)
    exact ⟨(a, i), fun r hr => by cases hr; exact h⟩
  | 18 =>
    obtain ⟨a, i, h⟩ := u_known (C := RX19) (T := TX19) (N := 1) (n := 1) hall in_X19 (hall _ q863)
    exact ⟨(a, i), fun r hr => by cases hr; exact h⟩
  | 19 =>
    obtain ⟨a, i, h⟩ := u_known (C := RX20) (T := TX20) (N := 1) (n := 1) hall in_X20 (hall _ q875)
    exact ⟨(a, i), fun r hr => by cases hr; exact h⟩
  | 20 =>
    obtain ⟨a, i, h⟩ := u_known (C := RX22) (T := TX22) (N := 1) (n := 1) hall in_X22 (hall _ q1281)
    exact ⟨(a, i), fun r hr => by cases hr; exact h⟩
  | 21 =>
    obtain ⟨a, i, h⟩ := u_known (C := RX23) (T := TX23) (N := 1) (n := 1) hall in_X23 (hall _ q1294)
    exact ⟨(a, i), fun r hr => by cases hr; exact h⟩
  | 22 =>
    obtain ⟨a, i, h⟩ := u_known (C := RX24) (T := TX24) (N := 1) (n := 1) hall in_X24 (hall _ q1305)
    exact ⟨(a, i), fun r hr => by cases hr; exact h⟩
  | k + 23 => exact ⟨(0, fun _ => 0), fun r hr => by cases hr⟩
def tyL : List FieldType := [.int, .byte, .short, .object "OldLight$Ship", .object "OldLight$Term", .object "OldLight$Shelf", .object "java/lang/String"]
set_option maxHeartbeats 4000000 in
set_option maxRecDepth 100000 in
theorem st_ty {args : Array Value} {s : State} (hts : ∀ w ∈ lw_tbl, w.before args s = true) : ∀ k : Nat, ∃ c : ClassId, ∀ ty, tyL[k]? = some ty → ArrOfT s c ty ∧ va_RA s c ty := by
  intro k
  match k with
  | 0 =>
    obtain ⟨c, h⟩ := arr_p (hts _ (lw_all_tbl q208))
    exact ⟨c, fun r hr => by cases hr; exact h⟩
  | 1 =>
    obtain ⟨c, h⟩ := arr_p (hts _ (lw_all_tbl q209))
    exact ⟨c, fun r hr => by cases hr; exact h⟩
  | 2 =>
    obtain ⟨c, h⟩ := arr_p (hts _ (lw_all_tbl q1303))
    exact ⟨c, fun r hr => by cases hr; exact h⟩
  | 3 =>
    obtain ⟨c, h⟩ := arr_o (hts _ q194)
    exact ⟨c, fun r hr => by cases hr; exact h⟩
  | 4 =>
    obtain ⟨c, h⟩ := arr_o (hts _ q196)
    exact ⟨c, fun r hr => by cases hr; exact h⟩
  | 5 =>
    obtain ⟨c, h⟩ := arr_o (hts _ q309)
    exact ⟨c, fun r hr => by cases hr; exact h⟩
  | 6 =>
    obtain ⟨c, h⟩ := arr_o (hts _ q1386)
    exact ⟨c, fun r hr => by cases hr; exact h⟩
  | k + 7 => exact ⟨0, fun r hr => by cases hr⟩
set_option maxHeartbeats 4000000 in
set_option maxRecDepth 100000 in
theorem st_str {args : Array Value} {s : State} {A : Nat → Prop} (hts : ∀ w ∈ lw_tbl, w.before args s = true) (hs : ∀ w ∈ flatC (Jvm.Cond.and given_1 narrow_1), w.before args s = true) (hA : ∀ a : Nat, a < s.heap.size → ¬ A a) : ∀ i : Nat, ∃ q : Nat × Nat, ∀ (n : String × Nat × String) (b : List Int32), zsN[i]? = some n → zsB[i]? = some b → vk_R n.1 n.2.1 n.2.2 q.1 s ∧ va_O "java/lang/String" q.1 A s s.heap ∧ va_OF "java/lang/String" "coder" "B" (.int 0) q.1 A s s.heap ∧ va_OF "java/lang/String" "value" "[B" (.ref q.2) q.1 A s s.heap ∧ va_T .byte q.2 b.length (fun j => .int (b.getD j 0)) A s s.heap := by
  intro i
  match i with
  | 0 =>
    obtain ⟨q, h⟩ := str_of (b := [99, 121, 98]) (A := A) (by decide) (hts _ q681) (hs _ (by decide +kernel)) (hs _ (by decide +kernel)) (hs _ (by decide +kernel)) (hs _ (by decide +kernel)) (fun j hj => by
      have hj : j < 3 := hj
      rcases (show j = 0 ∨ j = 1 ∨ j = 2 by omega) with rfl | rfl | rfl <;> exact hs _ (by decide +kernel)) hA
    exact ⟨q, fun n b' hn hb => by cases hn; cases hb; exact h⟩
  | 1 =>
    obtain ⟨q, h⟩ := str_of (b := [100, 109, 104]) (A := A) (by decide) (hts _ q682) (hs _ (by decide +kernel)) (hs _ (by decide +kernel)) (hs _ (by decide +kernel)) (hs _ (by decide +kernel)) (fun j hj => by
      have hj : j < 3 := hj
      rcases (show j = 0 ∨ j = 1 ∨ j = 2 by omega) with rfl | rfl | rfl <;> exact hs _ (by decide +kernel)) hA
    exact ⟨q, fun n b' hn hb => by cases hn; cases hb; exact h⟩
  | 2 =>
    obtain ⟨q, h⟩ := str_of (b := [33]) (A := A) (by decide) (hts _ q834) (hs _ (by decide +kernel)) (hs _ (by decide +kernel)) (hs _ (by decide +kernel)) (hs _ (by decide +kernel)) (fun j hj => by
      have hj : j < 1 := hj
      rcases (show j = 0 by omega) with rfl <;> exact hs _ (by decide +kernel)) hA
    exact ⟨q, fun n b' hn hb => by cases hn; cases hb; exact h⟩
  | 3 =>
    obtain ⟨q, h⟩ := str_of (b := [40]) (A := A) (by decide) (hts _ q872) (hs _ (by decide +kernel)) (hs _ (by decide +kernel)) (hs _ (by decide +kernel)) (hs _ (by decide +kernel)) (fun j hj => by
      have hj : j < 1 := hj
      rcases (show j = 0 by omega) with rfl <;> exact hs _ (by decide +kernel)) hA
    exact ⟨q, fun n b' hn hb => by cases hn; cases hb; exact h⟩
  | 4 =>
    obtain ⟨q, h⟩ := str_of (b := [42, 47, 37]) (A := A) (by decide) (hts _ q884) (hs _ (by decide +kernel)) (hs _ (by decide +kernel)) (hs _ (by decide +kernel)) (hs _ (by decide +kernel)) (fun j hj => by
      have hj : j < 3 := hj
      rcases (show j = 0 ∨ j = 1 ∨ j = 2 by omega) with rfl | rfl | rfl <;> exact hs _ (by decide +kernel)) hA
    exact ⟨q, fun n b' hn hb => by cases hn; cases hb; exact h⟩
  | 5 =>
    obtain ⟨q, h⟩ := str_of (b := [43, 45]) (A := A) (by decide) (hts _ q901) (hs _ (by decide +kernel)) (hs _ (by decide +kernel)) (hs _ (by decide +kernel)) (hs _ (by decide +kernel)) (fun j hj => by
      have hj : j < 2 := hj
      rcases (show j = 0 ∨ j = 1 by omega) with rfl | rfl <;> exact hs _ (by decide +kernel)) hA
    exact ⟨q, fun n b' hn hb => by cases hn; cases hb; exact h⟩
  | 6 =>
    obtain ⟨q, h⟩ := str_of (b := [60, 61, 62]) (A := A) (by decide) (hts _ q902) (hs _ (by decide +kernel)) (hs _ (by decide +kernel)) (hs _ (by decide +kernel)) (hs _ (by decide +kernel)) (fun j hj => by
      have hj : j < 3 := hj
      rcases (show j = 0 ∨ j = 1 ∨ j = 2 by omega) with rfl | rfl | rfl <;> exact hs _ (by decide +kernel)) hA
    exact ⟨q, fun n b' hn hb => by cases hn; cases hb; exact h⟩
  | 7 =>
    obtain ⟨q, h⟩ := str_of (b := [38]) (A := A) (by decide) (hts _ q903) (hs _ (by decide +kernel)) (hs _ (by decide +kernel)) (hs _ (by decide +kernel)) (hs _ (by decide +kernel)) (fun j hj => by
      have hj : j < 1 := hj
      rcases (show j = 0 by omega) with rfl <;> exact hs _ (by decide +kernel)) hA
    exact ⟨q, fun n b' hn hb => by cases hn; cases hb; exact h⟩
  | 8 =>
    obtain ⟨q, h⟩ := str_of (b := [124]) (A := A) (by decide) (hts _ q904) (hs _ (by decide +kernel)) (hs _ (by decide +kernel)) (hs _ (by decide +kernel)) (hs _ (by decide +kernel)) (fun j hj => by
      have hj : j < 1 := hj
      rcases (show j = 0 by omega) with rfl <;> exact hs _ (by decide +kernel)) hA
    exact ⟨q, fun n b' hn hb => by cases hn; cases hb; exact h⟩
  | 9 =>
    obtain ⟨q, h⟩ := str_of (b := [99, 121, 98]) (A := A) (by decide) (hts _ q1387) (hs _ (by decide +kernel)) (hs _ (by decide +kernel)) (hs _ (by decide +kernel)) (hs _ (by decide +kernel)) (fun j hj => by
      have hj : j < 3 := hj
      rcases (show j = 0 ∨ j = 1 ∨ j = 2 by omega) with rfl | rfl | rfl <;> exact hs _ (by decide +kernel)) hA
    exact ⟨q, fun n b' hn hb => by cases hn; cases hb; exact h⟩
  | 10 =>
    obtain ⟨q, h⟩ := str_of (b := [100, 109, 104]) (A := A) (by decide) (hts _ q1388) (hs _ (by decide +kernel)) (hs _ (by decide +kernel)) (hs _ (by decide +kernel)) (hs _ (by decide +kernel)) (fun j hj => by
      have hj : j < 3 := hj
      rcases (show j = 0 ∨ j = 1 ∨ j = 2 by omega) with rfl | rfl | rfl <;> exact hs _ (by decide +kernel)) hA
    exact ⟨q, fun n b' hn hb => by cases hn; cases hb; exact h⟩
  | i + 11 => exact ⟨(0, 0), fun r b hr => by cases hr⟩
set_option maxHeartbeats 4000000 in
set_option maxRecDepth 100000 in
theorem start_w {args : Array Value} {s : State} {A : Nat → Prop} (hts : ∀ w ∈ lw_tbl, w.before args s = true) (hgv : (Jvm.Cond.and given_1 narrow_1).before args s = true) (hA : ∀ a : Nat, a < s.heap.size → ¬ A a) : ∃ w : ZW, zK w s ∧ zRo w A s s.heap := by
  have hs := flat_of_before _ hgv
  have hall : ∀ w ∈ lw_all, w.before args s = true := fun w h => hts w (lw_all_tbl h)
  obtain ⟨dc, hdc⟩ := Classical.axiomOfChoice (st_cls hall)
  obtain ⟨ty, hty⟩ := Classical.axiomOfChoice (st_ty hts)
  obtain ⟨sr, hsr⟩ := Classical.axiomOfChoice (st_str hts hs hA)
  have hC : va_Z "java/lang/String" "COMPACT_STRINGS" "Z" (.int 1) A s s.heap := va_Zof (hts _ q752) (hts _ (lw_all_tbl q95)) (va_eqt (hs _ (by decide +kernel))) hA
  obtain ⟨k0, hk0⟩ := zq_of (va_Zqof (C := "java/lang/Throwable") (n := "UNASSIGNED_STACK") (d := "[Ljava/lang/StackTraceElement;") (hts _ q145) (hts _ (lw_all_tbl q75)) (hs _ (by decide +kernel)) hA)
  obtain ⟨k1, hk1⟩ := zq_of (va_Zqof (C := "java/lang/Throwable") (n := "SUPPRESSED_SENTINEL") (d := "Ljava/util/List;") (hts _ q147) (hts _ (lw_all_tbl q75)) (hs _ (by decide +kernel)) hA)
  obtain ⟨k2, hk2⟩ := zq_of (va_Zqof (C := "jdk/internal/util/Preconditions") (n := "SIOOBE_FORMATTER") (d := "Ljava/util/function/BiFunction;") (hts _ q791) (hts _ (lw_all_tbl q98)) (hs _ (by decide +kernel)) hA)
  refine ⟨((fun k => (dc k).1, fun c i => if c = 1000 then (sr i).1 else if c = 1001 then (sr i).2 else if c = 1002 then (match i with | 0 => k0 | 1 => k1 | _ => k2) else (dc c).2 i), ty, fun _ => 0), ⟨⟨fun c q hq => ?_, fun k q hq => ?_⟩, fun c hc ho => va_Nw.of (zNw_tabs ho) (hts c hc), fun x hx => ?_, fun C hC => ?_, fun i q hq => ?_, va_Nc.of (hs _ (by decide +kernel))⟩, fun i b hb => ?_, hC, hk0, hk1, hk2⟩
  · have h := hdc c q hq
    have hlt : c < 23 := (List.getElem?_eq_some_iff.mp hq).1
    have e : (fun i => if c = 1000 then (sr i).1 else if c = 1001 then (sr i).2 else if c = 1002 then (match i with | 0 => k0 | 1 => k1 | _ => k2) else (dc c).2 i) = (dc c).2 := by
      funext i
      rw [if_neg (by omega), if_neg (by omega), if_neg (by omega)]
    show u_Kn s q.1 q.2.1 q.2.2 (dc c).1 (fun i => if c = 1000 then (sr i).1 else if c = 1001 then (sr i).2 else if c = 1002 then (match i with | 0 => k0 | 1 => k1 | _ => k2) else (dc c).2 i)
    rw [e]
    exact h
  · have hlt : k < 7 := (List.getElem?_eq_some_iff.mp hq).1
    rcases (show k = 0 ∨ k = 1 ∨ k = 2 ∨ k = 3 ∨ k = 4 ∨ k = 5 ∨ k = 6 by omega) with rfl | rfl | rfl | rfl | rfl | rfl | rfl <;> cases hq
    · exact hty 0 _ rfl
    · exact hty 1 _ rfl
    · exact hty 2 _ rfl
    · exact hty 3 _ rfl
    · exact hty 4 _ rfl
    · exact hty 5 _ rfl
    · exact hty 6 _ rfl
  · rcases List.mem_cons.mp hx with rfl | hx
    · exact ⟨va_Nw.of rfl (hts _ q1095), va_Nw.of rfl (hts _ q1094)⟩
    rcases List.mem_cons.mp hx with rfl | hx
    · exact ⟨va_Nw.of rfl (hts _ q1132), va_Nw.of rfl (hts _ q1131)⟩
    rcases List.mem_cons.mp hx with rfl | hx
    · exact ⟨va_Nw.of rfl (hts _ q1178), va_Nw.of rfl (hts _ q1177)⟩
    rcases List.mem_cons.mp hx with rfl | hx
    · exact ⟨va_Nw.of rfl (hts _ q1214), va_Nw.of rfl (hts _ q1213)⟩
    · cases hx
  · rcases List.mem_cons.mp hC with rfl | hC
    · exact va_AO.of (hts _ q194)
    rcases List.mem_cons.mp hC with rfl | hC
    · exact va_AO.of (hts _ q196)
    rcases List.mem_cons.mp hC with rfl | hC
    · exact va_AO.of (hts _ q309)
    rcases List.mem_cons.mp hC with rfl | hC
    · exact va_AO.of (hts _ q1386)
    · cases hC
  · have hlt : i < 11 := (List.getElem?_eq_some_iff.mp hq).1
    exact (hsr i q zsB[i] hq (List.getElem?_eq_getElem hlt)).1
  · have hlt : i < 11 := (List.getElem?_eq_some_iff.mp hb).1
    exact (hsr i zsN[i] b (List.getElem?_eq_getElem hlt) hb).2
