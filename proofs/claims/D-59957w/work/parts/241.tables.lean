/-! the tables and the constants at the law's entry, printed by tools/gen_tabs.py -/
set_option maxRecDepth 100000
theorem byt_of {args : Array Value} {s : State} {t : Term} {cs : List Int32} {A : Nat → Prop} (h : ∀ w ∈ nB t cs, w.before args s = true) (hn : cs.length < 2 ^ 31) (hA : ∀ a : Nat, a < s.heap.size → ¬ A a) : ∃ v : Nat, t.eval args s none [] s = some (.ref v) ∧ va_T .byte v cs.length (fun j => .int (cs.getD j 0)) A s s.heap :=
  va_Tof hn (h _ List.mem_cons_self) (va_eqt (h _ (List.mem_cons_of_mem _ List.mem_cons_self))) (fun j hj => va_eqt (h _ (List.mem_cons_of_mem _ (List.mem_cons_of_mem _ (List.mem_map.mpr ⟨j, List.mem_range.mpr hj, rfl⟩))))) hA
theorem str_of {args : Array Value} {s : State} {k : Nat} {tx : String} {cs : List Int32} {A : Nat → Prop} (h : ∀ w ∈ nS1 k cs, w.before args s = true) (hr : (Cond.stringRef "Aislewright" k tx).before args s = true) (hn : cs.length < 2 ^ 31) (hl : cs.length = tx.length) (hb : ∀ j, j < cs.length → fits .byte (.int (cs.getD j 0)) = true) (hA : ∀ a : Nat, a < s.heap.size → ¬ A a) : ∃ a v : Nat, vk_R "Aislewright" k tx a s ∧ xStr a v tx.length A s s.heap := by
  obtain ⟨v, hv, hT⟩ := byt_of (fun w hw => h w (List.mem_cons_of_mem _ (List.mem_cons_of_mem _ hw))) hn hA
  obtain ⟨a, c, cA, kA, q1, -⟩ := Cond.exactly_spec (args := args) (first := s) (o := none) (s := s) (idx := []) (t := .string "Aislewright" k) (cls := "java/lang/String") (h _ List.mem_cons_self)
  rw [← hl]
  exact ⟨a, v, vk_R.of hr q1, va_Oof (h _ List.mem_cons_self) q1 hA, vk_OFof q1 (va_eqt (h _ (List.mem_cons_of_mem _ List.mem_cons_self))) hA, vk_OFof q1 hv hA, fun j => cs.getD j 0, hb, hT⟩
theorem arr_of {args : Array Value} {s : State} {ty : FieldType} (h : (Cond.arrayClass ty).before args s = true) : ∃ cA : ClassId, ArrOfT s cA ty ∧ s.vm.findClass ("[" ++ ty.toString) = some cA := by
  obtain ⟨cA, k, comp, h1, h2, h3⟩ := Cond.arrayClass_spec h
  exact ⟨cA, fun n z => ⟨fun k h => (by cases h), k, h2, comp, h3⟩, h1⟩
theorem xT_of {args : Array Value} {s : State} (hts : ∀ w ∈ lw_tbl, w.before args s = true) : xT s := by
  intro w hw hk
  cases w
  case arrayOver ty => exact hts _ hw
  all_goals first | exact absurd hk Bool.false_ne_true | exact va_Nw.of rfl (hts _ hw)
theorem xF_of {args : Array Value} {s : State} (hts : ∀ w ∈ lw_tbl, w.before args s = true) : xF s := by
  have h0 : va_Fw "java/util/ArrayList" ⟨"java/util/List", "size", "()I"⟩ ⟨"java/util/ArrayList", "size", "()I"⟩ s := va_Fw.of (hts _ q185) (hts _ q184) (hts _ q190) (hts _ q188) (hts _ q186)
  have h1 : va_Fw "java/util/ArrayList" ⟨"java/util/List", "isEmpty", "()Z"⟩ ⟨"java/util/ArrayList", "isEmpty", "()Z"⟩ s := va_Fw.of (hts _ q566) (hts _ q565) (hts _ q570) (hts _ q568) (hts _ q186)
  have h2 : va_Fw "java/util/ArrayList" ⟨"java/util/List", "get", "(I)Ljava/lang/Object;"⟩ ⟨"java/util/ArrayList", "get", "(I)Ljava/lang/Object;"⟩ s := va_Fw.of (hts _ q623) (hts _ q622) (hts _ q627) (hts _ q625) (hts _ q186)
  have h3 : va_Fw "java/util/ArrayList" ⟨"java/util/List", "add", "(ILjava/lang/Object;)V"⟩ ⟨"java/util/ArrayList", "add", "(ILjava/lang/Object;)V"⟩ s := va_Fw.of (hts _ q839) (hts _ q838) (hts _ q843) (hts _ q841) (hts _ q186)
  have h4 : va_Fw "java/util/ArrayList" ⟨"java/util/List", "add", "(Ljava/lang/Object;)Z"⟩ ⟨"java/util/ArrayList", "add", "(Ljava/lang/Object;)Z"⟩ s := va_Fw.of (hts _ q974) (hts _ q973) (hts _ q978) (hts _ q976) (hts _ q186)
  have h5 : va_Fw "java/util/ArrayList" ⟨"java/util/List", "iterator", "()Ljava/util/Iterator;"⟩ ⟨"java/util/ArrayList", "iterator", "()Ljava/util/Iterator;"⟩ s := va_Fw.of (hts _ q1051) (hts _ q1050) (hts _ q1055) (hts _ q1053) (hts _ q186)
  have h6 : va_Fw "java/util/ArrayList" ⟨"java/util/List", "remove", "(I)Ljava/lang/Object;"⟩ ⟨"java/util/ArrayList", "remove", "(I)Ljava/lang/Object;"⟩ s := va_Fw.of (hts _ q1162) (hts _ q1161) (hts _ q1166) (hts _ q1164) (hts _ q186)
  have h7 : va_Fw "java/util/ArrayList" ⟨"java/util/List", "contains", "(Ljava/lang/Object;)Z"⟩ ⟨"java/util/ArrayList", "contains", "(Ljava/lang/Object;)Z"⟩ s := va_Fw.of (hts _ q1200) (hts _ q1199) (hts _ q1204) (hts _ q1202) (hts _ q186)
  have h8 : va_Fw "java/util/ArrayList$Itr" ⟨"java/util/Iterator", "hasNext", "()Z"⟩ ⟨"java/util/ArrayList$Itr", "hasNext", "()Z"⟩ s := va_Fw.of (hts _ q1079) (hts _ q1078) (hts _ q1084) (hts _ q1082) (hts _ q1080)
  have h9 : va_Fw "java/util/ArrayList$Itr" ⟨"java/util/Iterator", "next", "()Ljava/lang/Object;"⟩ ⟨"java/util/ArrayList$Itr", "next", "()Ljava/lang/Object;"⟩ s := va_Fw.of (hts _ q1089) (hts _ q1088) (hts _ q1093) (hts _ q1091) (hts _ q1080)
  have h10 : va_Fw "Aislewright$Ranked" ⟨"java/lang/Comparable", "compareTo", "(Ljava/lang/Object;)I"⟩ ⟨"Aislewright$Ranked", "compareTo", "(Ljava/lang/Object;)I"⟩ s := va_Fw.of (hts _ q642) (hts _ q641) (hts _ q647) (hts _ q645) (hts _ q643)
  intro q hq
  simp only [xFl, List.mem_cons, List.not_mem_nil, or_false] at hq
  rcases hq with h | h | h | h | h | h | h | h | h | h | h
  · rw [h]
    exact h0
  · rw [h]
    exact h1
  · rw [h]
    exact h2
  · rw [h]
    exact h3
  · rw [h]
    exact h4
  · rw [h]
    exact h5
  · rw [h]
    exact h6
  · rw [h]
    exact h7
  · rw [h]
    exact h8
  · rw [h]
    exact h9
  · rw [h]
    exact h10
theorem xS_of {args : Array Value} {s : State} {A : Nat → Prop} (hts : ∀ w ∈ lw_tbl, w.before args s = true) (hgv : (Jvm.Cond.and given_1 narrow_1).before args s = true) (hA : ∀ a : Nat, a < s.heap.size → ¬ A a) : ∀ q ∈ xLl, ∃ a v : Nat, vk_R "Aislewright" q.1 q.2 a s ∧ xStr a v q.2.length A s s.heap := by
  intro q hq
  simp only [xLl, List.mem_cons, List.not_mem_nil, or_false] at hq
  rcases hq with h | h | h | h | h | h | h | h | h | h | h | h | h | h | h | h | h | h
  · rw [h]
    exact str_of (nar_in hgv _ _ nar_105) (hts _ q295) (by decide) (by decide +kernel) (by decide +kernel) hA
  · rw [h]
    exact str_of (nar_in hgv _ _ nar_87) (hts _ q339) (by decide) (by decide +kernel) (by decide +kernel) hA
  · rw [h]
    exact str_of (nar_in hgv _ _ nar_93) (hts _ q456) (by decide) (by decide +kernel) (by decide +kernel) hA
  · rw [h]
    exact str_of (nar_in hgv _ _ nar_135) (hts _ q561) (by decide) (by decide +kernel) (by decide +kernel) hA
  · rw [h]
    exact str_of (nar_in hgv _ _ nar_137) (hts _ q562) (by decide) (by decide +kernel) (by decide +kernel) hA
  · rw [h]
    exact str_of (nar_in hgv _ _ nar_143) (hts _ q572) (by decide) (by decide +kernel) (by decide +kernel) hA
  · rw [h]
    exact str_of (nar_in hgv _ _ nar_149) (hts _ q598) (by decide) (by decide +kernel) (by decide +kernel) hA
  · rw [h]
    exact str_of (nar_in hgv _ _ nar_166) (hts _ q923) (by decide) (by decide +kernel) (by decide +kernel) hA
  · rw [h]
    exact str_of (nar_in hgv _ _ nar_121) (hts _ q943) (by decide) (by decide +kernel) (by decide +kernel) hA
  · rw [h]
    exact str_of (nar_in hgv _ _ nar_123) (hts _ q944) (by decide) (by decide +kernel) (by decide +kernel) hA
  · rw [h]
    exact str_of (nar_in hgv _ _ nar_175) (hts _ q946) (by decide) (by decide +kernel) (by decide +kernel) hA
  · rw [h]
    exact str_of (nar_in hgv _ _ nar_111) (hts _ q995) (by decide) (by decide +kernel) (by decide +kernel) hA
  · rw [h]
    exact str_of (nar_in hgv _ _ nar_196) (hts _ q1006) (by decide) (by decide +kernel) (by decide +kernel) hA
  · rw [h]
    exact str_of (nar_in hgv _ _ nar_217) (hts _ q1099) (by decide) (by decide +kernel) (by decide +kernel) hA
  · rw [h]
    exact str_of (nar_in hgv _ _ nar_225) (hts _ q1135) (by decide) (by decide +kernel) (by decide +kernel) hA
  · rw [h]
    exact str_of (nar_in hgv _ _ nar_115) (hts _ q1189) (by decide) (by decide +kernel) (by decide +kernel) hA
  · rw [h]
    exact str_of (nar_in hgv _ _ nar_275) (hts _ q1259) (by decide) (by decide +kernel) (by decide +kernel) hA
  · rw [h]
    exact str_of (nar_in hgv _ _ nar_289) (hts _ q1295) (by decide) (by decide +kernel) (by decide +kernel) hA
theorem xCl_of {args : Array Value} {s : State} (hts : ∀ w ∈ lw_tbl, w.before args s = true) : ∃ D : va_G, ∀ (k : Nat) (q : vw_C), xCl[k]? = some q → u_Kn s q.1 q.2.1 q.2.2 (D.1 k) (D.2 k) := by
  have hta : ∀ w ∈ lw_all, w.before args s = true := fun w h => hts w (lw_all_tbl h)
  obtain ⟨c0, i0, h0⟩ := u_known (C := RX1) (T := TX1) (N := 12) hta in_X1 (hts _ (lw_all_tbl q72))
  obtain ⟨c1, i1, h1⟩ := u_known (C := RX2) (T := TX2) (N := 4) hta in_X2 (hts _ (lw_all_tbl q112))
  obtain ⟨c2, i2, h2⟩ := u_known (C := RX3) (T := TX3) (N := 22) hta in_X3 (hts _ (lw_all_tbl q1309))
  obtain ⟨c3, i3, h3⟩ := u_known (C := RX4) (T := TX4) (N := 2) hta in_X4 (hts _ (lw_all_tbl q600))
  obtain ⟨c4, i4, h4⟩ := u_known (C := RX5) (T := TX5) (N := 4) hta in_X5 (hts _ (lw_all_tbl q948))
  obtain ⟨c5, i5, h5⟩ := u_known (C := RX6) (T := TX6) (N := 3) hta in_X6 (hts _ (lw_all_tbl q1108))
  obtain ⟨c6, i6, h6⟩ := u_known (C := RJ2) (T := TJ2) (N := 3) hta in_J2 (hts _ (lw_all_tbl q80))
  obtain ⟨c7, i7, h7⟩ := u_known (C := RJ23) (T := TJ23) (N := 4) hta in_J23 (hts _ (lw_all_tbl q1058))
  obtain ⟨c8, i8, h8⟩ := u_known (C := RJ11) (T := TJ11) (N := 4) hta in_J11 (hts _ (lw_all_tbl q309))
  obtain ⟨c9, i9, h9⟩ := u_known (C := RJ9) (T := TJ9) (N := 4) hta in_J9 (hts _ (lw_all_tbl q281))
  refine ⟨(fun k => [c0, c1, c2, c3, c4, c5, c6, c7, c8, c9].getD k 0, fun k => [i0, i1, i2, i3, i4, i5, i6, i7, i8, i9].getD k (fun _ => 0)), fun k q hq => ?_⟩
  have hk : k < 10 := (List.getElem?_eq_some_iff.mp hq).1
  have hk2 : k = 0 ∨ k = 1 ∨ k = 2 ∨ k = 3 ∨ k = 4 ∨ k = 5 ∨ k = 6 ∨ k = 7 ∨ k = 8 ∨ k = 9 := by omega
  rcases hk2 with e | e | e | e | e | e | e | e | e | e
  · subst e
    cases hq
    exact h0
  · subst e
    cases hq
    exact h1
  · subst e
    cases hq
    exact h2
  · subst e
    cases hq
    exact h3
  · subst e
    cases hq
    exact h4
  · subst e
    cases hq
    exact h5
  · subst e
    cases hq
    exact h6
  · subst e
    cases hq
    exact h7
  · subst e
    cases hq
    exact h8
  · subst e
    cases hq
    exact h9
theorem xE_of {args : Array Value} {s : State} (hts : ∀ w ∈ lw_tbl, w.before args s = true) (hgv : (Jvm.Cond.and given_1 narrow_1).before args s = true) : ∃ g : xg, xE g (x3 s.heap.size) s ∧ xNc s := by
  have hA : ∀ a : Nat, a < s.heap.size → ¬ x3 s.heap.size a := fun a h => Nat.not_le.mpr h
  have hO := nar_in hgv _ _ nar_one
  obtain ⟨D, hD⟩ := xCl_of hts
  obtain ⟨cI, aI, fI⟩ := arr_of (hts _ (lw_all_tbl q108))
  obtain ⟨cJ, aJ, fJ⟩ := arr_of (hts _ (lw_all_tbl q1560))
  obtain ⟨cB, aB, fB⟩ := arr_of (hts _ (lw_all_tbl q282))
  obtain ⟨kQ, cQ, KQ, g1, g2, g3, g4⟩ := arrayOver_ii (hts _ q110)
  obtain ⟨kO, cO, KO, o1, -, o3, o4, o5⟩ := Cond.arrayOver_spec (hts _ q897)
  obtain ⟨aD, eD, tD⟩ := va_Tof (ty := .object "java/lang/Object") (N := 0) (f := fun _ => .null) (A := x3 s.heap.size) (by decide) (hO _ (List.mem_of_getElem? (i := 0) rfl)) (va_eqt (hO _ (List.mem_of_getElem? (i := 1) rfl))) (fun j hj => absurd hj (Nat.not_lt_zero j)) hA
  obtain ⟨mi9, hmi⟩ := va_Mi.of (hO _ (List.mem_of_getElem? (i := 5) rfl))
  have hS := xS_of (A := x3 s.heap.size) hts hgv hA
  have hu : ∀ q ∈ xLl, ∀ q' ∈ xLl, q.1 = q'.1 → q = q' := by decide +kernel
  have h0 : ∀ k : Nat, ∃ z : Nat × Nat, ∀ q ∈ xLl, q.1 = k → vk_R "Aislewright" q.1 q.2 z.1 s ∧ xStr z.1 z.2 q.2.length (x3 s.heap.size) s s.heap := by
    intro k
    by_cases hk : ∃ q ∈ xLl, q.1 = k
    · obtain ⟨q, hq, e⟩ := hk
      obtain ⟨a, v, h1, h2⟩ := hS q hq
      refine ⟨(a, v), fun q' hq' e' => ?_⟩
      rw [hu q' hq' q hq (e'.trans e.symm)]
      exact ⟨h1, h2⟩
    · exact ⟨(0, 0), fun q hq e => absurd ⟨q, hq, e⟩ hk⟩
  obtain ⟨ad, had⟩ := Classical.axiomOfChoice h0
  have tens : xDig "DigitTens" (x3 s.heap.size) s s.heap := by
    obtain ⟨v, e, hT⟩ := byt_of (A := x3 s.heap.size) (nar_in hgv _ _ nar_DigitTens) (by decide) hA
    exact ⟨v, _, va_Zof (hts _ q473) (hts _ (lw_all_tbl q60)) e hA, hT⟩
  have ones : xDig "DigitOnes" (x3 s.heap.size) s s.heap := by
    obtain ⟨v, e, hT⟩ := byt_of (A := x3 s.heap.size) (nar_in hgv _ _ nar_DigitOnes) (by decide) hA
    exact ⟨v, _, va_Zof (hts _ q471) (hts _ (lw_all_tbl q60)) e hA, hT⟩
  refine ⟨(D, fun n => if n < 100 then [cI, cO, cQ, cJ, cB, aD, mi9].getD n 0 else if n < 400 then (ad (n - 100)).1 else (ad (n - 400)).2), ⟨⟨hD, fun k q hq => ?_⟩, fun q h => h, xT_of hts, xF_of hts, ?_⟩, ?_⟩
  · have hk : k < 5 := (List.getElem?_eq_some_iff.mp hq).1
    have hk2 : k = 0 ∨ k = 1 ∨ k = 2 ∨ k = 3 ∨ k = 4 := by omega
    rcases hk2 with e | e | e | e | e
    · subst e
      cases hq
      exact ⟨aI, fI⟩
    · subst e
      cases hq
      exact ⟨fun n z => ⟨fun k h => (by cases h), KO, o3, kO, o4⟩, KO, kO, o3, o4, o1, o5⟩
    · subst e
      cases hq
      exact ⟨fun n z => ⟨fun k h => (by cases h), KQ, g2, kQ, g3⟩, g4⟩
    · subst e
      cases hq
      exact ⟨aJ, fJ⟩
    · subst e
      cases hq
      exact ⟨aB, fB⟩
  · refine ⟨va_Zof (hts _ q92) (hts _ (lw_all_tbl q41)) eD hA, tD,
      vx_Zqof (hts _ q228) (hts _ (lw_all_tbl q45)) (hO _ (List.mem_of_getElem? (i := 2) rfl)) hA,
      vx_Zqof (hts _ q230) (hts _ (lw_all_tbl q45)) (hO _ (List.mem_of_getElem? (i := 3) rfl)) hA,
      va_Zof (hts _ q318) (hts _ (lw_all_tbl q50)) (va_eqi (hO _ (List.mem_of_getElem? (i := 4) rfl))) hA, tens, ones, hmi, fun q hq => ?_⟩
    have hlt : q.1 < 300 := (by decide +kernel : ∀ q ∈ xLl, q.1 < 300) q hq
    obtain ⟨h1, h2⟩ := had q.1 q hq rfl
    show vk_R _ _ _ (if 100 + q.1 < 100 then _ else if 100 + q.1 < 400 then _ else _) _ ∧ xStr (if 100 + q.1 < 100 then _ else if 100 + q.1 < 400 then _ else _) (if 400 + q.1 < 100 then _ else if 400 + q.1 < 400 then _ else _) _ _ _ _
    rw [if_neg (by omega), if_pos (by omega), if_neg (by omega), if_neg (by omega), Nat.add_sub_cancel_left, Nat.add_sub_cancel_left]
    exact ⟨h1, h2⟩
  · exact ⟨va_Nc.of (hO _ (List.mem_of_getElem? (i := 6) rfl)), va_Nc.of (hO _ (List.mem_of_getElem? (i := 7) rfl)), va_Nc.of (hO _ (List.mem_of_getElem? (i := 8) rfl))⟩
/-- from the entry, for every script of at most 259 ints, the law comes to its end with true -/
theorem whole_start {p : Program} {e : Env} {s : State} {m : MethodId} {below : List Frame} {meth : Method} {c : Code} (l : Launch) (hflags : l.flags = flags0) {b L : Nat} {xs : Nat → Int32} (hL : L ≤ 259) (C0 : lw_At p s m meth c b L xs) : W p l e room_1 s m #[Value.ref b] below meth c s.heap [] 0 0 (lw_Z below #[Value.ref b] s) (entryFrame m ([Value.ref b] : List Value).toArray 9) := by
  obtain ⟨hx, hb, hr, hml, hown, hts, hX, hbl, hlocks, hgv⟩ := C0
  obtain ⟨g, hE, hNc⟩ := xE_of hts hgv
  have hta : ∀ w ∈ lw_all, w.before #[Value.ref b] s = true := fun w h => hts w (lw_all_tbl h)
  have hlt : l.stackTraces = false := by
    show (!l.flags.contains Jvm.noTraceFlag) = false
    rw [hflags]
    decide +kernel
  have hl := lh_of (lv_entry [.ref b] (n := 9) (Nat.le_of_ble_eq_true rfl))
  rw [lg_entry_eq]
  generalize (lg_sl _ ++ List.replicate _ Slot.unset).toArray = ls at hl ⊢
  exact law_start hlt ⟨hx, hb, hml, hown, hta⟩ hr hlocks hE hNc hX hbl hL hl
