/-! THE LAW: cases (2), printed by tools/gen_law.py -/
set_option maxRecDepth 100000
set_option maxHeartbeats 2000000 in
theorem law_c6 {p : Program} {l : Launch} {e : Env} {s : State} {m : MethodId} {args : Array Value} {below : List Frame} {meth : Method} {c : Code} {H : Heap} {locs : List Loc} {cells slots : Nat} {Q : State → Prop} {ls : Array Slot} {g : xg} {x0 m0 o bb L i : Nat} {xs : Nat → Int32} {ν : nS} {z : Int64} (hlt : l.stackTraces = false) (hF : xFix p m c cL_law 9 s args RX0) (hE : xE g (x3 s.heap.size) s) (hNc : xNc s) (hX : va_X bb L xs s s.heap) (hbl : bb < s.heap.size) (hL : L ≤ 259) (hi : i + 4 ≤ L) (hc : cells + 2200 ≤ 603072) (hsl : slots + 93200 ≤ 7194288)
    (hV : LV g s.heap.size m0 o (xI g ν x0) (mR ν) z H) (hS : va_S (x3 s.heap.size) s.heap H locs) (hl : lh ls 9 (xl [(0, .ref bb), (1, .ref x0), (2, .ref m0), (3, .ref o), (4, .int (nI i))]))
    (kk : ∀ (ν' : nS) (z' : Int64) (H1 : Heap) (locs1 : List Loc) (ls1 : Array Slot), LV g s.heap.size m0 o (xI g ν' x0) (mR ν') z' H1 → va_S (x3 s.heap.size) s.heap H1 locs1 → lh ls1 9 (xl [(0, .ref bb), (1, .ref x0), (2, .ref m0), (3, .ref o), (4, .int (nI i))]) → W p l e room_1 s m args below meth c H1 locs1 (cells + 2200) (slots + 93200) Q (F0 m 1440 ls1 [])) :
    W p l e room_1 s m args below meth c H locs cells slots Q (F0 m 540 ls []) := by
  obtain ⟨hx, hb, hml, hown, hts⟩ := id hF
  refine lv_aload_n hx hb dL_law_540 rfl (lh_at hl rfl) ?_
  refine lv_aload_n hx hb dL_law_541 rfl (lh_at hl rfl) ?_
  refine lv_iload hx hb dL_law_542 (lh_at hl rfl) ?_
  refine n_const hx hb 1 dL_law_544 (by decide +kernel) ?_
  refine n_iadd hx hb dL_law_545 ?_
  refine l_iald hF hX hbl hS (by omega) hL dL_law_546 ?_
  refine lv_aload_n hx hb dL_law_547 rfl (lh_at hl rfl) ?_
  refine lv_iload hx hb dL_law_548 (lh_at hl rfl) ?_
  refine n_const hx hb 2 dL_law_550 (by decide +kernel) ?_
  refine n_iadd hx hb dL_law_551 ?_
  refine l_iald hF hX hbl hS (by omega) hL dL_law_552 ?_
  refine lv_aload_n hx hb dL_law_553 rfl (lh_at hl rfl) ?_
  refine lv_iload hx hb dL_law_554 (lh_at hl rfl) ?_
  refine n_const hx hb 3 dL_law_556 (by decide +kernel) ?_
  refine n_iadd hx hb dL_law_557 ?_
  refine l_iald hF hX hbl hS (by omega) hL dL_law_558 ?_
  refine lv_aload_n hx hb dL_law_559 rfl (lh_at hl rfl) ?_
  refine l_x (As := [.ref x0, .int (xs (i + 1)), .int (xs (i + 2)), .int (xs (i + 3)), .ref o]) hF hE hNc hS hV hl (fun B w h hoB => yk_line l hlt g B w ν x0 o z (xs (i + 1)) (xs (i + 2)) (xs (i + 3)) h hoB) q984 q985 q37 q986 ⟨by decide +kernel, by decide +kernel, by show _ = some 5; decide +kernel⟩ rfl rfl ⟨Nat.le_of_ble_eq_true rfl, Nat.le_of_ble_eq_true rfl⟩ rfl (Nat.le_of_ble_eq_true rfl) dL_law_560 (by show (_ : Nat) ≤ 603072 ∧ (_ : Nat) ≤ 7194288; omega) (fun z1 H locs hz1 hV hS => ?_)
  refine x_istore hx hb dL_law_563 hl (by decide) (fun ls hl => ?_)
  refine lv_aload_n hx hb dL_law_565 rfl (lh_at hl rfl) ?_
  refine lv_aload_n hx hb dL_law_566 rfl (lh_at hl rfl) ?_
  refine lv_iload hx hb dL_law_567 (lh_at hl rfl) ?_
  refine n_const hx hb 1 dL_law_569 (by decide +kernel) ?_
  refine n_iadd hx hb dL_law_570 ?_
  refine l_iald hF hX hbl hS (by omega) hL dL_law_571 ?_
  refine lv_aload_n hx hb dL_law_572 rfl (lh_at hl rfl) ?_
  refine lv_iload hx hb dL_law_573 (lh_at hl rfl) ?_
  refine n_const hx hb 2 dL_law_575 (by decide +kernel) ?_
  refine n_iadd hx hb dL_law_576 ?_
  refine l_iald hF hX hbl hS (by omega) hL dL_law_577 ?_
  refine lv_aload_n hx hb dL_law_578 rfl (lh_at hl rfl) ?_
  refine lv_iload hx hb dL_law_579 (lh_at hl rfl) ?_
  refine n_const hx hb 3 dL_law_581 (by decide +kernel) ?_
  refine n_iadd hx hb dL_law_582 ?_
  refine l_iald hF hX hbl hS (by omega) hL dL_law_583 ?_
  refine l_m (post := fun _ => mOp (opLine ν (xs (i + 1)) (xs (i + 2)) (xs (i + 3)))) (As := [.int (xs (i + 1)), .int (xs (i + 2)), .int (xs (i + 3))]) hF hE hS hV hl (fun A ad μ h => mk_line l g A m0 ad μ ν h (xs (i + 1)) (xs (i + 2)) (xs (i + 3))) q1435 q1436 q1437 q44 q1438 ⟨rfl, by decide +kernel, by decide +kernel, by show _ = some 3; decide +kernel⟩ rfl rfl ⟨Nat.le_of_ble_eq_true rfl, Nat.le_of_ble_eq_true rfl⟩ rfl (Nat.le_of_ble_eq_true rfl) dL_law_584 (by show (_ : Nat) ≤ 603072 ∧ (_ : Nat) ≤ 7194288; omega) (fun r2 H locs hV hS => ?_)
  generalize ht : (opLine ν (xs (i + 1)) (xs (i + 2)) (xs (i + 3))) = t at hV hz1 hl ⊢
  have ht3 : t.1 ≤ 3 := by rw [← ht]; exact opLine_c ν (xs (i + 1)) (xs (i + 2)) (xs (i + 3))
  clear ht
  have hr2 : r2 = t.2.1 := by
    obtain ⟨-, ⟨u9, μ9, -, -, hr9, -⟩, -⟩ := hV.get
    exact hr9
  subst hr2
  have hV := hV.mono (PX' := fun w => vOk t.2.2 → xI g t.2.2 x0 w) (PM' := fun u => u.1 0 = nI t.1 ∧ mR t.2.2 u) (fun _ h => h) (fun u h => by obtain ⟨μ, -, h1, -, h3⟩ := h; exact ⟨h1, h3⟩)
  refine x_istore hx hb dL_law_587 hl (by decide) (fun ls hl => ?_)
  refine lv_aload_n hx hb dL_law_589 rfl (lh_at hl rfl) ?_
  refine l_m (post := fun μ r u => r = μ.1 0 ∧ u = μ) (As := []) hF hE hS hV hl (fun A ad μ _ => mk_thrown l g A m0 ad μ) q1381 q1382 q1383 q44 q1384 ⟨rfl, by decide +kernel, by decide +kernel, by show _ = some 0; decide +kernel⟩ rfl rfl ⟨Nat.le_of_ble_eq_true rfl, Nat.le_of_ble_eq_true rfl⟩ rfl (Nat.le_of_ble_eq_true rfl) dL_law_590 (by show (_ : Nat) ≤ 603072 ∧ (_ : Nat) ≤ 7194288; omega) (fun r3 H locs hV hS => ?_)
  have hr3 : r3 = nI t.1 := by
    obtain ⟨-, ⟨u9, μ9, hm9, hr9, -⟩, -⟩ := hV.get
    exact hr9.trans hm9.1
  subst hr3
  have hV := hV.mono (PX' := fun w => vOk t.2.2 → xI g t.2.2 x0 w) (PM' := mR t.2.2) (fun _ h => h) (fun u h => by obtain ⟨μ, h1, -, h3⟩ := h; rw [h3]; exact h1.2)
  have hok : vOk t.2.2 := by
    obtain ⟨-, ⟨u9, hm9⟩, -⟩ := hV.get
    exact hm9.1
  have hV := hV.mono (PX' := xI g t.2.2 x0) (PM' := mR t.2.2) (fun _ h => h hok) (fun _ h => h)
  refine lv_iload hx hb dL_law_593 (lh_at hl rfl) ?_
  refine lv_icmp_eq (tgt := 600) hx hb dL_law_595 (by decide) (fun c1 => ?_) (fun c1 => ?_)
  · refine lv_iload hx hb dL_law_600 (lh_at hl rfl) ?_
    refine lv_if_ne (tgt := 617) hx hb dL_law_602 (by decide) (fun c2 => ?_) (fun c2 => ?_)
    · refine lv_goto (tgt := 1440) hx hb dL_law_617 (by decide) ?_
      refine W.widen (k := cells + 2200) (n := slots + 93200) (by omega) (by omega) ?_
      exact kk _ _ _ _ _ hV hS (lh_sub hl _ ⟨rfl, rfl, rfl, rfl, rfl, trivial⟩)
    · have h0 : t.1 = 0 := by
        have h4 := c2
        have h5 := congrArg Int32.toInt h4
        rw [nI_toInt (by omega)] at h5
        have h6 : ((0 : Int32)).toInt = 0 := rfl
        omega
      refine lv_aload_n hx hb dL_law_605 rfl (lh_at hl rfl) ?_
      refine n_const hx hb 0 dL_law_606 (by decide +kernel) ?_
      refine l_lald hF hE hV dL_law_607 ?_
      refine lv_iload hx hb dL_law_608 (lh_at hl rfl) ?_
      refine lv_i2l hx hb dL_law_610 rfl ?_
      refine W.lcmp hx hb dL_law_611 ?_
      rw [hz1 h0, show lg_cmp t.2.1.toInt64 t.2.1.toInt64 = 0 by simp [lg_cmp]]
      refine lv_if_eq (tgt := 617) hx hb dL_law_612 (by decide) (fun c3 => ?_) (fun c3 => ?_)
      · refine lv_goto (tgt := 1440) hx hb dL_law_617 (by decide) ?_
        refine W.widen (k := cells + 2200) (n := slots + 93200) (by omega) (by omega) ?_
        exact kk _ _ _ _ _ hV hS (lh_sub hl _ ⟨rfl, rfl, rfl, rfl, rfl, trivial⟩)
      · exact absurd rfl c3
  · exact absurd rfl c1
set_option maxHeartbeats 2000000 in
theorem law_c7 {p : Program} {l : Launch} {e : Env} {s : State} {m : MethodId} {args : Array Value} {below : List Frame} {meth : Method} {c : Code} {H : Heap} {locs : List Loc} {cells slots : Nat} {Q : State → Prop} {ls : Array Slot} {g : xg} {x0 m0 o bb L i : Nat} {xs : Nat → Int32} {ν : nS} {z : Int64} (hlt : l.stackTraces = false) (hF : xFix p m c cL_law 9 s args RX0) (hE : xE g (x3 s.heap.size) s) (hNc : xNc s) (hX : va_X bb L xs s s.heap) (hbl : bb < s.heap.size) (hL : L ≤ 259) (hi : i + 4 ≤ L) (hc : cells + 2200 ≤ 603072) (hsl : slots + 93200 ≤ 7194288)
    (hV : LV g s.heap.size m0 o (xI g ν x0) (mR ν) z H) (hS : va_S (x3 s.heap.size) s.heap H locs) (hl : lh ls 9 (xl [(0, .ref bb), (1, .ref x0), (2, .ref m0), (3, .ref o), (4, .int (nI i))]))
    (kk : ∀ (ν' : nS) (z' : Int64) (H1 : Heap) (locs1 : List Loc) (ls1 : Array Slot), LV g s.heap.size m0 o (xI g ν' x0) (mR ν') z' H1 → va_S (x3 s.heap.size) s.heap H1 locs1 → lh ls1 9 (xl [(0, .ref bb), (1, .ref x0), (2, .ref m0), (3, .ref o), (4, .int (nI i))]) → W p l e room_1 s m args below meth c H1 locs1 (cells + 2200) (slots + 93200) Q (F0 m 1440 ls1 [])) :
    W p l e room_1 s m args below meth c H locs cells slots Q (F0 m 620 ls []) := by
  obtain ⟨hx, hb, hml, hown, hts⟩ := id hF
  refine lv_aload_n hx hb dL_law_620 rfl (lh_at hl rfl) ?_
  refine l_xi (As := []) hF hE hS hV hl (fun B w h => xk_orders l g B w ν x0 h) q178 q179 q180 q38 q181 ⟨rfl, by decide +kernel, by decide +kernel, by show _ = some 0; decide +kernel⟩ rfl rfl ⟨Nat.le_of_ble_eq_true rfl, Nat.le_of_ble_eq_true rfl⟩ rfl (Nat.le_of_ble_eq_true rfl) dL_law_621 (by show (_ : Nat) ≤ 603072 ∧ (_ : Nat) ≤ 7194288; omega) (fun r1 H locs hr1 hV hS => ?_)
  refine lv_aload_n hx hb dL_law_624 rfl (lh_at hl rfl) ?_
  refine l_m (post := fun _ => mOp (0, nI (vC ν 4), ν)) (As := []) hF hE hS hV hl (fun A ad μ h => mk_orders l g A m0 ad μ ν h) q1447 q1448 q1449 q44 q1450 ⟨rfl, by decide +kernel, by decide +kernel, by show _ = some 0; decide +kernel⟩ rfl rfl ⟨Nat.le_of_ble_eq_true rfl, Nat.le_of_ble_eq_true rfl⟩ rfl (Nat.le_of_ble_eq_true rfl) dL_law_625 (by show (_ : Nat) ≤ 603072 ∧ (_ : Nat) ≤ 7194288; omega) (fun r2 H locs hV hS => ?_)
  have hr2 : r2 = nI (vC ν 4) := by
    obtain ⟨-, ⟨u9, μ9, -, -, hr9, -⟩, -⟩ := hV.get
    exact hr9
  have hV := hV.mono (PX' := xI g ν x0) (PM' := mR ν) (fun _ h => h) (fun u h => by obtain ⟨μ, -, -, -, h3⟩ := h; exact h3)
  rw [hr1, hr2]
  refine lv_icmp_eq (tgt := 1440) hx hb dL_law_628 (by decide) (fun c1 => ?_) (fun c1 => ?_)
  · refine W.widen (k := cells + 2200) (n := slots + 93200) (by omega) (by omega) ?_
    exact kk _ _ _ _ _ hV hS (lh_sub hl _ ⟨rfl, rfl, rfl, rfl, rfl, trivial⟩)
  · exact absurd rfl c1
set_option maxHeartbeats 2000000 in
theorem law_c8 {p : Program} {l : Launch} {e : Env} {s : State} {m : MethodId} {args : Array Value} {below : List Frame} {meth : Method} {c : Code} {H : Heap} {locs : List Loc} {cells slots : Nat} {Q : State → Prop} {ls : Array Slot} {g : xg} {x0 m0 o bb L i : Nat} {xs : Nat → Int32} {ν : nS} {z : Int64} (hlt : l.stackTraces = false) (hF : xFix p m c cL_law 9 s args RX0) (hE : xE g (x3 s.heap.size) s) (hNc : xNc s) (hX : va_X bb L xs s s.heap) (hbl : bb < s.heap.size) (hL : L ≤ 259) (hi : i + 4 ≤ L) (hc : cells + 2200 ≤ 603072) (hsl : slots + 93200 ≤ 7194288)
    (hV : LV g s.heap.size m0 o (xI g ν x0) (mR ν) z H) (hS : va_S (x3 s.heap.size) s.heap H locs) (hl : lh ls 9 (xl [(0, .ref bb), (1, .ref x0), (2, .ref m0), (3, .ref o), (4, .int (nI i))]))
    (kk : ∀ (ν' : nS) (z' : Int64) (H1 : Heap) (locs1 : List Loc) (ls1 : Array Slot), LV g s.heap.size m0 o (xI g ν' x0) (mR ν') z' H1 → va_S (x3 s.heap.size) s.heap H1 locs1 → lh ls1 9 (xl [(0, .ref bb), (1, .ref x0), (2, .ref m0), (3, .ref o), (4, .int (nI i))]) → W p l e room_1 s m args below meth c H1 locs1 (cells + 2200) (slots + 93200) Q (F0 m 1440 ls1 [])) :
    W p l e room_1 s m args below meth c H locs cells slots Q (F0 m 633 ls []) := by
  obtain ⟨hx, hb, hml, hown, hts⟩ := id hF
  refine lv_aload_n hx hb dL_law_633 rfl (lh_at hl rfl) ?_
  refine lv_aload_n hx hb dL_law_634 rfl (lh_at hl rfl) ?_
  refine lv_iload hx hb dL_law_635 (lh_at hl rfl) ?_
  refine n_const hx hb 1 dL_law_637 (by decide +kernel) ?_
  refine n_iadd hx hb dL_law_638 ?_
  refine l_iald hF hX hbl hS (by omega) hL dL_law_639 ?_
  refine lv_aload_n hx hb dL_law_640 rfl (lh_at hl rfl) ?_
  refine l_x (As := [.ref x0, .int (xs (i + 1)), .ref o]) hF hE hNc hS hV hl (fun B w h hoB => yk_stateOf l hlt g B w ν x0 o z (xs (i + 1)) h hoB) q1007 q1008 q37 q1009 ⟨by decide +kernel, by decide +kernel, by show _ = some 3; decide +kernel⟩ rfl rfl ⟨Nat.le_of_ble_eq_true rfl, Nat.le_of_ble_eq_true rfl⟩ rfl (Nat.le_of_ble_eq_true rfl) dL_law_641 (by show (_ : Nat) ≤ 603072 ∧ (_ : Nat) ≤ 7194288; omega) (fun z1 H locs hz1 hV hS => ?_)
  refine x_istore hx hb dL_law_644 hl (by decide) (fun ls hl => ?_)
  refine lv_aload_n hx hb dL_law_646 rfl (lh_at hl rfl) ?_
  refine lv_aload_n hx hb dL_law_647 rfl (lh_at hl rfl) ?_
  refine lv_iload hx hb dL_law_648 (lh_at hl rfl) ?_
  refine n_const hx hb 1 dL_law_650 (by decide +kernel) ?_
  refine n_iadd hx hb dL_law_651 ?_
  refine l_iald hF hX hbl hS (by omega) hL dL_law_652 ?_
  refine l_m (post := fun _ => mOp (opStateOf ν (xs (i + 1)))) (As := [.int (xs (i + 1))]) hF hE hS hV hl (fun A ad μ h => mk_stateOf l g A m0 ad μ ν h (xs (i + 1))) q1451 q1452 q1453 q44 q1454 ⟨rfl, by decide +kernel, by decide +kernel, by show _ = some 1; decide +kernel⟩ rfl rfl ⟨Nat.le_of_ble_eq_true rfl, Nat.le_of_ble_eq_true rfl⟩ rfl (Nat.le_of_ble_eq_true rfl) dL_law_653 (by show (_ : Nat) ≤ 603072 ∧ (_ : Nat) ≤ 7194288; omega) (fun r2 H locs hV hS => ?_)
  generalize ht : (opStateOf ν (xs (i + 1))) = t at hV hz1 hl ⊢
  have ht3 : t.1 ≤ 3 := by rw [← ht]; exact opStateOf_c ν (xs (i + 1))
  clear ht
  have hr2 : r2 = t.2.1 := by
    obtain ⟨-, ⟨u9, μ9, -, -, hr9, -⟩, -⟩ := hV.get
    exact hr9
  subst hr2
  have hV := hV.mono (PX' := fun w => vOk t.2.2 → xI g t.2.2 x0 w) (PM' := fun u => u.1 0 = nI t.1 ∧ mR t.2.2 u) (fun _ h => h) (fun u h => by obtain ⟨μ, -, h1, -, h3⟩ := h; exact ⟨h1, h3⟩)
  refine x_istore hx hb dL_law_656 hl (by decide) (fun ls hl => ?_)
  refine lv_aload_n hx hb dL_law_658 rfl (lh_at hl rfl) ?_
  refine l_m (post := fun μ r u => r = μ.1 0 ∧ u = μ) (As := []) hF hE hS hV hl (fun A ad μ _ => mk_thrown l g A m0 ad μ) q1381 q1382 q1383 q44 q1384 ⟨rfl, by decide +kernel, by decide +kernel, by show _ = some 0; decide +kernel⟩ rfl rfl ⟨Nat.le_of_ble_eq_true rfl, Nat.le_of_ble_eq_true rfl⟩ rfl (Nat.le_of_ble_eq_true rfl) dL_law_659 (by show (_ : Nat) ≤ 603072 ∧ (_ : Nat) ≤ 7194288; omega) (fun r3 H locs hV hS => ?_)
  have hr3 : r3 = nI t.1 := by
    obtain ⟨-, ⟨u9, μ9, hm9, hr9, -⟩, -⟩ := hV.get
    exact hr9.trans hm9.1
  subst hr3
  have hV := hV.mono (PX' := fun w => vOk t.2.2 → xI g t.2.2 x0 w) (PM' := mR t.2.2) (fun _ h => h) (fun u h => by obtain ⟨μ, h1, -, h3⟩ := h; rw [h3]; exact h1.2)
  have hok : vOk t.2.2 := by
    obtain ⟨-, ⟨u9, hm9⟩, -⟩ := hV.get
    exact hm9.1
  have hV := hV.mono (PX' := xI g t.2.2 x0) (PM' := mR t.2.2) (fun _ h => h hok) (fun _ h => h)
  refine lv_iload hx hb dL_law_662 (lh_at hl rfl) ?_
  refine lv_icmp_eq (tgt := 669) hx hb dL_law_664 (by decide) (fun c1 => ?_) (fun c1 => ?_)
  · refine lv_iload hx hb dL_law_669 (lh_at hl rfl) ?_
    refine lv_if_ne (tgt := 686) hx hb dL_law_671 (by decide) (fun c2 => ?_) (fun c2 => ?_)
    · refine lv_goto (tgt := 1440) hx hb dL_law_686 (by decide) ?_
      refine W.widen (k := cells + 2200) (n := slots + 93200) (by omega) (by omega) ?_
      exact kk _ _ _ _ _ hV hS (lh_sub hl _ ⟨rfl, rfl, rfl, rfl, rfl, trivial⟩)
    · have h0 : t.1 = 0 := by
        have h4 := c2
        have h5 := congrArg Int32.toInt h4
        rw [nI_toInt (by omega)] at h5
        have h6 : ((0 : Int32)).toInt = 0 := rfl
        omega
      refine lv_aload_n hx hb dL_law_674 rfl (lh_at hl rfl) ?_
      refine n_const hx hb 0 dL_law_675 (by decide +kernel) ?_
      refine l_lald hF hE hV dL_law_676 ?_
      refine lv_iload hx hb dL_law_677 (lh_at hl rfl) ?_
      refine lv_i2l hx hb dL_law_679 rfl ?_
      refine W.lcmp hx hb dL_law_680 ?_
      rw [hz1 h0, show lg_cmp t.2.1.toInt64 t.2.1.toInt64 = 0 by simp [lg_cmp]]
      refine lv_if_eq (tgt := 686) hx hb dL_law_681 (by decide) (fun c3 => ?_) (fun c3 => ?_)
      · refine lv_goto (tgt := 1440) hx hb dL_law_686 (by decide) ?_
        refine W.widen (k := cells + 2200) (n := slots + 93200) (by omega) (by omega) ?_
        exact kk _ _ _ _ _ hV hS (lh_sub hl _ ⟨rfl, rfl, rfl, rfl, rfl, trivial⟩)
      · exact absurd rfl c3
  · exact absurd rfl c1
set_option maxHeartbeats 2000000 in
theorem law_c9 {p : Program} {l : Launch} {e : Env} {s : State} {m : MethodId} {args : Array Value} {below : List Frame} {meth : Method} {c : Code} {H : Heap} {locs : List Loc} {cells slots : Nat} {Q : State → Prop} {ls : Array Slot} {g : xg} {x0 m0 o bb L i : Nat} {xs : Nat → Int32} {ν : nS} {z : Int64} (hlt : l.stackTraces = false) (hF : xFix p m c cL_law 9 s args RX0) (hE : xE g (x3 s.heap.size) s) (hNc : xNc s) (hX : va_X bb L xs s s.heap) (hbl : bb < s.heap.size) (hL : L ≤ 259) (hi : i + 4 ≤ L) (hc : cells + 2200 ≤ 603072) (hsl : slots + 93200 ≤ 7194288)
    (hV : LV g s.heap.size m0 o (xI g ν x0) (mR ν) z H) (hS : va_S (x3 s.heap.size) s.heap H locs) (hl : lh ls 9 (xl [(0, .ref bb), (1, .ref x0), (2, .ref m0), (3, .ref o), (4, .int (nI i))]))
    (kk : ∀ (ν' : nS) (z' : Int64) (H1 : Heap) (locs1 : List Loc) (ls1 : Array Slot), LV g s.heap.size m0 o (xI g ν' x0) (mR ν') z' H1 → va_S (x3 s.heap.size) s.heap H1 locs1 → lh ls1 9 (xl [(0, .ref bb), (1, .ref x0), (2, .ref m0), (3, .ref o), (4, .int (nI i))]) → W p l e room_1 s m args below meth c H1 locs1 (cells + 2200) (slots + 93200) Q (F0 m 1440 ls1 [])) :
    W p l e room_1 s m args below meth c H locs cells slots Q (F0 m 689 ls []) := by
  obtain ⟨hx, hb, hml, hown, hts⟩ := id hF
  refine lv_aload_n hx hb dL_law_689 rfl (lh_at hl rfl) ?_
  refine lv_aload_n hx hb dL_law_690 rfl (lh_at hl rfl) ?_
  refine lv_iload hx hb dL_law_691 (lh_at hl rfl) ?_
  refine n_const hx hb 1 dL_law_693 (by decide +kernel) ?_
  refine n_iadd hx hb dL_law_694 ?_
  refine l_iald hF hX hbl hS (by omega) hL dL_law_695 ?_
  refine lv_aload_n hx hb dL_law_696 rfl (lh_at hl rfl) ?_
  refine l_x (As := [.ref x0, .int (xs (i + 1)), .ref o]) hF hE hNc hS hV hl (fun B w h hoB => yk_lengthAlone l hlt g B w ν x0 o z (xs (i + 1)) h hoB) q1014 q1015 q37 q1016 ⟨by decide +kernel, by decide +kernel, by show _ = some 3; decide +kernel⟩ rfl rfl ⟨Nat.le_of_ble_eq_true rfl, Nat.le_of_ble_eq_true rfl⟩ rfl (Nat.le_of_ble_eq_true rfl) dL_law_697 (by show (_ : Nat) ≤ 603072 ∧ (_ : Nat) ≤ 7194288; omega) (fun z1 H locs hz1 hV hS => ?_)
  refine x_istore hx hb dL_law_700 hl (by decide) (fun ls hl => ?_)
  refine lv_aload_n hx hb dL_law_702 rfl (lh_at hl rfl) ?_
  refine lv_aload_n hx hb dL_law_703 rfl (lh_at hl rfl) ?_
  refine lv_iload hx hb dL_law_704 (lh_at hl rfl) ?_
  refine n_const hx hb 1 dL_law_706 (by decide +kernel) ?_
  refine n_iadd hx hb dL_law_707 ?_
  refine l_iald hF hX hbl hS (by omega) hL dL_law_708 ?_
  refine l_m (post := fun _ => mOp (opLengthAlone ν (xs (i + 1)))) (As := [.int (xs (i + 1))]) hF hE hS hV hl (fun A ad μ h => mk_lengthAlone l g A m0 ad μ ν h (xs (i + 1))) q1455 q1456 q1457 q44 q1458 ⟨rfl, by decide +kernel, by decide +kernel, by show _ = some 1; decide +kernel⟩ rfl rfl ⟨Nat.le_of_ble_eq_true rfl, Nat.le_of_ble_eq_true rfl⟩ rfl (Nat.le_of_ble_eq_true rfl) dL_law_709 (by show (_ : Nat) ≤ 603072 ∧ (_ : Nat) ≤ 7194288; omega) (fun r2 H locs hV hS => ?_)
  generalize ht : (opLengthAlone ν (xs (i + 1))) = t at hV hz1 hl ⊢
  have ht3 : t.1 ≤ 3 := by rw [← ht]; exact opLengthAlone_c ν (xs (i + 1))
  clear ht
  have hr2 : r2 = t.2.1 := by
    obtain ⟨-, ⟨u9, μ9, -, -, hr9, -⟩, -⟩ := hV.get
    exact hr9
  subst hr2
  have hV := hV.mono (PX' := fun w => vOk t.2.2 → xI g t.2.2 x0 w) (PM' := fun u => u.1 0 = nI t.1 ∧ mR t.2.2 u) (fun _ h => h) (fun u h => by obtain ⟨μ, -, h1, -, h3⟩ := h; exact ⟨h1, h3⟩)
  refine x_istore hx hb dL_law_712 hl (by decide) (fun ls hl => ?_)
  refine lv_aload_n hx hb dL_law_714 rfl (lh_at hl rfl) ?_
  refine l_m (post := fun μ r u => r = μ.1 0 ∧ u = μ) (As := []) hF hE hS hV hl (fun A ad μ _ => mk_thrown l g A m0 ad μ) q1381 q1382 q1383 q44 q1384 ⟨rfl, by decide +kernel, by decide +kernel, by show _ = some 0; decide +kernel⟩ rfl rfl ⟨Nat.le_of_ble_eq_true rfl, Nat.le_of_ble_eq_true rfl⟩ rfl (Nat.le_of_ble_eq_true rfl) dL_law_715 (by show (_ : Nat) ≤ 603072 ∧ (_ : Nat) ≤ 7194288; omega) (fun r3 H locs hV hS => ?_)
  have hr3 : r3 = nI t.1 := by
    obtain ⟨-, ⟨u9, μ9, hm9, hr9, -⟩, -⟩ := hV.get
    exact hr9.trans hm9.1
  subst hr3
  have hV := hV.mono (PX' := fun w => vOk t.2.2 → xI g t.2.2 x0 w) (PM' := mR t.2.2) (fun _ h => h) (fun u h => by obtain ⟨μ, h1, -, h3⟩ := h; rw [h3]; exact h1.2)
  have hok : vOk t.2.2 := by
    obtain ⟨-, ⟨u9, hm9⟩, -⟩ := hV.get
    exact hm9.1
  have hV := hV.mono (PX' := xI g t.2.2 x0) (PM' := mR t.2.2) (fun _ h => h hok) (fun _ h => h)
  refine lv_iload hx hb dL_law_718 (lh_at hl rfl) ?_
  refine lv_icmp_eq (tgt := 725) hx hb dL_law_720 (by decide) (fun c1 => ?_) (fun c1 => ?_)
  · refine lv_iload hx hb dL_law_725 (lh_at hl rfl) ?_
    refine lv_if_ne (tgt := 742) hx hb dL_law_727 (by decide) (fun c2 => ?_) (fun c2 => ?_)
    · refine lv_goto (tgt := 1440) hx hb dL_law_742 (by decide) ?_
      refine W.widen (k := cells + 2200) (n := slots + 93200) (by omega) (by omega) ?_
      exact kk _ _ _ _ _ hV hS (lh_sub hl _ ⟨rfl, rfl, rfl, rfl, rfl, trivial⟩)
    · have h0 : t.1 = 0 := by
        have h4 := c2
        have h5 := congrArg Int32.toInt h4
        rw [nI_toInt (by omega)] at h5
        have h6 : ((0 : Int32)).toInt = 0 := rfl
        omega
      refine lv_aload_n hx hb dL_law_730 rfl (lh_at hl rfl) ?_
      refine n_const hx hb 0 dL_law_731 (by decide +kernel) ?_
      refine l_lald hF hE hV dL_law_732 ?_
      refine lv_iload hx hb dL_law_733 (lh_at hl rfl) ?_
      refine lv_i2l hx hb dL_law_735 rfl ?_
      refine W.lcmp hx hb dL_law_736 ?_
      rw [hz1 h0, show lg_cmp t.2.1.toInt64 t.2.1.toInt64 = 0 by simp [lg_cmp]]
      refine lv_if_eq (tgt := 742) hx hb dL_law_737 (by decide) (fun c3 => ?_) (fun c3 => ?_)
      · refine lv_goto (tgt := 1440) hx hb dL_law_742 (by decide) ?_
        refine W.widen (k := cells + 2200) (n := slots + 93200) (by omega) (by omega) ?_
        exact kk _ _ _ _ _ hV hS (lh_sub hl _ ⟨rfl, rfl, rfl, rfl, rfl, trivial⟩)
      · exact absurd rfl c3
  · exact absurd rfl c1
set_option maxHeartbeats 2000000 in
theorem law_c10 {p : Program} {l : Launch} {e : Env} {s : State} {m : MethodId} {args : Array Value} {below : List Frame} {meth : Method} {c : Code} {H : Heap} {locs : List Loc} {cells slots : Nat} {Q : State → Prop} {ls : Array Slot} {g : xg} {x0 m0 o bb L i : Nat} {xs : Nat → Int32} {ν : nS} {z : Int64} (hlt : l.stackTraces = false) (hF : xFix p m c cL_law 9 s args RX0) (hE : xE g (x3 s.heap.size) s) (hNc : xNc s) (hX : va_X bb L xs s s.heap) (hbl : bb < s.heap.size) (hL : L ≤ 259) (hi : i + 4 ≤ L) (hc : cells + 2200 ≤ 603072) (hsl : slots + 93200 ≤ 7194288)
    (hV : LV g s.heap.size m0 o (xI g ν x0) (mR ν) z H) (hS : va_S (x3 s.heap.size) s.heap H locs) (hl : lh ls 9 (xl [(0, .ref bb), (1, .ref x0), (2, .ref m0), (3, .ref o), (4, .int (nI i))]))
    (kk : ∀ (ν' : nS) (z' : Int64) (H1 : Heap) (locs1 : List Loc) (ls1 : Array Slot), LV g s.heap.size m0 o (xI g ν' x0) (mR ν') z' H1 → va_S (x3 s.heap.size) s.heap H1 locs1 → lh ls1 9 (xl [(0, .ref bb), (1, .ref x0), (2, .ref m0), (3, .ref o), (4, .int (nI i))]) → W p l e room_1 s m args below meth c H1 locs1 (cells + 2200) (slots + 93200) Q (F0 m 1440 ls1 [])) :
    W p l e room_1 s m args below meth c H locs cells slots Q (F0 m 745 ls []) := by
  obtain ⟨hx, hb, hml, hown, hts⟩ := id hF
  refine lv_aload_n hx hb dL_law_745 rfl (lh_at hl rfl) ?_
  refine lv_aload_n hx hb dL_law_746 rfl (lh_at hl rfl) ?_
  refine lv_iload hx hb dL_law_747 (lh_at hl rfl) ?_
  refine n_const hx hb 1 dL_law_749 (by decide +kernel) ?_
  refine n_iadd hx hb dL_law_750 ?_
  refine l_iald hF hX hbl hS (by omega) hL dL_law_751 ?_
  refine lv_aload_n hx hb dL_law_752 rfl (lh_at hl rfl) ?_
  refine l_x (As := [.ref x0, .int (xs (i + 1)), .ref o]) hF hE hNc hS hV hl (fun B w h hoB => yk_setCapacity l hlt g B w ν x0 o z (xs (i + 1)) h hoB) q1041 q1042 q37 q1043 ⟨by decide +kernel, by decide +kernel, by show _ = some 3; decide +kernel⟩ rfl rfl ⟨Nat.le_of_ble_eq_true rfl, Nat.le_of_ble_eq_true rfl⟩ rfl (Nat.le_of_ble_eq_true rfl) dL_law_753 (by show (_ : Nat) ≤ 603072 ∧ (_ : Nat) ≤ 7194288; omega) (fun z1 H locs hz1 hV hS => ?_)
  refine x_istore hx hb dL_law_756 hl (by decide) (fun ls hl => ?_)
  refine lv_aload_n hx hb dL_law_758 rfl (lh_at hl rfl) ?_
  refine lv_aload_n hx hb dL_law_759 rfl (lh_at hl rfl) ?_
  refine lv_iload hx hb dL_law_760 (lh_at hl rfl) ?_
  refine n_const hx hb 1 dL_law_762 (by decide +kernel) ?_
  refine n_iadd hx hb dL_law_763 ?_
  refine l_iald hF hX hbl hS (by omega) hL dL_law_764 ?_
  refine l_m (post := fun _ => mOp (opSetCap ν (xs (i + 1)))) (As := [.int (xs (i + 1))]) hF hE hS hV hl (fun A ad μ h => mk_setCapacity l g A m0 ad μ ν h (xs (i + 1))) q1476 q1477 q1478 q44 q1479 ⟨rfl, by decide +kernel, by decide +kernel, by show _ = some 1; decide +kernel⟩ rfl rfl ⟨Nat.le_of_ble_eq_true rfl, Nat.le_of_ble_eq_true rfl⟩ rfl (Nat.le_of_ble_eq_true rfl) dL_law_765 (by show (_ : Nat) ≤ 603072 ∧ (_ : Nat) ≤ 7194288; omega) (fun r2 H locs hV hS => ?_)
  generalize ht : (opSetCap ν (xs (i + 1))) = t at hV hz1 hl ⊢
  have ht3 : t.1 ≤ 3 := by rw [← ht]; exact opSetCap_c ν (xs (i + 1))
  clear ht
  have hr2 : r2 = t.2.1 := by
    obtain ⟨-, ⟨u9, μ9, -, -, hr9, -⟩, -⟩ := hV.get
    exact hr9
  subst hr2
  have hV := hV.mono (PX' := fun w => vOk t.2.2 → xI g t.2.2 x0 w) (PM' := fun u => u.1 0 = nI t.1 ∧ mR t.2.2 u) (fun _ h => h) (fun u h => by obtain ⟨μ, -, h1, -, h3⟩ := h; exact ⟨h1, h3⟩)
  refine x_istore hx hb dL_law_768 hl (by decide) (fun ls hl => ?_)
  refine lv_aload_n hx hb dL_law_770 rfl (lh_at hl rfl) ?_
  refine l_m (post := fun μ r u => r = μ.1 0 ∧ u = μ) (As := []) hF hE hS hV hl (fun A ad μ _ => mk_thrown l g A m0 ad μ) q1381 q1382 q1383 q44 q1384 ⟨rfl, by decide +kernel, by decide +kernel, by show _ = some 0; decide +kernel⟩ rfl rfl ⟨Nat.le_of_ble_eq_true rfl, Nat.le_of_ble_eq_true rfl⟩ rfl (Nat.le_of_ble_eq_true rfl) dL_law_771 (by show (_ : Nat) ≤ 603072 ∧ (_ : Nat) ≤ 7194288; omega) (fun r3 H locs hV hS => ?_)
  have hr3 : r3 = nI t.1 := by
    obtain ⟨-, ⟨u9, μ9, hm9, hr9, -⟩, -⟩ := hV.get
    exact hr9.trans hm9.1
  subst hr3
  have hV := hV.mono (PX' := fun w => vOk t.2.2 → xI g t.2.2 x0 w) (PM' := mR t.2.2) (fun _ h => h) (fun u h => by obtain ⟨μ, h1, -, h3⟩ := h; rw [h3]; exact h1.2)
  have hok : vOk t.2.2 := by
    obtain ⟨-, ⟨u9, hm9⟩, -⟩ := hV.get
    exact hm9.1
  have hV := hV.mono (PX' := xI g t.2.2 x0) (PM' := mR t.2.2) (fun _ h => h hok) (fun _ h => h)
  refine lv_iload hx hb dL_law_774 (lh_at hl rfl) ?_
  refine lv_icmp_eq (tgt := 781) hx hb dL_law_776 (by decide) (fun c1 => ?_) (fun c1 => ?_)
  · refine lv_iload hx hb dL_law_781 (lh_at hl rfl) ?_
    refine lv_if_ne (tgt := 798) hx hb dL_law_783 (by decide) (fun c2 => ?_) (fun c2 => ?_)
    · refine lv_goto (tgt := 1440) hx hb dL_law_798 (by decide) ?_
      refine W.widen (k := cells + 2200) (n := slots + 93200) (by omega) (by omega) ?_
      exact kk _ _ _ _ _ hV hS (lh_sub hl _ ⟨rfl, rfl, rfl, rfl, rfl, trivial⟩)
    · have h0 : t.1 = 0 := by
        have h4 := c2
        have h5 := congrArg Int32.toInt h4
        rw [nI_toInt (by omega)] at h5
        have h6 : ((0 : Int32)).toInt = 0 := rfl
        omega
      refine lv_aload_n hx hb dL_law_786 rfl (lh_at hl rfl) ?_
      refine n_const hx hb 0 dL_law_787 (by decide +kernel) ?_
      refine l_lald hF hE hV dL_law_788 ?_
      refine lv_iload hx hb dL_law_789 (lh_at hl rfl) ?_
      refine lv_i2l hx hb dL_law_791 rfl ?_
      refine W.lcmp hx hb dL_law_792 ?_
      rw [hz1 h0, show lg_cmp t.2.1.toInt64 t.2.1.toInt64 = 0 by simp [lg_cmp]]
      refine lv_if_eq (tgt := 798) hx hb dL_law_793 (by decide) (fun c3 => ?_) (fun c3 => ?_)
      · refine lv_goto (tgt := 1440) hx hb dL_law_798 (by decide) ?_
        refine W.widen (k := cells + 2200) (n := slots + 93200) (by omega) (by omega) ?_
        exact kk _ _ _ _ _ hV hS (lh_sub hl _ ⟨rfl, rfl, rfl, rfl, rfl, trivial⟩)
      · exact absurd rfl c3
  · exact absurd rfl c1
set_option maxHeartbeats 2000000 in
theorem law_c11 {p : Program} {l : Launch} {e : Env} {s : State} {m : MethodId} {args : Array Value} {below : List Frame} {meth : Method} {c : Code} {H : Heap} {locs : List Loc} {cells slots : Nat} {Q : State → Prop} {ls : Array Slot} {g : xg} {x0 m0 o bb L i : Nat} {xs : Nat → Int32} {ν : nS} {z : Int64} (hlt : l.stackTraces = false) (hF : xFix p m c cL_law 9 s args RX0) (hE : xE g (x3 s.heap.size) s) (hNc : xNc s) (hX : va_X bb L xs s s.heap) (hbl : bb < s.heap.size) (hL : L ≤ 259) (hi : i + 4 ≤ L) (hc : cells + 2200 ≤ 603072) (hsl : slots + 93200 ≤ 7194288)
    (hV : LV g s.heap.size m0 o (xI g ν x0) (mR ν) z H) (hS : va_S (x3 s.heap.size) s.heap H locs) (hl : lh ls 9 (xl [(0, .ref bb), (1, .ref x0), (2, .ref m0), (3, .ref o), (4, .int (nI i))]))
    (kk : ∀ (ν' : nS) (z' : Int64) (H1 : Heap) (locs1 : List Loc) (ls1 : Array Slot), LV g s.heap.size m0 o (xI g ν' x0) (mR ν') z' H1 → va_S (x3 s.heap.size) s.heap H1 locs1 → lh ls1 9 (xl [(0, .ref bb), (1, .ref x0), (2, .ref m0), (3, .ref o), (4, .int (nI i))]) → W p l e room_1 s m args below meth c H1 locs1 (cells + 2200) (slots + 93200) Q (F0 m 1440 ls1 [])) :
    W p l e room_1 s m args below meth c H locs cells slots Q (F0 m 801 ls []) := by
  obtain ⟨hx, hb, hml, hown, hts⟩ := id hF
  refine lv_aload_n hx hb dL_law_801 rfl (lh_at hl rfl) ?_
  refine lv_aload_n hx hb dL_law_802 rfl (lh_at hl rfl) ?_
  refine lv_iload hx hb dL_law_803 (lh_at hl rfl) ?_
  refine n_const hx hb 1 dL_law_805 (by decide +kernel) ?_
  refine n_iadd hx hb dL_law_806 ?_
  refine l_iald hF hX hbl hS (by omega) hL dL_law_807 ?_
  refine lv_aload_n hx hb dL_law_808 rfl (lh_at hl rfl) ?_
  refine l_x (As := [.ref x0, .int (xs (i + 1)), .ref o]) hF hE hNc hS hV hl (fun B w h hoB => yk_planWave l hlt g B w ν x0 o z (xs (i + 1)) h hoB) q1100 q1101 q37 q1102 ⟨by decide +kernel, by decide +kernel, by show _ = some 3; decide +kernel⟩ rfl rfl ⟨Nat.le_of_ble_eq_true rfl, Nat.le_of_ble_eq_true rfl⟩ rfl (Nat.le_of_ble_eq_true rfl) dL_law_809 (by show (_ : Nat) ≤ 603072 ∧ (_ : Nat) ≤ 7194288; omega) (fun z1 H locs hz1 hV hS => ?_)
  refine x_istore hx hb dL_law_812 hl (by decide) (fun ls hl => ?_)
  refine lv_aload_n hx hb dL_law_814 rfl (lh_at hl rfl) ?_
  refine lv_aload_n hx hb dL_law_815 rfl (lh_at hl rfl) ?_
  refine lv_iload hx hb dL_law_816 (lh_at hl rfl) ?_
  refine n_const hx hb 1 dL_law_818 (by decide +kernel) ?_
  refine n_iadd hx hb dL_law_819 ?_
  refine l_iald hF hX hbl hS (by omega) hL dL_law_820 ?_
  refine l_m (post := fun _ => mOp (opPlan ν (xs (i + 1)))) (As := [.int (xs (i + 1))]) hF hE hS hV hl (fun A ad μ h => mk_planWave l g A m0 ad μ ν h (xs (i + 1))) q1480 q1481 q1482 q44 q1483 ⟨rfl, by decide +kernel, by decide +kernel, by show _ = some 1; decide +kernel⟩ rfl rfl ⟨Nat.le_of_ble_eq_true rfl, Nat.le_of_ble_eq_true rfl⟩ rfl (Nat.le_of_ble_eq_true rfl) dL_law_821 (by show (_ : Nat) ≤ 603072 ∧ (_ : Nat) ≤ 7194288; omega) (fun r2 H locs hV hS => ?_)
  generalize ht : (opPlan ν (xs (i + 1))) = t at hV hz1 hl ⊢
  have ht3 : t.1 ≤ 3 := by rw [← ht]; exact opPlan_c ν (xs (i + 1))
  clear ht
  have hr2 : r2 = t.2.1 := by
    obtain ⟨-, ⟨u9, μ9, -, -, hr9, -⟩, -⟩ := hV.get
    exact hr9
  subst hr2
  have hV := hV.mono (PX' := fun w => vOk t.2.2 → xI g t.2.2 x0 w) (PM' := fun u => u.1 0 = nI t.1 ∧ mR t.2.2 u) (fun _ h => h) (fun u h => by obtain ⟨μ, -, h1, -, h3⟩ := h; exact ⟨h1, h3⟩)
  refine x_istore hx hb dL_law_824 hl (by decide) (fun ls hl => ?_)
  refine lv_aload_n hx hb dL_law_826 rfl (lh_at hl rfl) ?_
  refine l_m (post := fun μ r u => r = μ.1 0 ∧ u = μ) (As := []) hF hE hS hV hl (fun A ad μ _ => mk_thrown l g A m0 ad μ) q1381 q1382 q1383 q44 q1384 ⟨rfl, by decide +kernel, by decide +kernel, by show _ = some 0; decide +kernel⟩ rfl rfl ⟨Nat.le_of_ble_eq_true rfl, Nat.le_of_ble_eq_true rfl⟩ rfl (Nat.le_of_ble_eq_true rfl) dL_law_827 (by show (_ : Nat) ≤ 603072 ∧ (_ : Nat) ≤ 7194288; omega) (fun r3 H locs hV hS => ?_)
  have hr3 : r3 = nI t.1 := by
    obtain ⟨-, ⟨u9, μ9, hm9, hr9, -⟩, -⟩ := hV.get
    exact hr9.trans hm9.1
  subst hr3
  have hV := hV.mono (PX' := fun w => vOk t.2.2 → xI g t.2.2 x0 w) (PM' := mR t.2.2) (fun _ h => h) (fun u h => by obtain ⟨μ, h1, -, h3⟩ := h; rw [h3]; exact h1.2)
  have hok : vOk t.2.2 := by
    obtain ⟨-, ⟨u9, hm9⟩, -⟩ := hV.get
    exact hm9.1
  have hV := hV.mono (PX' := xI g t.2.2 x0) (PM' := mR t.2.2) (fun _ h => h hok) (fun _ h => h)
  refine lv_iload hx hb dL_law_830 (lh_at hl rfl) ?_
  refine lv_icmp_eq (tgt := 837) hx hb dL_law_832 (by decide) (fun c1 => ?_) (fun c1 => ?_)
  · refine lv_iload hx hb dL_law_837 (lh_at hl rfl) ?_
    refine lv_if_ne (tgt := 854) hx hb dL_law_839 (by decide) (fun c2 => ?_) (fun c2 => ?_)
    · refine lv_goto (tgt := 1440) hx hb dL_law_854 (by decide) ?_
      refine W.widen (k := cells + 2200) (n := slots + 93200) (by omega) (by omega) ?_
      exact kk _ _ _ _ _ hV hS (lh_sub hl _ ⟨rfl, rfl, rfl, rfl, rfl, trivial⟩)
    · have h0 : t.1 = 0 := by
        have h4 := c2
        have h5 := congrArg Int32.toInt h4
        rw [nI_toInt (by omega)] at h5
        have h6 : ((0 : Int32)).toInt = 0 := rfl
        omega
      refine lv_aload_n hx hb dL_law_842 rfl (lh_at hl rfl) ?_
      refine n_const hx hb 0 dL_law_843 (by decide +kernel) ?_
      refine l_lald hF hE hV dL_law_844 ?_
      refine lv_iload hx hb dL_law_845 (lh_at hl rfl) ?_
      refine lv_i2l hx hb dL_law_847 rfl ?_
      refine W.lcmp hx hb dL_law_848 ?_
      rw [hz1 h0, show lg_cmp t.2.1.toInt64 t.2.1.toInt64 = 0 by simp [lg_cmp]]
      refine lv_if_eq (tgt := 854) hx hb dL_law_849 (by decide) (fun c3 => ?_) (fun c3 => ?_)
      · refine lv_goto (tgt := 1440) hx hb dL_law_854 (by decide) ?_
        refine W.widen (k := cells + 2200) (n := slots + 93200) (by omega) (by omega) ?_
        exact kk _ _ _ _ _ hV hS (lh_sub hl _ ⟨rfl, rfl, rfl, rfl, rfl, trivial⟩)
      · exact absurd rfl c3
  · exact absurd rfl c1
