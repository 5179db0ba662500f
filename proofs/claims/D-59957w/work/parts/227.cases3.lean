/-! THE LAW: cases (3), printed by tools/gen_law.py -/
set_option maxRecDepth 100000
set_option maxHeartbeats 2000000 in
theorem law_c12 {p : Program} {l : Launch} {e : Env} {s : State} {m : MethodId} {args : Array Value} {below : List Frame} {meth : Method} {c : Code} {H : Heap} {locs : List Loc} {cells slots : Nat} {Q : State → Prop} {ls : Array Slot} {g : xg} {x0 m0 o bb L i : Nat} {xs : Nat → Int32} {ν : nS} {z : Int64} (hlt : l.stackTraces = false) (hF : xFix p m c cL_law 9 s args RX0) (hE : xE g (x3 s.heap.size) s) (hNc : xNc s) (hX : va_X bb L xs s s.heap) (hbl : bb < s.heap.size) (hL : L ≤ 259) (hi : i + 4 ≤ L) (hc : cells + 2200 ≤ 603072) (hsl : slots + 93200 ≤ 7194288)
    (hV : LV g s.heap.size m0 o (xI g ν x0) (mR ν) z H) (hS : va_S (x3 s.heap.size) s.heap H locs) (hl : lh ls 9 (xl [(0, .ref bb), (1, .ref x0), (2, .ref m0), (3, .ref o), (4, .int (nI i))]))
    (kk : ∀ (ν' : nS) (z' : Int64) (H1 : Heap) (locs1 : List Loc) (ls1 : Array Slot), LV g s.heap.size m0 o (xI g ν' x0) (mR ν') z' H1 → va_S (x3 s.heap.size) s.heap H1 locs1 → lh ls1 9 (xl [(0, .ref bb), (1, .ref x0), (2, .ref m0), (3, .ref o), (4, .int (nI i))]) → W p l e room_1 s m args below meth c H1 locs1 (cells + 2200) (slots + 93200) Q (F0 m 1440 ls1 [])) :
    W p l e room_1 s m args below meth c H locs cells slots Q (F0 m 857 ls []) := by
  obtain ⟨hx, hb, hml, hown, hts⟩ := id hF
  obtain ⟨⟨w9, hw9⟩, -, -⟩ := hV.get
  refine lv_aload_n hx hb dL_law_857 rfl (lh_at hl rfl) ?_
  refine lv_aload_n hx hb dL_law_858 rfl (lh_at hl rfl) ?_
  refine lv_iload hx hb dL_law_859 (lh_at hl rfl) ?_
  refine n_const hx hb 1 dL_law_861 (by decide +kernel) ?_
  refine n_iadd hx hb dL_law_862 ?_
  refine l_iald hF hX hbl hS (by omega) hL dL_law_863 ?_
  refine lv_aload_n hx hb dL_law_864 rfl (lh_at hl rfl) ?_
  refine l_x (As := [.ref x0, .int (xs (i + 1)), .ref o]) hF hE hNc hS hV hl (fun B w h hoB => yk_pick l hlt g B w ν x0 o z (xs (i + 1)) h hoB) q1178 q1179 q37 q1180 ⟨by decide +kernel, by decide +kernel, by show _ = some 3; decide +kernel⟩ rfl rfl ⟨Nat.le_of_ble_eq_true rfl, Nat.le_of_ble_eq_true rfl⟩ rfl (Nat.le_of_ble_eq_true rfl) dL_law_865 (by show (_ : Nat) ≤ 603072 ∧ (_ : Nat) ≤ 7194288; omega) (fun z1 H locs hz1 hV hS => ?_)
  refine x_istore hx hb dL_law_868 hl (by decide) (fun ls hl => ?_)
  refine lv_aload_n hx hb dL_law_870 rfl (lh_at hl rfl) ?_
  refine lv_aload_n hx hb dL_law_871 rfl (lh_at hl rfl) ?_
  refine lv_iload hx hb dL_law_872 (lh_at hl rfl) ?_
  refine n_const hx hb 1 dL_law_874 (by decide +kernel) ?_
  refine n_iadd hx hb dL_law_875 ?_
  refine l_iald hF hX hbl hS (by omega) hL dL_law_876 ?_
  refine l_m (post := fun _ => mOp (opPick ν (xs (i + 1)))) (As := [.int (xs (i + 1))]) hF hE hS hV hl (fun A ad μ h => mk_pick l g A m0 ad μ ν h hw9.1.W (xs (i + 1))) q1500 q1501 q1502 q44 q1503 ⟨rfl, by decide +kernel, by decide +kernel, by show _ = some 1; decide +kernel⟩ rfl rfl ⟨Nat.le_of_ble_eq_true rfl, Nat.le_of_ble_eq_true rfl⟩ rfl (Nat.le_of_ble_eq_true rfl) dL_law_877 (by show (_ : Nat) ≤ 603072 ∧ (_ : Nat) ≤ 7194288; omega) (fun r2 H locs hV hS => ?_)
  generalize ht : (opPick ν (xs (i + 1))) = t at hV hz1 hl ⊢
  have ht3 : t.1 ≤ 3 := by rw [← ht]; exact opPick_c ν (xs (i + 1))
  clear ht
  have hr2 : r2 = t.2.1 := by
    obtain ⟨-, ⟨u9, μ9, -, -, hr9, -⟩, -⟩ := hV.get
    exact hr9
  subst hr2
  have hV := hV.mono (PX' := fun w => vOk t.2.2 → xI g t.2.2 x0 w) (PM' := fun u => u.1 0 = nI t.1 ∧ mR t.2.2 u) (fun _ h => h) (fun u h => by obtain ⟨μ, -, h1, -, h3⟩ := h; exact ⟨h1, h3⟩)
  refine x_istore hx hb dL_law_880 hl (by decide) (fun ls hl => ?_)
  refine lv_aload_n hx hb dL_law_882 rfl (lh_at hl rfl) ?_
  refine l_m (post := fun μ r u => r = μ.1 0 ∧ u = μ) (As := []) hF hE hS hV hl (fun A ad μ _ => mk_thrown l g A m0 ad μ) q1381 q1382 q1383 q44 q1384 ⟨rfl, by decide +kernel, by decide +kernel, by show _ = some 0; decide +kernel⟩ rfl rfl ⟨Nat.le_of_ble_eq_true rfl, Nat.le_of_ble_eq_true rfl⟩ rfl (Nat.le_of_ble_eq_true rfl) dL_law_883 (by show (_ : Nat) ≤ 603072 ∧ (_ : Nat) ≤ 7194288; omega) (fun r3 H locs hV hS => ?_)
  have hr3 : r3 = nI t.1 := by
    obtain ⟨-, ⟨u9, μ9, hm9, hr9, -⟩, -⟩ := hV.get
    exact hr9.trans hm9.1
  subst hr3
  have hV := hV.mono (PX' := fun w => vOk t.2.2 → xI g t.2.2 x0 w) (PM' := mR t.2.2) (fun _ h => h) (fun u h => by obtain ⟨μ, h1, -, h3⟩ := h; rw [h3]; exact h1.2)
  have hok : vOk t.2.2 := by
    obtain ⟨-, ⟨u9, hm9⟩, -⟩ := hV.get
    exact hm9.1
  have hV := hV.mono (PX' := xI g t.2.2 x0) (PM' := mR t.2.2) (fun _ h => h hok) (fun _ h => h)
  refine lv_iload hx hb dL_law_886 (lh_at hl rfl) ?_
  refine lv_icmp_eq (tgt := 893) hx hb dL_law_888 (by decide) (fun c1 => ?_) (fun c1 => ?_)
  · refine lv_iload hx hb dL_law_893 (lh_at hl rfl) ?_
    refine lv_if_ne (tgt := 910) hx hb dL_law_895 (by decide) (fun c2 => ?_) (fun c2 => ?_)
    · refine lv_goto (tgt := 1440) hx hb dL_law_910 (by decide) ?_
      refine W.widen (k := cells + 2200) (n := slots + 93200) (by omega) (by omega) ?_
      exact kk _ _ _ _ _ hV hS (lh_sub hl _ ⟨rfl, rfl, rfl, rfl, rfl, trivial⟩)
    · have h0 : t.1 = 0 := by
        have h4 := c2
        have h5 := congrArg Int32.toInt h4
        rw [nI_toInt (by omega)] at h5
        have h6 : ((0 : Int32)).toInt = 0 := rfl
        omega
      refine lv_aload_n hx hb dL_law_898 rfl (lh_at hl rfl) ?_
      refine n_const hx hb 0 dL_law_899 (by decide +kernel) ?_
      refine l_lald hF hE hV dL_law_900 ?_
      refine lv_iload hx hb dL_law_901 (lh_at hl rfl) ?_
      refine lv_i2l hx hb dL_law_903 rfl ?_
      refine W.lcmp hx hb dL_law_904 ?_
      rw [hz1 h0, show lg_cmp t.2.1.toInt64 t.2.1.toInt64 = 0 by simp [lg_cmp]]
      refine lv_if_eq (tgt := 910) hx hb dL_law_905 (by decide) (fun c3 => ?_) (fun c3 => ?_)
      · refine lv_goto (tgt := 1440) hx hb dL_law_910 (by decide) ?_
        refine W.widen (k := cells + 2200) (n := slots + 93200) (by omega) (by omega) ?_
        exact kk _ _ _ _ _ hV hS (lh_sub hl _ ⟨rfl, rfl, rfl, rfl, rfl, trivial⟩)
      · exact absurd rfl c3
  · exact absurd rfl c1
set_option maxHeartbeats 2000000 in
theorem law_c13 {p : Program} {l : Launch} {e : Env} {s : State} {m : MethodId} {args : Array Value} {below : List Frame} {meth : Method} {c : Code} {H : Heap} {locs : List Loc} {cells slots : Nat} {Q : State → Prop} {ls : Array Slot} {g : xg} {x0 m0 o bb L i : Nat} {xs : Nat → Int32} {ν : nS} {z : Int64} (hlt : l.stackTraces = false) (hF : xFix p m c cL_law 9 s args RX0) (hE : xE g (x3 s.heap.size) s) (hNc : xNc s) (hX : va_X bb L xs s s.heap) (hbl : bb < s.heap.size) (hL : L ≤ 259) (hi : i + 4 ≤ L) (hc : cells + 2200 ≤ 603072) (hsl : slots + 93200 ≤ 7194288)
    (hV : LV g s.heap.size m0 o (xI g ν x0) (mR ν) z H) (hS : va_S (x3 s.heap.size) s.heap H locs) (hl : lh ls 9 (xl [(0, .ref bb), (1, .ref x0), (2, .ref m0), (3, .ref o), (4, .int (nI i))]))
    (kk : ∀ (ν' : nS) (z' : Int64) (H1 : Heap) (locs1 : List Loc) (ls1 : Array Slot), LV g s.heap.size m0 o (xI g ν' x0) (mR ν') z' H1 → va_S (x3 s.heap.size) s.heap H1 locs1 → lh ls1 9 (xl [(0, .ref bb), (1, .ref x0), (2, .ref m0), (3, .ref o), (4, .int (nI i))]) → W p l e room_1 s m args below meth c H1 locs1 (cells + 2200) (slots + 93200) Q (F0 m 1440 ls1 [])) :
    W p l e room_1 s m args below meth c H locs cells slots Q (F0 m 913 ls []) := by
  obtain ⟨hx, hb, hml, hown, hts⟩ := id hF
  refine lv_aload_n hx hb dL_law_913 rfl (lh_at hl rfl) ?_
  refine l_xi (As := []) hF hE hS hV hl (fun B w h => xk_batches l g B w ν x0 h) q192 q193 q194 q38 q195 ⟨rfl, by decide +kernel, by decide +kernel, by show _ = some 0; decide +kernel⟩ rfl rfl ⟨Nat.le_of_ble_eq_true rfl, Nat.le_of_ble_eq_true rfl⟩ rfl (Nat.le_of_ble_eq_true rfl) dL_law_914 (by show (_ : Nat) ≤ 603072 ∧ (_ : Nat) ≤ 7194288; omega) (fun r1 H locs hr1 hV hS => ?_)
  refine lv_aload_n hx hb dL_law_917 rfl (lh_at hl rfl) ?_
  refine l_m (post := fun _ => mOp (0, nI (vC ν 5), ν)) (As := []) hF hE hS hV hl (fun A ad μ h => mk_batches l g A m0 ad μ ν h) q1508 q1509 q1510 q44 q1511 ⟨rfl, by decide +kernel, by decide +kernel, by show _ = some 0; decide +kernel⟩ rfl rfl ⟨Nat.le_of_ble_eq_true rfl, Nat.le_of_ble_eq_true rfl⟩ rfl (Nat.le_of_ble_eq_true rfl) dL_law_918 (by show (_ : Nat) ≤ 603072 ∧ (_ : Nat) ≤ 7194288; omega) (fun r2 H locs hV hS => ?_)
  have hr2 : r2 = nI (vC ν 5) := by
    obtain ⟨-, ⟨u9, μ9, -, -, hr9, -⟩, -⟩ := hV.get
    exact hr9
  have hV := hV.mono (PX' := xI g ν x0) (PM' := mR ν) (fun _ h => h) (fun u h => by obtain ⟨μ, -, -, -, h3⟩ := h; exact h3)
  rw [hr1, hr2]
  refine lv_icmp_eq (tgt := 1440) hx hb dL_law_921 (by decide) (fun c1 => ?_) (fun c1 => ?_)
  · refine W.widen (k := cells + 2200) (n := slots + 93200) (by omega) (by omega) ?_
    exact kk _ _ _ _ _ hV hS (lh_sub hl _ ⟨rfl, rfl, rfl, rfl, rfl, trivial⟩)
  · exact absurd rfl c1
set_option maxHeartbeats 2000000 in
theorem law_c14 {p : Program} {l : Launch} {e : Env} {s : State} {m : MethodId} {args : Array Value} {below : List Frame} {meth : Method} {c : Code} {H : Heap} {locs : List Loc} {cells slots : Nat} {Q : State → Prop} {ls : Array Slot} {g : xg} {x0 m0 o bb L i : Nat} {xs : Nat → Int32} {ν : nS} {z : Int64} (hlt : l.stackTraces = false) (hF : xFix p m c cL_law 9 s args RX0) (hE : xE g (x3 s.heap.size) s) (hNc : xNc s) (hX : va_X bb L xs s s.heap) (hbl : bb < s.heap.size) (hL : L ≤ 259) (hi : i + 4 ≤ L) (hc : cells + 2200 ≤ 603072) (hsl : slots + 93200 ≤ 7194288)
    (hV : LV g s.heap.size m0 o (xI g ν x0) (mR ν) z H) (hS : va_S (x3 s.heap.size) s.heap H locs) (hl : lh ls 9 (xl [(0, .ref bb), (1, .ref x0), (2, .ref m0), (3, .ref o), (4, .int (nI i))]))
    (kk : ∀ (ν' : nS) (z' : Int64) (H1 : Heap) (locs1 : List Loc) (ls1 : Array Slot), LV g s.heap.size m0 o (xI g ν' x0) (mR ν') z' H1 → va_S (x3 s.heap.size) s.heap H1 locs1 → lh ls1 9 (xl [(0, .ref bb), (1, .ref x0), (2, .ref m0), (3, .ref o), (4, .int (nI i))]) → W p l e room_1 s m args below meth c H1 locs1 (cells + 2200) (slots + 93200) Q (F0 m 1440 ls1 [])) :
    W p l e room_1 s m args below meth c H locs cells slots Q (F0 m 926 ls []) := by
  obtain ⟨hx, hb, hml, hown, hts⟩ := id hF
  refine lv_aload_n hx hb dL_law_926 rfl (lh_at hl rfl) ?_
  refine lv_aload_n hx hb dL_law_927 rfl (lh_at hl rfl) ?_
  refine lv_iload hx hb dL_law_928 (lh_at hl rfl) ?_
  refine n_const hx hb 1 dL_law_930 (by decide +kernel) ?_
  refine n_iadd hx hb dL_law_931 ?_
  refine l_iald hF hX hbl hS (by omega) hL dL_law_932 ?_
  refine lv_aload_n hx hb dL_law_933 rfl (lh_at hl rfl) ?_
  refine l_x (As := [.ref x0, .int (xs (i + 1)), .ref o]) hF hE hNc hS hV hl (fun B w h hoB => yk_batchOf l hlt g B w ν x0 o z (xs (i + 1)) h hoB) q1190 q1191 q37 q1192 ⟨by decide +kernel, by decide +kernel, by show _ = some 3; decide +kernel⟩ rfl rfl ⟨Nat.le_of_ble_eq_true rfl, Nat.le_of_ble_eq_true rfl⟩ rfl (Nat.le_of_ble_eq_true rfl) dL_law_934 (by show (_ : Nat) ≤ 603072 ∧ (_ : Nat) ≤ 7194288; omega) (fun z1 H locs hz1 hV hS => ?_)
  refine x_istore hx hb dL_law_937 hl (by decide) (fun ls hl => ?_)
  refine lv_aload_n hx hb dL_law_939 rfl (lh_at hl rfl) ?_
  refine lv_aload_n hx hb dL_law_940 rfl (lh_at hl rfl) ?_
  refine lv_iload hx hb dL_law_941 (lh_at hl rfl) ?_
  refine n_const hx hb 1 dL_law_943 (by decide +kernel) ?_
  refine n_iadd hx hb dL_law_944 ?_
  refine l_iald hF hX hbl hS (by omega) hL dL_law_945 ?_
  refine l_m (post := fun _ => mOp (opBatchOf ν (xs (i + 1)))) (As := [.int (xs (i + 1))]) hF hE hS hV hl (fun A ad μ h => mk_batchOf l g A m0 ad μ ν h (xs (i + 1))) q1512 q1513 q1514 q44 q1515 ⟨rfl, by decide +kernel, by decide +kernel, by show _ = some 1; decide +kernel⟩ rfl rfl ⟨Nat.le_of_ble_eq_true rfl, Nat.le_of_ble_eq_true rfl⟩ rfl (Nat.le_of_ble_eq_true rfl) dL_law_946 (by show (_ : Nat) ≤ 603072 ∧ (_ : Nat) ≤ 7194288; omega) (fun r2 H locs hV hS => ?_)
  generalize ht : (opBatchOf ν (xs (i + 1))) = t at hV hz1 hl ⊢
  have ht3 : t.1 ≤ 3 := by rw [← ht]; exact opBatchOf_c ν (xs (i + 1))
  clear ht
  have hr2 : r2 = t.2.1 := by
    obtain ⟨-, ⟨u9, μ9, -, -, hr9, -⟩, -⟩ := hV.get
    exact hr9
  subst hr2
  have hV := hV.mono (PX' := fun w => vOk t.2.2 → xI g t.2.2 x0 w) (PM' := fun u => u.1 0 = nI t.1 ∧ mR t.2.2 u) (fun _ h => h) (fun u h => by obtain ⟨μ, -, h1, -, h3⟩ := h; exact ⟨h1, h3⟩)
  refine x_istore hx hb dL_law_949 hl (by decide) (fun ls hl => ?_)
  refine lv_aload_n hx hb dL_law_951 rfl (lh_at hl rfl) ?_
  refine l_m (post := fun μ r u => r = μ.1 0 ∧ u = μ) (As := []) hF hE hS hV hl (fun A ad μ _ => mk_thrown l g A m0 ad μ) q1381 q1382 q1383 q44 q1384 ⟨rfl, by decide +kernel, by decide +kernel, by show _ = some 0; decide +kernel⟩ rfl rfl ⟨Nat.le_of_ble_eq_true rfl, Nat.le_of_ble_eq_true rfl⟩ rfl (Nat.le_of_ble_eq_true rfl) dL_law_952 (by show (_ : Nat) ≤ 603072 ∧ (_ : Nat) ≤ 7194288; omega) (fun r3 H locs hV hS => ?_)
  have hr3 : r3 = nI t.1 := by
    obtain ⟨-, ⟨u9, μ9, hm9, hr9, -⟩, -⟩ := hV.get
    exact hr9.trans hm9.1
  subst hr3
  have hV := hV.mono (PX' := fun w => vOk t.2.2 → xI g t.2.2 x0 w) (PM' := mR t.2.2) (fun _ h => h) (fun u h => by obtain ⟨μ, h1, -, h3⟩ := h; rw [h3]; exact h1.2)
  have hok : vOk t.2.2 := by
    obtain ⟨-, ⟨u9, hm9⟩, -⟩ := hV.get
    exact hm9.1
  have hV := hV.mono (PX' := xI g t.2.2 x0) (PM' := mR t.2.2) (fun _ h => h hok) (fun _ h => h)
  refine lv_iload hx hb dL_law_955 (lh_at hl rfl) ?_
  refine lv_icmp_eq (tgt := 962) hx hb dL_law_957 (by decide) (fun c1 => ?_) (fun c1 => ?_)
  · refine lv_iload hx hb dL_law_962 (lh_at hl rfl) ?_
    refine lv_if_ne (tgt := 979) hx hb dL_law_964 (by decide) (fun c2 => ?_) (fun c2 => ?_)
    · refine lv_goto (tgt := 1440) hx hb dL_law_979 (by decide) ?_
      refine W.widen (k := cells + 2200) (n := slots + 93200) (by omega) (by omega) ?_
      exact kk _ _ _ _ _ hV hS (lh_sub hl _ ⟨rfl, rfl, rfl, rfl, rfl, trivial⟩)
    · have h0 : t.1 = 0 := by
        have h4 := c2
        have h5 := congrArg Int32.toInt h4
        rw [nI_toInt (by omega)] at h5
        have h6 : ((0 : Int32)).toInt = 0 := rfl
        omega
      refine lv_aload_n hx hb dL_law_967 rfl (lh_at hl rfl) ?_
      refine n_const hx hb 0 dL_law_968 (by decide +kernel) ?_
      refine l_lald hF hE hV dL_law_969 ?_
      refine lv_iload hx hb dL_law_970 (lh_at hl rfl) ?_
      refine lv_i2l hx hb dL_law_972 rfl ?_
      refine W.lcmp hx hb dL_law_973 ?_
      rw [hz1 h0, show lg_cmp t.2.1.toInt64 t.2.1.toInt64 = 0 by simp [lg_cmp]]
      refine lv_if_eq (tgt := 979) hx hb dL_law_974 (by decide) (fun c3 => ?_) (fun c3 => ?_)
      · refine lv_goto (tgt := 1440) hx hb dL_law_979 (by decide) ?_
        refine W.widen (k := cells + 2200) (n := slots + 93200) (by omega) (by omega) ?_
        exact kk _ _ _ _ _ hV hS (lh_sub hl _ ⟨rfl, rfl, rfl, rfl, rfl, trivial⟩)
      · exact absurd rfl c3
  · exact absurd rfl c1
set_option maxHeartbeats 2000000 in
theorem law_c15 {p : Program} {l : Launch} {e : Env} {s : State} {m : MethodId} {args : Array Value} {below : List Frame} {meth : Method} {c : Code} {H : Heap} {locs : List Loc} {cells slots : Nat} {Q : State → Prop} {ls : Array Slot} {g : xg} {x0 m0 o bb L i : Nat} {xs : Nat → Int32} {ν : nS} {z : Int64} (hlt : l.stackTraces = false) (hF : xFix p m c cL_law 9 s args RX0) (hE : xE g (x3 s.heap.size) s) (hNc : xNc s) (hX : va_X bb L xs s s.heap) (hbl : bb < s.heap.size) (hL : L ≤ 259) (hi : i + 4 ≤ L) (hc : cells + 2200 ≤ 603072) (hsl : slots + 93200 ≤ 7194288)
    (hV : LV g s.heap.size m0 o (xI g ν x0) (mR ν) z H) (hS : va_S (x3 s.heap.size) s.heap H locs) (hl : lh ls 9 (xl [(0, .ref bb), (1, .ref x0), (2, .ref m0), (3, .ref o), (4, .int (nI i))]))
    (kk : ∀ (ν' : nS) (z' : Int64) (H1 : Heap) (locs1 : List Loc) (ls1 : Array Slot), LV g s.heap.size m0 o (xI g ν' x0) (mR ν') z' H1 → va_S (x3 s.heap.size) s.heap H1 locs1 → lh ls1 9 (xl [(0, .ref bb), (1, .ref x0), (2, .ref m0), (3, .ref o), (4, .int (nI i))]) → W p l e room_1 s m args below meth c H1 locs1 (cells + 2200) (slots + 93200) Q (F0 m 1440 ls1 [])) :
    W p l e room_1 s m args below meth c H locs cells slots Q (F0 m 982 ls []) := by
  obtain ⟨hx, hb, hml, hown, hts⟩ := id hF
  refine lv_aload_n hx hb dL_law_982 rfl (lh_at hl rfl) ?_
  refine lv_aload_n hx hb dL_law_983 rfl (lh_at hl rfl) ?_
  refine lv_iload hx hb dL_law_984 (lh_at hl rfl) ?_
  refine n_const hx hb 1 dL_law_986 (by decide +kernel) ?_
  refine n_iadd hx hb dL_law_987 ?_
  refine l_iald hF hX hbl hS (by omega) hL dL_law_988 ?_
  refine lv_aload_n hx hb dL_law_989 rfl (lh_at hl rfl) ?_
  refine l_x (As := [.ref x0, .int (xs (i + 1)), .ref o]) hF hE hNc hS hV hl (fun B w h hoB => yk_linesOf l hlt g B w ν x0 o z (xs (i + 1)) h hoB) q1237 q1238 q37 q1239 ⟨by decide +kernel, by decide +kernel, by show _ = some 3; decide +kernel⟩ rfl rfl ⟨Nat.le_of_ble_eq_true rfl, Nat.le_of_ble_eq_true rfl⟩ rfl (Nat.le_of_ble_eq_true rfl) dL_law_990 (by show (_ : Nat) ≤ 603072 ∧ (_ : Nat) ≤ 7194288; omega) (fun z1 H locs hz1 hV hS => ?_)
  refine x_istore hx hb dL_law_993 hl (by decide) (fun ls hl => ?_)
  refine lv_aload_n hx hb dL_law_995 rfl (lh_at hl rfl) ?_
  refine lv_aload_n hx hb dL_law_996 rfl (lh_at hl rfl) ?_
  refine lv_iload hx hb dL_law_997 (lh_at hl rfl) ?_
  refine n_const hx hb 1 dL_law_999 (by decide +kernel) ?_
  refine n_iadd hx hb dL_law_1000 ?_
  refine l_iald hF hX hbl hS (by omega) hL dL_law_1001 ?_
  refine l_m (post := fun _ => mOp (opLinesOf ν (xs (i + 1)))) (As := [.int (xs (i + 1))]) hF hE hS hV hl (fun A ad μ h => mk_linesOf l g A m0 ad μ ν h (xs (i + 1))) q1516 q1517 q1518 q44 q1519 ⟨rfl, by decide +kernel, by decide +kernel, by show _ = some 1; decide +kernel⟩ rfl rfl ⟨Nat.le_of_ble_eq_true rfl, Nat.le_of_ble_eq_true rfl⟩ rfl (Nat.le_of_ble_eq_true rfl) dL_law_1002 (by show (_ : Nat) ≤ 603072 ∧ (_ : Nat) ≤ 7194288; omega) (fun r2 H locs hV hS => ?_)
  generalize ht : (opLinesOf ν (xs (i + 1))) = t at hV hz1 hl ⊢
  have ht3 : t.1 ≤ 3 := by rw [← ht]; exact opLinesOf_c ν (xs (i + 1))
  clear ht
  have hr2 : r2 = t.2.1 := by
    obtain ⟨-, ⟨u9, μ9, -, -, hr9, -⟩, -⟩ := hV.get
    exact hr9
  subst hr2
  have hV := hV.mono (PX' := fun w => vOk t.2.2 → xI g t.2.2 x0 w) (PM' := fun u => u.1 0 = nI t.1 ∧ mR t.2.2 u) (fun _ h => h) (fun u h => by obtain ⟨μ, -, h1, -, h3⟩ := h; exact ⟨h1, h3⟩)
  refine x_istore hx hb dL_law_1005 hl (by decide) (fun ls hl => ?_)
  refine lv_aload_n hx hb dL_law_1007 rfl (lh_at hl rfl) ?_
  refine l_m (post := fun μ r u => r = μ.1 0 ∧ u = μ) (As := []) hF hE hS hV hl (fun A ad μ _ => mk_thrown l g A m0 ad μ) q1381 q1382 q1383 q44 q1384 ⟨rfl, by decide +kernel, by decide +kernel, by show _ = some 0; decide +kernel⟩ rfl rfl ⟨Nat.le_of_ble_eq_true rfl, Nat.le_of_ble_eq_true rfl⟩ rfl (Nat.le_of_ble_eq_true rfl) dL_law_1008 (by show (_ : Nat) ≤ 603072 ∧ (_ : Nat) ≤ 7194288; omega) (fun r3 H locs hV hS => ?_)
  have hr3 : r3 = nI t.1 := by
    obtain ⟨-, ⟨u9, μ9, hm9, hr9, -⟩, -⟩ := hV.get
    exact hr9.trans hm9.1
  subst hr3
  have hV := hV.mono (PX' := fun w => vOk t.2.2 → xI g t.2.2 x0 w) (PM' := mR t.2.2) (fun _ h => h) (fun u h => by obtain ⟨μ, h1, -, h3⟩ := h; rw [h3]; exact h1.2)
  have hok : vOk t.2.2 := by
    obtain ⟨-, ⟨u9, hm9⟩, -⟩ := hV.get
    exact hm9.1
  have hV := hV.mono (PX' := xI g t.2.2 x0) (PM' := mR t.2.2) (fun _ h => h hok) (fun _ h => h)
  refine lv_iload hx hb dL_law_1011 (lh_at hl rfl) ?_
  refine lv_icmp_eq (tgt := 1018) hx hb dL_law_1013 (by decide) (fun c1 => ?_) (fun c1 => ?_)
  · refine lv_iload hx hb dL_law_1018 (lh_at hl rfl) ?_
    refine lv_if_ne (tgt := 1035) hx hb dL_law_1020 (by decide) (fun c2 => ?_) (fun c2 => ?_)
    · refine lv_goto (tgt := 1440) hx hb dL_law_1035 (by decide) ?_
      refine W.widen (k := cells + 2200) (n := slots + 93200) (by omega) (by omega) ?_
      exact kk _ _ _ _ _ hV hS (lh_sub hl _ ⟨rfl, rfl, rfl, rfl, rfl, trivial⟩)
    · have h0 : t.1 = 0 := by
        have h4 := c2
        have h5 := congrArg Int32.toInt h4
        rw [nI_toInt (by omega)] at h5
        have h6 : ((0 : Int32)).toInt = 0 := rfl
        omega
      refine lv_aload_n hx hb dL_law_1023 rfl (lh_at hl rfl) ?_
      refine n_const hx hb 0 dL_law_1024 (by decide +kernel) ?_
      refine l_lald hF hE hV dL_law_1025 ?_
      refine lv_iload hx hb dL_law_1026 (lh_at hl rfl) ?_
      refine lv_i2l hx hb dL_law_1028 rfl ?_
      refine W.lcmp hx hb dL_law_1029 ?_
      rw [hz1 h0, show lg_cmp t.2.1.toInt64 t.2.1.toInt64 = 0 by simp [lg_cmp]]
      refine lv_if_eq (tgt := 1035) hx hb dL_law_1030 (by decide) (fun c3 => ?_) (fun c3 => ?_)
      · refine lv_goto (tgt := 1440) hx hb dL_law_1035 (by decide) ?_
        refine W.widen (k := cells + 2200) (n := slots + 93200) (by omega) (by omega) ?_
        exact kk _ _ _ _ _ hV hS (lh_sub hl _ ⟨rfl, rfl, rfl, rfl, rfl, trivial⟩)
      · exact absurd rfl c3
  · exact absurd rfl c1
set_option maxHeartbeats 2000000 in
theorem law_c16 {p : Program} {l : Launch} {e : Env} {s : State} {m : MethodId} {args : Array Value} {below : List Frame} {meth : Method} {c : Code} {H : Heap} {locs : List Loc} {cells slots : Nat} {Q : State → Prop} {ls : Array Slot} {g : xg} {x0 m0 o bb L i : Nat} {xs : Nat → Int32} {ν : nS} {z : Int64} (hlt : l.stackTraces = false) (hF : xFix p m c cL_law 9 s args RX0) (hE : xE g (x3 s.heap.size) s) (hNc : xNc s) (hX : va_X bb L xs s s.heap) (hbl : bb < s.heap.size) (hL : L ≤ 259) (hi : i + 4 ≤ L) (hc : cells + 2200 ≤ 603072) (hsl : slots + 93200 ≤ 7194288)
    (hV : LV g s.heap.size m0 o (xI g ν x0) (mR ν) z H) (hS : va_S (x3 s.heap.size) s.heap H locs) (hl : lh ls 9 (xl [(0, .ref bb), (1, .ref x0), (2, .ref m0), (3, .ref o), (4, .int (nI i))]))
    (kk : ∀ (ν' : nS) (z' : Int64) (H1 : Heap) (locs1 : List Loc) (ls1 : Array Slot), LV g s.heap.size m0 o (xI g ν' x0) (mR ν') z' H1 → va_S (x3 s.heap.size) s.heap H1 locs1 → lh ls1 9 (xl [(0, .ref bb), (1, .ref x0), (2, .ref m0), (3, .ref o), (4, .int (nI i))]) → W p l e room_1 s m args below meth c H1 locs1 (cells + 2200) (slots + 93200) Q (F0 m 1440 ls1 [])) :
    W p l e room_1 s m args below meth c H locs cells slots Q (F0 m 1038 ls []) := by
  obtain ⟨hx, hb, hml, hown, hts⟩ := id hF
  obtain ⟨⟨w9, hw9⟩, -, -⟩ := hV.get
  refine lv_aload_n hx hb dL_law_1038 rfl (lh_at hl rfl) ?_
  refine lv_aload_n hx hb dL_law_1039 rfl (lh_at hl rfl) ?_
  refine lv_iload hx hb dL_law_1040 (lh_at hl rfl) ?_
  refine n_const hx hb 1 dL_law_1042 (by decide +kernel) ?_
  refine n_iadd hx hb dL_law_1043 ?_
  refine l_iald hF hX hbl hS (by omega) hL dL_law_1044 ?_
  refine lv_aload_n hx hb dL_law_1045 rfl (lh_at hl rfl) ?_
  refine l_x (As := [.ref x0, .int (xs (i + 1)), .ref o]) hF hE hNc hS hV hl (fun B w h hoB => yk_lengthOf l hlt g B w ν x0 o z (xs (i + 1)) h hoB) q1244 q1245 q37 q1246 ⟨by decide +kernel, by decide +kernel, by show _ = some 3; decide +kernel⟩ rfl rfl ⟨Nat.le_of_ble_eq_true rfl, Nat.le_of_ble_eq_true rfl⟩ rfl (Nat.le_of_ble_eq_true rfl) dL_law_1046 (by show (_ : Nat) ≤ 603072 ∧ (_ : Nat) ≤ 7194288; omega) (fun z1 H locs hz1 hV hS => ?_)
  refine x_istore hx hb dL_law_1049 hl (by decide) (fun ls hl => ?_)
  refine lv_aload_n hx hb dL_law_1051 rfl (lh_at hl rfl) ?_
  refine lv_aload_n hx hb dL_law_1052 rfl (lh_at hl rfl) ?_
  refine lv_iload hx hb dL_law_1053 (lh_at hl rfl) ?_
  refine n_const hx hb 1 dL_law_1055 (by decide +kernel) ?_
  refine n_iadd hx hb dL_law_1056 ?_
  refine l_iald hF hX hbl hS (by omega) hL dL_law_1057 ?_
  refine l_m (post := fun _ => mOp (opLengthOf ν (xs (i + 1)))) (As := [.int (xs (i + 1))]) hF hE hS hV hl (fun A ad μ h => mk_lengthOf l g A m0 ad μ ν h hw9.1.W (xs (i + 1))) q1520 q1521 q1522 q44 q1523 ⟨rfl, by decide +kernel, by decide +kernel, by show _ = some 1; decide +kernel⟩ rfl rfl ⟨Nat.le_of_ble_eq_true rfl, Nat.le_of_ble_eq_true rfl⟩ rfl (Nat.le_of_ble_eq_true rfl) dL_law_1058 (by show (_ : Nat) ≤ 603072 ∧ (_ : Nat) ≤ 7194288; omega) (fun r2 H locs hV hS => ?_)
  generalize ht : (opLengthOf ν (xs (i + 1))) = t at hV hz1 hl ⊢
  have ht3 : t.1 ≤ 3 := by rw [← ht]; exact opLengthOf_c ν (xs (i + 1))
  clear ht
  have hr2 : r2 = t.2.1 := by
    obtain ⟨-, ⟨u9, μ9, -, -, hr9, -⟩, -⟩ := hV.get
    exact hr9
  subst hr2
  have hV := hV.mono (PX' := fun w => vOk t.2.2 → xI g t.2.2 x0 w) (PM' := fun u => u.1 0 = nI t.1 ∧ mR t.2.2 u) (fun _ h => h) (fun u h => by obtain ⟨μ, -, h1, -, h3⟩ := h; exact ⟨h1, h3⟩)
  refine x_istore hx hb dL_law_1061 hl (by decide) (fun ls hl => ?_)
  refine lv_aload_n hx hb dL_law_1063 rfl (lh_at hl rfl) ?_
  refine l_m (post := fun μ r u => r = μ.1 0 ∧ u = μ) (As := []) hF hE hS hV hl (fun A ad μ _ => mk_thrown l g A m0 ad μ) q1381 q1382 q1383 q44 q1384 ⟨rfl, by decide +kernel, by decide +kernel, by show _ = some 0; decide +kernel⟩ rfl rfl ⟨Nat.le_of_ble_eq_true rfl, Nat.le_of_ble_eq_true rfl⟩ rfl (Nat.le_of_ble_eq_true rfl) dL_law_1064 (by show (_ : Nat) ≤ 603072 ∧ (_ : Nat) ≤ 7194288; omega) (fun r3 H locs hV hS => ?_)
  have hr3 : r3 = nI t.1 := by
    obtain ⟨-, ⟨u9, μ9, hm9, hr9, -⟩, -⟩ := hV.get
    exact hr9.trans hm9.1
  subst hr3
  have hV := hV.mono (PX' := fun w => vOk t.2.2 → xI g t.2.2 x0 w) (PM' := mR t.2.2) (fun _ h => h) (fun u h => by obtain ⟨μ, h1, -, h3⟩ := h; rw [h3]; exact h1.2)
  have hok : vOk t.2.2 := by
    obtain ⟨-, ⟨u9, hm9⟩, -⟩ := hV.get
    exact hm9.1
  have hV := hV.mono (PX' := xI g t.2.2 x0) (PM' := mR t.2.2) (fun _ h => h hok) (fun _ h => h)
  refine lv_iload hx hb dL_law_1067 (lh_at hl rfl) ?_
  refine lv_icmp_eq (tgt := 1074) hx hb dL_law_1069 (by decide) (fun c1 => ?_) (fun c1 => ?_)
  · refine lv_iload hx hb dL_law_1074 (lh_at hl rfl) ?_
    refine lv_if_ne (tgt := 1091) hx hb dL_law_1076 (by decide) (fun c2 => ?_) (fun c2 => ?_)
    · refine lv_goto (tgt := 1440) hx hb dL_law_1091 (by decide) ?_
      refine W.widen (k := cells + 2200) (n := slots + 93200) (by omega) (by omega) ?_
      exact kk _ _ _ _ _ hV hS (lh_sub hl _ ⟨rfl, rfl, rfl, rfl, rfl, trivial⟩)
    · have h0 : t.1 = 0 := by
        have h4 := c2
        have h5 := congrArg Int32.toInt h4
        rw [nI_toInt (by omega)] at h5
        have h6 : ((0 : Int32)).toInt = 0 := rfl
        omega
      refine lv_aload_n hx hb dL_law_1079 rfl (lh_at hl rfl) ?_
      refine n_const hx hb 0 dL_law_1080 (by decide +kernel) ?_
      refine l_lald hF hE hV dL_law_1081 ?_
      refine lv_iload hx hb dL_law_1082 (lh_at hl rfl) ?_
      refine lv_i2l hx hb dL_law_1084 rfl ?_
      refine W.lcmp hx hb dL_law_1085 ?_
      rw [hz1 h0, show lg_cmp t.2.1.toInt64 t.2.1.toInt64 = 0 by simp [lg_cmp]]
      refine lv_if_eq (tgt := 1091) hx hb dL_law_1086 (by decide) (fun c3 => ?_) (fun c3 => ?_)
      · refine lv_goto (tgt := 1440) hx hb dL_law_1091 (by decide) ?_
        refine W.widen (k := cells + 2200) (n := slots + 93200) (by omega) (by omega) ?_
        exact kk _ _ _ _ _ hV hS (lh_sub hl _ ⟨rfl, rfl, rfl, rfl, rfl, trivial⟩)
      · exact absurd rfl c3
  · exact absurd rfl c1
set_option maxHeartbeats 2000000 in
theorem law_c17 {p : Program} {l : Launch} {e : Env} {s : State} {m : MethodId} {args : Array Value} {below : List Frame} {meth : Method} {c : Code} {H : Heap} {locs : List Loc} {cells slots : Nat} {Q : State → Prop} {ls : Array Slot} {g : xg} {x0 m0 o bb L i : Nat} {xs : Nat → Int32} {ν : nS} {z : Int64} (hlt : l.stackTraces = false) (hF : xFix p m c cL_law 9 s args RX0) (hE : xE g (x3 s.heap.size) s) (hNc : xNc s) (hX : va_X bb L xs s s.heap) (hbl : bb < s.heap.size) (hL : L ≤ 259) (hi : i + 4 ≤ L) (hc : cells + 2200 ≤ 603072) (hsl : slots + 93200 ≤ 7194288)
    (hV : LV g s.heap.size m0 o (xI g ν x0) (mR ν) z H) (hS : va_S (x3 s.heap.size) s.heap H locs) (hl : lh ls 9 (xl [(0, .ref bb), (1, .ref x0), (2, .ref m0), (3, .ref o), (4, .int (nI i))]))
    (kk : ∀ (ν' : nS) (z' : Int64) (H1 : Heap) (locs1 : List Loc) (ls1 : Array Slot), LV g s.heap.size m0 o (xI g ν' x0) (mR ν') z' H1 → va_S (x3 s.heap.size) s.heap H1 locs1 → lh ls1 9 (xl [(0, .ref bb), (1, .ref x0), (2, .ref m0), (3, .ref o), (4, .int (nI i))]) → W p l e room_1 s m args below meth c H1 locs1 (cells + 2200) (slots + 93200) Q (F0 m 1440 ls1 [])) :
    W p l e room_1 s m args below meth c H locs cells slots Q (F0 m 1094 ls []) := by
  obtain ⟨hx, hb, hml, hown, hts⟩ := id hF
  obtain ⟨⟨w9, hw9⟩, -, -⟩ := hV.get
  refine lv_aload_n hx hb dL_law_1094 rfl (lh_at hl rfl) ?_
  refine lv_aload_n hx hb dL_law_1095 rfl (lh_at hl rfl) ?_
  refine lv_iload hx hb dL_law_1096 (lh_at hl rfl) ?_
  refine n_const hx hb 1 dL_law_1098 (by decide +kernel) ?_
  refine n_iadd hx hb dL_law_1099 ?_
  refine l_iald hF hX hbl hS (by omega) hL dL_law_1100 ?_
  refine lv_aload_n hx hb dL_law_1101 rfl (lh_at hl rfl) ?_
  refine l_x (As := [.ref x0, .int (xs (i + 1)), .ref o]) hF hE hNc hS hV hl (fun B w h hoB => yk_lengthByTrying l hlt g B w ν x0 o z (xs (i + 1)) h hoB) q1251 q1252 q37 q1253 ⟨by decide +kernel, by decide +kernel, by show _ = some 3; decide +kernel⟩ rfl rfl ⟨Nat.le_of_ble_eq_true rfl, Nat.le_of_ble_eq_true rfl⟩ rfl (Nat.le_of_ble_eq_true rfl) dL_law_1102 (by show (_ : Nat) ≤ 603072 ∧ (_ : Nat) ≤ 7194288; omega) (fun z1 H locs hz1 hV hS => ?_)
  refine x_istore hx hb dL_law_1105 hl (by decide) (fun ls hl => ?_)
  refine lv_aload_n hx hb dL_law_1107 rfl (lh_at hl rfl) ?_
  refine lv_aload_n hx hb dL_law_1108 rfl (lh_at hl rfl) ?_
  refine lv_iload hx hb dL_law_1109 (lh_at hl rfl) ?_
  refine n_const hx hb 1 dL_law_1111 (by decide +kernel) ?_
  refine n_iadd hx hb dL_law_1112 ?_
  refine l_iald hF hX hbl hS (by omega) hL dL_law_1113 ?_
  refine l_m (post := fun _ => mOp (opByTrying ν (xs (i + 1)))) (As := [.int (xs (i + 1))]) hF hE hS hV hl (fun A ad μ h => mk_lengthByTrying l g A m0 ad μ ν h hw9.1.W (xs (i + 1))) q1524 q1525 q1526 q44 q1527 ⟨rfl, by decide +kernel, by decide +kernel, by show _ = some 1; decide +kernel⟩ rfl rfl ⟨Nat.le_of_ble_eq_true rfl, Nat.le_of_ble_eq_true rfl⟩ rfl (Nat.le_of_ble_eq_true rfl) dL_law_1114 (by show (_ : Nat) ≤ 603072 ∧ (_ : Nat) ≤ 7194288; omega) (fun r2 H locs hV hS => ?_)
  generalize ht : (opByTrying ν (xs (i + 1))) = t at hV hz1 hl ⊢
  have ht3 : t.1 ≤ 3 := by rw [← ht]; exact opByTrying_c ν (xs (i + 1))
  clear ht
  have hr2 : r2 = t.2.1 := by
    obtain ⟨-, ⟨u9, μ9, -, -, hr9, -⟩, -⟩ := hV.get
    exact hr9
  subst hr2
  have hV := hV.mono (PX' := fun w => vOk t.2.2 → xI g t.2.2 x0 w) (PM' := fun u => u.1 0 = nI t.1 ∧ mR t.2.2 u) (fun _ h => h) (fun u h => by obtain ⟨μ, -, h1, -, h3⟩ := h; exact ⟨h1, h3⟩)
  refine x_istore hx hb dL_law_1117 hl (by decide) (fun ls hl => ?_)
  refine lv_aload_n hx hb dL_law_1119 rfl (lh_at hl rfl) ?_
  refine l_m (post := fun μ r u => r = μ.1 0 ∧ u = μ) (As := []) hF hE hS hV hl (fun A ad μ _ => mk_thrown l g A m0 ad μ) q1381 q1382 q1383 q44 q1384 ⟨rfl, by decide +kernel, by decide +kernel, by show _ = some 0; decide +kernel⟩ rfl rfl ⟨Nat.le_of_ble_eq_true rfl, Nat.le_of_ble_eq_true rfl⟩ rfl (Nat.le_of_ble_eq_true rfl) dL_law_1120 (by show (_ : Nat) ≤ 603072 ∧ (_ : Nat) ≤ 7194288; omega) (fun r3 H locs hV hS => ?_)
  have hr3 : r3 = nI t.1 := by
    obtain ⟨-, ⟨u9, μ9, hm9, hr9, -⟩, -⟩ := hV.get
    exact hr9.trans hm9.1
  subst hr3
  have hV := hV.mono (PX' := fun w => vOk t.2.2 → xI g t.2.2 x0 w) (PM' := mR t.2.2) (fun _ h => h) (fun u h => by obtain ⟨μ, h1, -, h3⟩ := h; rw [h3]; exact h1.2)
  have hok : vOk t.2.2 := by
    obtain ⟨-, ⟨u9, hm9⟩, -⟩ := hV.get
    exact hm9.1
  have hV := hV.mono (PX' := xI g t.2.2 x0) (PM' := mR t.2.2) (fun _ h => h hok) (fun _ h => h)
  refine lv_iload hx hb dL_law_1123 (lh_at hl rfl) ?_
  refine lv_icmp_eq (tgt := 1130) hx hb dL_law_1125 (by decide) (fun c1 => ?_) (fun c1 => ?_)
  · refine lv_iload hx hb dL_law_1130 (lh_at hl rfl) ?_
    refine lv_if_ne (tgt := 1147) hx hb dL_law_1132 (by decide) (fun c2 => ?_) (fun c2 => ?_)
    · refine lv_goto (tgt := 1440) hx hb dL_law_1147 (by decide) ?_
      refine W.widen (k := cells + 2200) (n := slots + 93200) (by omega) (by omega) ?_
      exact kk _ _ _ _ _ hV hS (lh_sub hl _ ⟨rfl, rfl, rfl, rfl, rfl, trivial⟩)
    · have h0 : t.1 = 0 := by
        have h4 := c2
        have h5 := congrArg Int32.toInt h4
        rw [nI_toInt (by omega)] at h5
        have h6 : ((0 : Int32)).toInt = 0 := rfl
        omega
      refine lv_aload_n hx hb dL_law_1135 rfl (lh_at hl rfl) ?_
      refine n_const hx hb 0 dL_law_1136 (by decide +kernel) ?_
      refine l_lald hF hE hV dL_law_1137 ?_
      refine lv_iload hx hb dL_law_1138 (lh_at hl rfl) ?_
      refine lv_i2l hx hb dL_law_1140 rfl ?_
      refine W.lcmp hx hb dL_law_1141 ?_
      rw [hz1 h0, show lg_cmp t.2.1.toInt64 t.2.1.toInt64 = 0 by simp [lg_cmp]]
      refine lv_if_eq (tgt := 1147) hx hb dL_law_1142 (by decide) (fun c3 => ?_) (fun c3 => ?_)
      · refine lv_goto (tgt := 1440) hx hb dL_law_1147 (by decide) ?_
        refine W.widen (k := cells + 2200) (n := slots + 93200) (by omega) (by omega) ?_
        exact kk _ _ _ _ _ hV hS (lh_sub hl _ ⟨rfl, rfl, rfl, rfl, rfl, trivial⟩)
      · exact absurd rfl c3
  · exact absurd rfl c1
