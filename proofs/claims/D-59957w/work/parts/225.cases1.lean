/-! THE LAW: cases (1), printed by tools/gen_law.py -/
set_option maxRecDepth 100000
theorem opPut_c (ν : nS) (p0 p1 p2 : Int32) : (opPut ν p0 p1 p2).1 ≤ 3 := by
  unfold opPut
  repeat' split
  all_goals exact Nat.le_of_ble_eq_true rfl
theorem opLayOut_c (ν : nS) : (opLayOut ν).1 ≤ 3 := by
  unfold opLayOut
  repeat' split
  all_goals exact Nat.le_of_ble_eq_true rfl
theorem opPlaceOf_c (ν : nS) (p0 : Int32) : (opPlaceOf ν p0).1 ≤ 3 := by
  unfold opPlaceOf
  repeat' split
  all_goals exact Nat.le_of_ble_eq_true rfl
theorem opTurnover_c (ν : nS) (p0 : Int32) : (opTurnover ν p0).1 ≤ 3 := by
  unfold opTurnover
  repeat' split
  all_goals exact Nat.le_of_ble_eq_true rfl
theorem opDistance_c (ν : nS) (p0 p1 : Int32) : (opDistance ν p0 p1).1 ≤ 3 := by
  unfold opDistance
  repeat' split
  all_goals exact Nat.le_of_ble_eq_true rfl
theorem opOrder_c (ν : nS) (p0 : Int32) : (opOrder ν p0).1 ≤ 3 := by
  unfold opOrder
  repeat' split
  all_goals exact Nat.le_of_ble_eq_true rfl
theorem opLine_c (ν : nS) (p0 p1 p2 : Int32) : (opLine ν p0 p1 p2).1 ≤ 3 := by
  unfold opLine
  repeat' split
  all_goals exact Nat.le_of_ble_eq_true rfl
theorem opStateOf_c (ν : nS) (p0 : Int32) : (opStateOf ν p0).1 ≤ 3 := by
  unfold opStateOf
  repeat' split
  all_goals exact Nat.le_of_ble_eq_true rfl
theorem opLengthAlone_c (ν : nS) (p0 : Int32) : (opLengthAlone ν p0).1 ≤ 3 := by
  unfold opLengthAlone
  repeat' split
  all_goals exact Nat.le_of_ble_eq_true rfl
theorem opSetCap_c (ν : nS) (p0 : Int32) : (opSetCap ν p0).1 ≤ 3 := by
  unfold opSetCap
  repeat' split
  all_goals exact Nat.le_of_ble_eq_true rfl
theorem opPlan_c (ν : nS) (p0 : Int32) : (opPlan ν p0).1 ≤ 3 := by
  unfold opPlan
  repeat' split
  all_goals exact Nat.le_of_ble_eq_true rfl
theorem opPick_c (ν : nS) (p0 : Int32) : (opPick ν p0).1 ≤ 3 := by
  unfold opPick
  repeat' split
  all_goals exact Nat.le_of_ble_eq_true rfl
theorem opBatchOf_c (ν : nS) (p0 : Int32) : (opBatchOf ν p0).1 ≤ 3 := by
  unfold opBatchOf
  repeat' split
  all_goals exact Nat.le_of_ble_eq_true rfl
theorem opLinesOf_c (ν : nS) (p0 : Int32) : (opLinesOf ν p0).1 ≤ 3 := by
  unfold opLinesOf
  repeat' split
  all_goals exact Nat.le_of_ble_eq_true rfl
theorem opLengthOf_c (ν : nS) (p0 : Int32) : (opLengthOf ν p0).1 ≤ 3 := by
  unfold opLengthOf
  repeat' split
  all_goals exact Nat.le_of_ble_eq_true rfl
theorem opByTrying_c (ν : nS) (p0 : Int32) : (opByTrying ν p0).1 ≤ 3 := by
  unfold opByTrying
  repeat' split
  all_goals exact Nat.le_of_ble_eq_true rfl
theorem opThrough_c (ν : nS) (p0 : Int32) : (opThrough ν p0).1 ≤ 3 := by
  unfold opThrough
  repeat' split
  all_goals exact Nat.le_of_ble_eq_true rfl
theorem opStops_c (ν : nS) (p0 : Int32) : (opStops ν p0).1 ≤ 3 := by
  unfold opStops
  repeat' split
  all_goals exact Nat.le_of_ble_eq_true rfl
theorem opStopAt_c (ν : nS) (p0 p1 : Int32) : (opStopAt ν p0 p1).1 ≤ 3 := by
  unfold opStopAt
  repeat' split
  all_goals exact Nat.le_of_ble_eq_true rfl
theorem opInAisle_c (ν : nS) (p0 : Int32) : (opInAisle ν p0).1 ≤ 3 := by
  unfold opInAisle
  repeat' split
  all_goals exact Nat.le_of_ble_eq_true rfl
set_option maxHeartbeats 2000000 in
theorem law_c0 {p : Program} {l : Launch} {e : Env} {s : State} {m : MethodId} {args : Array Value} {below : List Frame} {meth : Method} {c : Code} {H : Heap} {locs : List Loc} {cells slots : Nat} {Q : State → Prop} {ls : Array Slot} {g : xg} {x0 m0 o bb L i : Nat} {xs : Nat → Int32} {ν : nS} {z : Int64} (hlt : l.stackTraces = false) (hF : xFix p m c cL_law 9 s args RX0) (hE : xE g (x3 s.heap.size) s) (hNc : xNc s) (hX : va_X bb L xs s s.heap) (hbl : bb < s.heap.size) (hL : L ≤ 259) (hi : i + 4 ≤ L) (hc : cells + 2200 ≤ 603072) (hsl : slots + 93200 ≤ 7194288)
    (hV : LV g s.heap.size m0 o (xI g ν x0) (mR ν) z H) (hS : va_S (x3 s.heap.size) s.heap H locs) (hl : lh ls 9 (xl [(0, .ref bb), (1, .ref x0), (2, .ref m0), (3, .ref o), (4, .int (nI i))]))
    (kk : ∀ (ν' : nS) (z' : Int64) (H1 : Heap) (locs1 : List Loc) (ls1 : Array Slot), LV g s.heap.size m0 o (xI g ν' x0) (mR ν') z' H1 → va_S (x3 s.heap.size) s.heap H1 locs1 → lh ls1 9 (xl [(0, .ref bb), (1, .ref x0), (2, .ref m0), (3, .ref o), (4, .int (nI i))]) → W p l e room_1 s m args below meth c H1 locs1 (cells + 2200) (slots + 93200) Q (F0 m 1440 ls1 [])) :
    W p l e room_1 s m args below meth c H locs cells slots Q (F0 m 180 ls []) := by
  obtain ⟨hx, hb, hml, hown, hts⟩ := id hF
  refine lv_aload_n hx hb dL_law_180 rfl (lh_at hl rfl) ?_
  refine lv_aload_n hx hb dL_law_181 rfl (lh_at hl rfl) ?_
  refine lv_iload hx hb dL_law_182 (lh_at hl rfl) ?_
  refine n_const hx hb 1 dL_law_184 (by decide +kernel) ?_
  refine n_iadd hx hb dL_law_185 ?_
  refine l_iald hF hX hbl hS (by omega) hL dL_law_186 ?_
  refine lv_aload_n hx hb dL_law_187 rfl (lh_at hl rfl) ?_
  refine lv_iload hx hb dL_law_188 (lh_at hl rfl) ?_
  refine n_const hx hb 2 dL_law_190 (by decide +kernel) ?_
  refine n_iadd hx hb dL_law_191 ?_
  refine l_iald hF hX hbl hS (by omega) hL dL_law_192 ?_
  refine lv_aload_n hx hb dL_law_193 rfl (lh_at hl rfl) ?_
  refine lv_iload hx hb dL_law_194 (lh_at hl rfl) ?_
  refine n_const hx hb 3 dL_law_196 (by decide +kernel) ?_
  refine n_iadd hx hb dL_law_197 ?_
  refine l_iald hF hX hbl hS (by omega) hL dL_law_198 ?_
  refine lv_aload_n hx hb dL_law_199 rfl (lh_at hl rfl) ?_
  refine l_x (As := [.ref x0, .int (xs (i + 1)), .int (xs (i + 2)), .int (xs (i + 3)), .ref o]) hF hE hNc hS hV hl (fun B w h hoB => yk_put l hlt g B w ν x0 o z (xs (i + 1)) (xs (i + 2)) (xs (i + 3)) h hoB) q207 q208 q37 q209 ⟨by decide +kernel, by decide +kernel, by show _ = some 5; decide +kernel⟩ rfl rfl ⟨Nat.le_of_ble_eq_true rfl, Nat.le_of_ble_eq_true rfl⟩ rfl (Nat.le_of_ble_eq_true rfl) dL_law_200 (by show (_ : Nat) ≤ 603072 ∧ (_ : Nat) ≤ 7194288; omega) (fun z1 H locs hz1 hV hS => ?_)
  refine x_istore hx hb dL_law_203 hl (by decide) (fun ls hl => ?_)
  refine lv_aload_n hx hb dL_law_205 rfl (lh_at hl rfl) ?_
  refine lv_aload_n hx hb dL_law_206 rfl (lh_at hl rfl) ?_
  refine lv_iload hx hb dL_law_207 (lh_at hl rfl) ?_
  refine n_const hx hb 1 dL_law_209 (by decide +kernel) ?_
  refine n_iadd hx hb dL_law_210 ?_
  refine l_iald hF hX hbl hS (by omega) hL dL_law_211 ?_
  refine lv_aload_n hx hb dL_law_212 rfl (lh_at hl rfl) ?_
  refine lv_iload hx hb dL_law_213 (lh_at hl rfl) ?_
  refine n_const hx hb 2 dL_law_215 (by decide +kernel) ?_
  refine n_iadd hx hb dL_law_216 ?_
  refine l_iald hF hX hbl hS (by omega) hL dL_law_217 ?_
  refine lv_aload_n hx hb dL_law_218 rfl (lh_at hl rfl) ?_
  refine lv_iload hx hb dL_law_219 (lh_at hl rfl) ?_
  refine n_const hx hb 3 dL_law_221 (by decide +kernel) ?_
  refine n_iadd hx hb dL_law_222 ?_
  refine l_iald hF hX hbl hS (by omega) hL dL_law_223 ?_
  refine l_m (post := fun _ => mOp (opPut ν (xs (i + 1)) (xs (i + 2)) (xs (i + 3)))) (As := [.int (xs (i + 1)), .int (xs (i + 2)), .int (xs (i + 3))]) hF hE hS hV hl (fun A ad μ h => mk_put l g A m0 ad μ ν h (xs (i + 1)) (xs (i + 2)) (xs (i + 3))) q1385 q1386 q1387 q44 q1388 ⟨rfl, by decide +kernel, by decide +kernel, by show _ = some 3; decide +kernel⟩ rfl rfl ⟨Nat.le_of_ble_eq_true rfl, Nat.le_of_ble_eq_true rfl⟩ rfl (Nat.le_of_ble_eq_true rfl) dL_law_224 (by show (_ : Nat) ≤ 603072 ∧ (_ : Nat) ≤ 7194288; omega) (fun r2 H locs hV hS => ?_)
  generalize ht : (opPut ν (xs (i + 1)) (xs (i + 2)) (xs (i + 3))) = t at hV hz1 hl ⊢
  have ht3 : t.1 ≤ 3 := by rw [← ht]; exact opPut_c ν (xs (i + 1)) (xs (i + 2)) (xs (i + 3))
  clear ht
  have hr2 : r2 = t.2.1 := by
    obtain ⟨-, ⟨u9, μ9, -, -, hr9, -⟩, -⟩ := hV.get
    exact hr9
  subst hr2
  have hV := hV.mono (PX' := fun w => vOk t.2.2 → xI g t.2.2 x0 w) (PM' := fun u => u.1 0 = nI t.1 ∧ mR t.2.2 u) (fun _ h => h) (fun u h => by obtain ⟨μ, -, h1, -, h3⟩ := h; exact ⟨h1, h3⟩)
  refine x_istore hx hb dL_law_227 hl (by decide) (fun ls hl => ?_)
  refine lv_aload_n hx hb dL_law_229 rfl (lh_at hl rfl) ?_
  refine l_m (post := fun μ r u => r = μ.1 0 ∧ u = μ) (As := []) hF hE hS hV hl (fun A ad μ _ => mk_thrown l g A m0 ad μ) q1381 q1382 q1383 q44 q1384 ⟨rfl, by decide +kernel, by decide +kernel, by show _ = some 0; decide +kernel⟩ rfl rfl ⟨Nat.le_of_ble_eq_true rfl, Nat.le_of_ble_eq_true rfl⟩ rfl (Nat.le_of_ble_eq_true rfl) dL_law_230 (by show (_ : Nat) ≤ 603072 ∧ (_ : Nat) ≤ 7194288; omega) (fun r3 H locs hV hS => ?_)
  have hr3 : r3 = nI t.1 := by
    obtain ⟨-, ⟨u9, μ9, hm9, hr9, -⟩, -⟩ := hV.get
    exact hr9.trans hm9.1
  subst hr3
  have hV := hV.mono (PX' := fun w => vOk t.2.2 → xI g t.2.2 x0 w) (PM' := mR t.2.2) (fun _ h => h) (fun u h => by obtain ⟨μ, h1, -, h3⟩ := h; rw [h3]; exact h1.2)
  have hok : vOk t.2.2 := by
    obtain ⟨-, ⟨u9, hm9⟩, -⟩ := hV.get
    exact hm9.1
  have hV := hV.mono (PX' := xI g t.2.2 x0) (PM' := mR t.2.2) (fun _ h => h hok) (fun _ h => h)
  refine lv_iload hx hb dL_law_233 (lh_at hl rfl) ?_
  refine lv_icmp_eq (tgt := 240) hx hb dL_law_235 (by decide) (fun c1 => ?_) (fun c1 => ?_)
  · refine lv_iload hx hb dL_law_240 (lh_at hl rfl) ?_
    refine lv_if_ne (tgt := 257) hx hb dL_law_242 (by decide) (fun c2 => ?_) (fun c2 => ?_)
    · refine lv_goto (tgt := 1440) hx hb dL_law_257 (by decide) ?_
      refine W.widen (k := cells + 2200) (n := slots + 93200) (by omega) (by omega) ?_
      exact kk _ _ _ _ _ hV hS (lh_sub hl _ ⟨rfl, rfl, rfl, rfl, rfl, trivial⟩)
    · have h0 : t.1 = 0 := by
        have h4 := c2
        have h5 := congrArg Int32.toInt h4
        rw [nI_toInt (by omega)] at h5
        have h6 : ((0 : Int32)).toInt = 0 := rfl
        omega
      refine lv_aload_n hx hb dL_law_245 rfl (lh_at hl rfl) ?_
      refine n_const hx hb 0 dL_law_246 (by decide +kernel) ?_
      refine l_lald hF hE hV dL_law_247 ?_
      refine lv_iload hx hb dL_law_248 (lh_at hl rfl) ?_
      refine lv_i2l hx hb dL_law_250 rfl ?_
      refine W.lcmp hx hb dL_law_251 ?_
      rw [hz1 h0, show lg_cmp t.2.1.toInt64 t.2.1.toInt64 = 0 by simp [lg_cmp]]
      refine lv_if_eq (tgt := 257) hx hb dL_law_252 (by decide) (fun c3 => ?_) (fun c3 => ?_)
      · refine lv_goto (tgt := 1440) hx hb dL_law_257 (by decide) ?_
        refine W.widen (k := cells + 2200) (n := slots + 93200) (by omega) (by omega) ?_
        exact kk _ _ _ _ _ hV hS (lh_sub hl _ ⟨rfl, rfl, rfl, rfl, rfl, trivial⟩)
      · exact absurd rfl c3
  · exact absurd rfl c1
set_option maxHeartbeats 2000000 in
theorem law_c1 {p : Program} {l : Launch} {e : Env} {s : State} {m : MethodId} {args : Array Value} {below : List Frame} {meth : Method} {c : Code} {H : Heap} {locs : List Loc} {cells slots : Nat} {Q : State → Prop} {ls : Array Slot} {g : xg} {x0 m0 o bb L i : Nat} {xs : Nat → Int32} {ν : nS} {z : Int64} (hlt : l.stackTraces = false) (hF : xFix p m c cL_law 9 s args RX0) (hE : xE g (x3 s.heap.size) s) (hNc : xNc s) (hX : va_X bb L xs s s.heap) (hbl : bb < s.heap.size) (hL : L ≤ 259) (hi : i + 4 ≤ L) (hc : cells + 2200 ≤ 603072) (hsl : slots + 93200 ≤ 7194288)
    (hV : LV g s.heap.size m0 o (xI g ν x0) (mR ν) z H) (hS : va_S (x3 s.heap.size) s.heap H locs) (hl : lh ls 9 (xl [(0, .ref bb), (1, .ref x0), (2, .ref m0), (3, .ref o), (4, .int (nI i))]))
    (kk : ∀ (ν' : nS) (z' : Int64) (H1 : Heap) (locs1 : List Loc) (ls1 : Array Slot), LV g s.heap.size m0 o (xI g ν' x0) (mR ν') z' H1 → va_S (x3 s.heap.size) s.heap H1 locs1 → lh ls1 9 (xl [(0, .ref bb), (1, .ref x0), (2, .ref m0), (3, .ref o), (4, .int (nI i))]) → W p l e room_1 s m args below meth c H1 locs1 (cells + 2200) (slots + 93200) Q (F0 m 1440 ls1 [])) :
    W p l e room_1 s m args below meth c H locs cells slots Q (F0 m 260 ls []) := by
  obtain ⟨hx, hb, hml, hown, hts⟩ := id hF
  refine lv_aload_n hx hb dL_law_260 rfl (lh_at hl rfl) ?_
  refine lv_aload_n hx hb dL_law_261 rfl (lh_at hl rfl) ?_
  refine l_x (As := [.ref x0, .ref o]) hF hE hNc hS hV hl (fun B w h hoB => yk_layOut l hlt g B w ν x0 o z h hoB) q591 q592 q37 q593 ⟨by decide +kernel, by decide +kernel, by show _ = some 2; decide +kernel⟩ rfl rfl ⟨Nat.le_of_ble_eq_true rfl, Nat.le_of_ble_eq_true rfl⟩ rfl (Nat.le_of_ble_eq_true rfl) dL_law_262 (by show (_ : Nat) ≤ 603072 ∧ (_ : Nat) ≤ 7194288; omega) (fun z1 H locs hz1 hV hS => ?_)
  refine x_istore hx hb dL_law_265 hl (by decide) (fun ls hl => ?_)
  refine lv_aload_n hx hb dL_law_267 rfl (lh_at hl rfl) ?_
  refine l_m (post := fun _ => mOp (opLayOut ν)) (As := []) hF hE hS hV hl (fun A ad μ h => mk_layOut l g A m0 ad μ ν h) q1399 q1400 q1401 q44 q1402 ⟨rfl, by decide +kernel, by decide +kernel, by show _ = some 0; decide +kernel⟩ rfl rfl ⟨Nat.le_of_ble_eq_true rfl, Nat.le_of_ble_eq_true rfl⟩ rfl (Nat.le_of_ble_eq_true rfl) dL_law_268 (by show (_ : Nat) ≤ 603072 ∧ (_ : Nat) ≤ 7194288; omega) (fun r2 H locs hV hS => ?_)
  generalize ht : (opLayOut ν) = t at hV hz1 hl ⊢
  have ht3 : t.1 ≤ 3 := by rw [← ht]; exact opLayOut_c ν
  clear ht
  have hr2 : r2 = t.2.1 := by
    obtain ⟨-, ⟨u9, μ9, -, -, hr9, -⟩, -⟩ := hV.get
    exact hr9
  subst hr2
  have hV := hV.mono (PX' := fun w => vOk t.2.2 → xI g t.2.2 x0 w) (PM' := fun u => u.1 0 = nI t.1 ∧ mR t.2.2 u) (fun _ h => h) (fun u h => by obtain ⟨μ, -, h1, -, h3⟩ := h; exact ⟨h1, h3⟩)
  refine x_istore hx hb dL_law_271 hl (by decide) (fun ls hl => ?_)
  refine lv_aload_n hx hb dL_law_273 rfl (lh_at hl rfl) ?_
  refine l_m (post := fun μ r u => r = μ.1 0 ∧ u = μ) (As := []) hF hE hS hV hl (fun A ad μ _ => mk_thrown l g A m0 ad μ) q1381 q1382 q1383 q44 q1384 ⟨rfl, by decide +kernel, by decide +kernel, by show _ = some 0; decide +kernel⟩ rfl rfl ⟨Nat.le_of_ble_eq_true rfl, Nat.le_of_ble_eq_true rfl⟩ rfl (Nat.le_of_ble_eq_true rfl) dL_law_274 (by show (_ : Nat) ≤ 603072 ∧ (_ : Nat) ≤ 7194288; omega) (fun r3 H locs hV hS => ?_)
  have hr3 : r3 = nI t.1 := by
    obtain ⟨-, ⟨u9, μ9, hm9, hr9, -⟩, -⟩ := hV.get
    exact hr9.trans hm9.1
  subst hr3
  have hV := hV.mono (PX' := fun w => vOk t.2.2 → xI g t.2.2 x0 w) (PM' := mR t.2.2) (fun _ h => h) (fun u h => by obtain ⟨μ, h1, -, h3⟩ := h; rw [h3]; exact h1.2)
  have hok : vOk t.2.2 := by
    obtain ⟨-, ⟨u9, hm9⟩, -⟩ := hV.get
    exact hm9.1
  have hV := hV.mono (PX' := xI g t.2.2 x0) (PM' := mR t.2.2) (fun _ h => h hok) (fun _ h => h)
  refine lv_iload hx hb dL_law_277 (lh_at hl rfl) ?_
  refine lv_icmp_eq (tgt := 284) hx hb dL_law_279 (by decide) (fun c1 => ?_) (fun c1 => ?_)
  · refine lv_iload hx hb dL_law_284 (lh_at hl rfl) ?_
    refine lv_if_ne (tgt := 301) hx hb dL_law_286 (by decide) (fun c2 => ?_) (fun c2 => ?_)
    · refine lv_goto (tgt := 1440) hx hb dL_law_301 (by decide) ?_
      refine W.widen (k := cells + 2200) (n := slots + 93200) (by omega) (by omega) ?_
      exact kk _ _ _ _ _ hV hS (lh_sub hl _ ⟨rfl, rfl, rfl, rfl, rfl, trivial⟩)
    · have h0 : t.1 = 0 := by
        have h4 := c2
        have h5 := congrArg Int32.toInt h4
        rw [nI_toInt (by omega)] at h5
        have h6 : ((0 : Int32)).toInt = 0 := rfl
        omega
      refine lv_aload_n hx hb dL_law_289 rfl (lh_at hl rfl) ?_
      refine n_const hx hb 0 dL_law_290 (by decide +kernel) ?_
      refine l_lald hF hE hV dL_law_291 ?_
      refine lv_iload hx hb dL_law_292 (lh_at hl rfl) ?_
      refine lv_i2l hx hb dL_law_294 rfl ?_
      refine W.lcmp hx hb dL_law_295 ?_
      rw [hz1 h0, show lg_cmp t.2.1.toInt64 t.2.1.toInt64 = 0 by simp [lg_cmp]]
      refine lv_if_eq (tgt := 301) hx hb dL_law_296 (by decide) (fun c3 => ?_) (fun c3 => ?_)
      · refine lv_goto (tgt := 1440) hx hb dL_law_301 (by decide) ?_
        refine W.widen (k := cells + 2200) (n := slots + 93200) (by omega) (by omega) ?_
        exact kk _ _ _ _ _ hV hS (lh_sub hl _ ⟨rfl, rfl, rfl, rfl, rfl, trivial⟩)
      · exact absurd rfl c3
  · exact absurd rfl c1
set_option maxHeartbeats 2000000 in
theorem law_c2 {p : Program} {l : Launch} {e : Env} {s : State} {m : MethodId} {args : Array Value} {below : List Frame} {meth : Method} {c : Code} {H : Heap} {locs : List Loc} {cells slots : Nat} {Q : State → Prop} {ls : Array Slot} {g : xg} {x0 m0 o bb L i : Nat} {xs : Nat → Int32} {ν : nS} {z : Int64} (hlt : l.stackTraces = false) (hF : xFix p m c cL_law 9 s args RX0) (hE : xE g (x3 s.heap.size) s) (hNc : xNc s) (hX : va_X bb L xs s s.heap) (hbl : bb < s.heap.size) (hL : L ≤ 259) (hi : i + 4 ≤ L) (hc : cells + 2200 ≤ 603072) (hsl : slots + 93200 ≤ 7194288)
    (hV : LV g s.heap.size m0 o (xI g ν x0) (mR ν) z H) (hS : va_S (x3 s.heap.size) s.heap H locs) (hl : lh ls 9 (xl [(0, .ref bb), (1, .ref x0), (2, .ref m0), (3, .ref o), (4, .int (nI i))]))
    (kk : ∀ (ν' : nS) (z' : Int64) (H1 : Heap) (locs1 : List Loc) (ls1 : Array Slot), LV g s.heap.size m0 o (xI g ν' x0) (mR ν') z' H1 → va_S (x3 s.heap.size) s.heap H1 locs1 → lh ls1 9 (xl [(0, .ref bb), (1, .ref x0), (2, .ref m0), (3, .ref o), (4, .int (nI i))]) → W p l e room_1 s m args below meth c H1 locs1 (cells + 2200) (slots + 93200) Q (F0 m 1440 ls1 [])) :
    W p l e room_1 s m args below meth c H locs cells slots Q (F0 m 304 ls []) := by
  obtain ⟨hx, hb, hml, hown, hts⟩ := id hF
  refine lv_aload_n hx hb dL_law_304 rfl (lh_at hl rfl) ?_
  refine lv_aload_n hx hb dL_law_305 rfl (lh_at hl rfl) ?_
  refine lv_iload hx hb dL_law_306 (lh_at hl rfl) ?_
  refine n_const hx hb 1 dL_law_308 (by decide +kernel) ?_
  refine n_iadd hx hb dL_law_309 ?_
  refine l_iald hF hX hbl hS (by omega) hL dL_law_310 ?_
  refine lv_aload_n hx hb dL_law_311 rfl (lh_at hl rfl) ?_
  refine l_x (As := [.ref x0, .int (xs (i + 1)), .ref o]) hF hE hNc hS hV hl (fun B w h hoB => yk_placeOf l hlt g B w ν x0 o z (xs (i + 1)) h hoB) q902 q903 q37 q904 ⟨by decide +kernel, by decide +kernel, by show _ = some 3; decide +kernel⟩ rfl rfl ⟨Nat.le_of_ble_eq_true rfl, Nat.le_of_ble_eq_true rfl⟩ rfl (Nat.le_of_ble_eq_true rfl) dL_law_312 (by show (_ : Nat) ≤ 603072 ∧ (_ : Nat) ≤ 7194288; omega) (fun z1 H locs hz1 hV hS => ?_)
  refine x_istore hx hb dL_law_315 hl (by decide) (fun ls hl => ?_)
  refine lv_aload_n hx hb dL_law_317 rfl (lh_at hl rfl) ?_
  refine lv_aload_n hx hb dL_law_318 rfl (lh_at hl rfl) ?_
  refine lv_iload hx hb dL_law_319 (lh_at hl rfl) ?_
  refine n_const hx hb 1 dL_law_321 (by decide +kernel) ?_
  refine n_iadd hx hb dL_law_322 ?_
  refine l_iald hF hX hbl hS (by omega) hL dL_law_323 ?_
  refine l_m (post := fun _ => mOp (opPlaceOf ν (xs (i + 1)))) (As := [.int (xs (i + 1))]) hF hE hS hV hl (fun A ad μ h => mk_placeOf l g A m0 ad μ ν h (xs (i + 1))) q1419 q1420 q1421 q44 q1422 ⟨rfl, by decide +kernel, by decide +kernel, by show _ = some 1; decide +kernel⟩ rfl rfl ⟨Nat.le_of_ble_eq_true rfl, Nat.le_of_ble_eq_true rfl⟩ rfl (Nat.le_of_ble_eq_true rfl) dL_law_324 (by show (_ : Nat) ≤ 603072 ∧ (_ : Nat) ≤ 7194288; omega) (fun r2 H locs hV hS => ?_)
  generalize ht : (opPlaceOf ν (xs (i + 1))) = t at hV hz1 hl ⊢
  have ht3 : t.1 ≤ 3 := by rw [← ht]; exact opPlaceOf_c ν (xs (i + 1))
  clear ht
  have hr2 : r2 = t.2.1 := by
    obtain ⟨-, ⟨u9, μ9, -, -, hr9, -⟩, -⟩ := hV.get
    exact hr9
  subst hr2
  have hV := hV.mono (PX' := fun w => vOk t.2.2 → xI g t.2.2 x0 w) (PM' := fun u => u.1 0 = nI t.1 ∧ mR t.2.2 u) (fun _ h => h) (fun u h => by obtain ⟨μ, -, h1, -, h3⟩ := h; exact ⟨h1, h3⟩)
  refine x_istore hx hb dL_law_327 hl (by decide) (fun ls hl => ?_)
  refine lv_aload_n hx hb dL_law_329 rfl (lh_at hl rfl) ?_
  refine l_m (post := fun μ r u => r = μ.1 0 ∧ u = μ) (As := []) hF hE hS hV hl (fun A ad μ _ => mk_thrown l g A m0 ad μ) q1381 q1382 q1383 q44 q1384 ⟨rfl, by decide +kernel, by decide +kernel, by show _ = some 0; decide +kernel⟩ rfl rfl ⟨Nat.le_of_ble_eq_true rfl, Nat.le_of_ble_eq_true rfl⟩ rfl (Nat.le_of_ble_eq_true rfl) dL_law_330 (by show (_ : Nat) ≤ 603072 ∧ (_ : Nat) ≤ 7194288; omega) (fun r3 H locs hV hS => ?_)
  have hr3 : r3 = nI t.1 := by
    obtain ⟨-, ⟨u9, μ9, hm9, hr9, -⟩, -⟩ := hV.get
    exact hr9.trans hm9.1
  subst hr3
  have hV := hV.mono (PX' := fun w => vOk t.2.2 → xI g t.2.2 x0 w) (PM' := mR t.2.2) (fun _ h => h) (fun u h => by obtain ⟨μ, h1, -, h3⟩ := h; rw [h3]; exact h1.2)
  have hok : vOk t.2.2 := by
    obtain ⟨-, ⟨u9, hm9⟩, -⟩ := hV.get
    exact hm9.1
  have hV := hV.mono (PX' := xI g t.2.2 x0) (PM' := mR t.2.2) (fun _ h => h hok) (fun _ h => h)
  refine lv_iload hx hb dL_law_333 (lh_at hl rfl) ?_
  refine lv_icmp_eq (tgt := 340) hx hb dL_law_335 (by decide) (fun c1 => ?_) (fun c1 => ?_)
  · refine lv_iload hx hb dL_law_340 (lh_at hl rfl) ?_
    refine lv_if_ne (tgt := 357) hx hb dL_law_342 (by decide) (fun c2 => ?_) (fun c2 => ?_)
    · refine lv_goto (tgt := 1440) hx hb dL_law_357 (by decide) ?_
      refine W.widen (k := cells + 2200) (n := slots + 93200) (by omega) (by omega) ?_
      exact kk _ _ _ _ _ hV hS (lh_sub hl _ ⟨rfl, rfl, rfl, rfl, rfl, trivial⟩)
    · have h0 : t.1 = 0 := by
        have h4 := c2
        have h5 := congrArg Int32.toInt h4
        rw [nI_toInt (by omega)] at h5
        have h6 : ((0 : Int32)).toInt = 0 := rfl
        omega
      refine lv_aload_n hx hb dL_law_345 rfl (lh_at hl rfl) ?_
      refine n_const hx hb 0 dL_law_346 (by decide +kernel) ?_
      refine l_lald hF hE hV dL_law_347 ?_
      refine lv_iload hx hb dL_law_348 (lh_at hl rfl) ?_
      refine lv_i2l hx hb dL_law_350 rfl ?_
      refine W.lcmp hx hb dL_law_351 ?_
      rw [hz1 h0, show lg_cmp t.2.1.toInt64 t.2.1.toInt64 = 0 by simp [lg_cmp]]
      refine lv_if_eq (tgt := 357) hx hb dL_law_352 (by decide) (fun c3 => ?_) (fun c3 => ?_)
      · refine lv_goto (tgt := 1440) hx hb dL_law_357 (by decide) ?_
        refine W.widen (k := cells + 2200) (n := slots + 93200) (by omega) (by omega) ?_
        exact kk _ _ _ _ _ hV hS (lh_sub hl _ ⟨rfl, rfl, rfl, rfl, rfl, trivial⟩)
      · exact absurd rfl c3
  · exact absurd rfl c1
set_option maxHeartbeats 2000000 in
theorem law_c3 {p : Program} {l : Launch} {e : Env} {s : State} {m : MethodId} {args : Array Value} {below : List Frame} {meth : Method} {c : Code} {H : Heap} {locs : List Loc} {cells slots : Nat} {Q : State → Prop} {ls : Array Slot} {g : xg} {x0 m0 o bb L i : Nat} {xs : Nat → Int32} {ν : nS} {z : Int64} (hlt : l.stackTraces = false) (hF : xFix p m c cL_law 9 s args RX0) (hE : xE g (x3 s.heap.size) s) (hNc : xNc s) (hX : va_X bb L xs s s.heap) (hbl : bb < s.heap.size) (hL : L ≤ 259) (hi : i + 4 ≤ L) (hc : cells + 2200 ≤ 603072) (hsl : slots + 93200 ≤ 7194288)
    (hV : LV g s.heap.size m0 o (xI g ν x0) (mR ν) z H) (hS : va_S (x3 s.heap.size) s.heap H locs) (hl : lh ls 9 (xl [(0, .ref bb), (1, .ref x0), (2, .ref m0), (3, .ref o), (4, .int (nI i))]))
    (kk : ∀ (ν' : nS) (z' : Int64) (H1 : Heap) (locs1 : List Loc) (ls1 : Array Slot), LV g s.heap.size m0 o (xI g ν' x0) (mR ν') z' H1 → va_S (x3 s.heap.size) s.heap H1 locs1 → lh ls1 9 (xl [(0, .ref bb), (1, .ref x0), (2, .ref m0), (3, .ref o), (4, .int (nI i))]) → W p l e room_1 s m args below meth c H1 locs1 (cells + 2200) (slots + 93200) Q (F0 m 1440 ls1 [])) :
    W p l e room_1 s m args below meth c H locs cells slots Q (F0 m 360 ls []) := by
  obtain ⟨hx, hb, hml, hown, hts⟩ := id hF
  refine lv_aload_n hx hb dL_law_360 rfl (lh_at hl rfl) ?_
  refine lv_aload_n hx hb dL_law_361 rfl (lh_at hl rfl) ?_
  refine lv_iload hx hb dL_law_362 (lh_at hl rfl) ?_
  refine n_const hx hb 1 dL_law_364 (by decide +kernel) ?_
  refine n_iadd hx hb dL_law_365 ?_
  refine l_iald hF hX hbl hS (by omega) hL dL_law_366 ?_
  refine lv_aload_n hx hb dL_law_367 rfl (lh_at hl rfl) ?_
  refine l_x (As := [.ref x0, .int (xs (i + 1)), .ref o]) hF hE hNc hS hV hl (fun B w h hoB => yk_turnover l hlt g B w ν x0 o z (xs (i + 1)) h hoB) q909 q910 q37 q911 ⟨by decide +kernel, by decide +kernel, by show _ = some 3; decide +kernel⟩ rfl rfl ⟨Nat.le_of_ble_eq_true rfl, Nat.le_of_ble_eq_true rfl⟩ rfl (Nat.le_of_ble_eq_true rfl) dL_law_368 (by show (_ : Nat) ≤ 603072 ∧ (_ : Nat) ≤ 7194288; omega) (fun z1 H locs hz1 hV hS => ?_)
  refine x_istore hx hb dL_law_371 hl (by decide) (fun ls hl => ?_)
  refine lv_aload_n hx hb dL_law_373 rfl (lh_at hl rfl) ?_
  refine lv_aload_n hx hb dL_law_374 rfl (lh_at hl rfl) ?_
  refine lv_iload hx hb dL_law_375 (lh_at hl rfl) ?_
  refine n_const hx hb 1 dL_law_377 (by decide +kernel) ?_
  refine n_iadd hx hb dL_law_378 ?_
  refine l_iald hF hX hbl hS (by omega) hL dL_law_379 ?_
  refine l_m (post := fun _ => mOp (opTurnover ν (xs (i + 1)))) (As := [.int (xs (i + 1))]) hF hE hS hV hl (fun A ad μ h => mk_turnover l g A m0 ad μ ν h (xs (i + 1))) q1423 q1424 q1425 q44 q1426 ⟨rfl, by decide +kernel, by decide +kernel, by show _ = some 1; decide +kernel⟩ rfl rfl ⟨Nat.le_of_ble_eq_true rfl, Nat.le_of_ble_eq_true rfl⟩ rfl (Nat.le_of_ble_eq_true rfl) dL_law_380 (by show (_ : Nat) ≤ 603072 ∧ (_ : Nat) ≤ 7194288; omega) (fun r2 H locs hV hS => ?_)
  generalize ht : (opTurnover ν (xs (i + 1))) = t at hV hz1 hl ⊢
  have ht3 : t.1 ≤ 3 := by rw [← ht]; exact opTurnover_c ν (xs (i + 1))
  clear ht
  have hr2 : r2 = t.2.1 := by
    obtain ⟨-, ⟨u9, μ9, -, -, hr9, -⟩, -⟩ := hV.get
    exact hr9
  subst hr2
  have hV := hV.mono (PX' := fun w => vOk t.2.2 → xI g t.2.2 x0 w) (PM' := fun u => u.1 0 = nI t.1 ∧ mR t.2.2 u) (fun _ h => h) (fun u h => by obtain ⟨μ, -, h1, -, h3⟩ := h; exact ⟨h1, h3⟩)
  refine x_istore hx hb dL_law_383 hl (by decide) (fun ls hl => ?_)
  refine lv_aload_n hx hb dL_law_385 rfl (lh_at hl rfl) ?_
  refine l_m (post := fun μ r u => r = μ.1 0 ∧ u = μ) (As := []) hF hE hS hV hl (fun A ad μ _ => mk_thrown l g A m0 ad μ) q1381 q1382 q1383 q44 q1384 ⟨rfl, by decide +kernel, by decide +kernel, by show _ = some 0; decide +kernel⟩ rfl rfl ⟨Nat.le_of_ble_eq_true rfl, Nat.le_of_ble_eq_true rfl⟩ rfl (Nat.le_of_ble_eq_true rfl) dL_law_386 (by show (_ : Nat) ≤ 603072 ∧ (_ : Nat) ≤ 7194288; omega) (fun r3 H locs hV hS => ?_)
  have hr3 : r3 = nI t.1 := by
    obtain ⟨-, ⟨u9, μ9, hm9, hr9, -⟩, -⟩ := hV.get
    exact hr9.trans hm9.1
  subst hr3
  have hV := hV.mono (PX' := fun w => vOk t.2.2 → xI g t.2.2 x0 w) (PM' := mR t.2.2) (fun _ h => h) (fun u h => by obtain ⟨μ, h1, -, h3⟩ := h; rw [h3]; exact h1.2)
  have hok : vOk t.2.2 := by
    obtain ⟨-, ⟨u9, hm9⟩, -⟩ := hV.get
    exact hm9.1
  have hV := hV.mono (PX' := xI g t.2.2 x0) (PM' := mR t.2.2) (fun _ h => h hok) (fun _ h => h)
  refine lv_iload hx hb dL_law_389 (lh_at hl rfl) ?_
  refine lv_icmp_eq (tgt := 396) hx hb dL_law_391 (by decide) (fun c1 => ?_) (fun c1 => ?_)
  · refine lv_iload hx hb dL_law_396 (lh_at hl rfl) ?_
    refine lv_if_ne (tgt := 413) hx hb dL_law_398 (by decide) (fun c2 => ?_) (fun c2 => ?_)
    · refine lv_goto (tgt := 1440) hx hb dL_law_413 (by decide) ?_
      refine W.widen (k := cells + 2200) (n := slots + 93200) (by omega) (by omega) ?_
      exact kk _ _ _ _ _ hV hS (lh_sub hl _ ⟨rfl, rfl, rfl, rfl, rfl, trivial⟩)
    · have h0 : t.1 = 0 := by
        have h4 := c2
        have h5 := congrArg Int32.toInt h4
        rw [nI_toInt (by omega)] at h5
        have h6 : ((0 : Int32)).toInt = 0 := rfl
        omega
      refine lv_aload_n hx hb dL_law_401 rfl (lh_at hl rfl) ?_
      refine n_const hx hb 0 dL_law_402 (by decide +kernel) ?_
      refine l_lald hF hE hV dL_law_403 ?_
      refine lv_iload hx hb dL_law_404 (lh_at hl rfl) ?_
      refine lv_i2l hx hb dL_law_406 rfl ?_
      refine W.lcmp hx hb dL_law_407 ?_
      rw [hz1 h0, show lg_cmp t.2.1.toInt64 t.2.1.toInt64 = 0 by simp [lg_cmp]]
      refine lv_if_eq (tgt := 413) hx hb dL_law_408 (by decide) (fun c3 => ?_) (fun c3 => ?_)
      · refine lv_goto (tgt := 1440) hx hb dL_law_413 (by decide) ?_
        refine W.widen (k := cells + 2200) (n := slots + 93200) (by omega) (by omega) ?_
        exact kk _ _ _ _ _ hV hS (lh_sub hl _ ⟨rfl, rfl, rfl, rfl, rfl, trivial⟩)
      · exact absurd rfl c3
  · exact absurd rfl c1
set_option maxHeartbeats 2000000 in
theorem law_c4 {p : Program} {l : Launch} {e : Env} {s : State} {m : MethodId} {args : Array Value} {below : List Frame} {meth : Method} {c : Code} {H : Heap} {locs : List Loc} {cells slots : Nat} {Q : State → Prop} {ls : Array Slot} {g : xg} {x0 m0 o bb L i : Nat} {xs : Nat → Int32} {ν : nS} {z : Int64} (hlt : l.stackTraces = false) (hF : xFix p m c cL_law 9 s args RX0) (hE : xE g (x3 s.heap.size) s) (hNc : xNc s) (hX : va_X bb L xs s s.heap) (hbl : bb < s.heap.size) (hL : L ≤ 259) (hi : i + 4 ≤ L) (hc : cells + 2200 ≤ 603072) (hsl : slots + 93200 ≤ 7194288)
    (hV : LV g s.heap.size m0 o (xI g ν x0) (mR ν) z H) (hS : va_S (x3 s.heap.size) s.heap H locs) (hl : lh ls 9 (xl [(0, .ref bb), (1, .ref x0), (2, .ref m0), (3, .ref o), (4, .int (nI i))]))
    (kk : ∀ (ν' : nS) (z' : Int64) (H1 : Heap) (locs1 : List Loc) (ls1 : Array Slot), LV g s.heap.size m0 o (xI g ν' x0) (mR ν') z' H1 → va_S (x3 s.heap.size) s.heap H1 locs1 → lh ls1 9 (xl [(0, .ref bb), (1, .ref x0), (2, .ref m0), (3, .ref o), (4, .int (nI i))]) → W p l e room_1 s m args below meth c H1 locs1 (cells + 2200) (slots + 93200) Q (F0 m 1440 ls1 [])) :
    W p l e room_1 s m args below meth c H locs cells slots Q (F0 m 416 ls []) := by
  obtain ⟨hx, hb, hml, hown, hts⟩ := id hF
  refine lv_aload_n hx hb dL_law_416 rfl (lh_at hl rfl) ?_
  refine lv_aload_n hx hb dL_law_417 rfl (lh_at hl rfl) ?_
  refine lv_iload hx hb dL_law_418 (lh_at hl rfl) ?_
  refine n_const hx hb 1 dL_law_420 (by decide +kernel) ?_
  refine n_iadd hx hb dL_law_421 ?_
  refine l_iald hF hX hbl hS (by omega) hL dL_law_422 ?_
  refine lv_aload_n hx hb dL_law_423 rfl (lh_at hl rfl) ?_
  refine lv_iload hx hb dL_law_424 (lh_at hl rfl) ?_
  refine n_const hx hb 2 dL_law_426 (by decide +kernel) ?_
  refine n_iadd hx hb dL_law_427 ?_
  refine l_iald hF hX hbl hS (by omega) hL dL_law_428 ?_
  refine lv_aload_n hx hb dL_law_429 rfl (lh_at hl rfl) ?_
  refine l_x (As := [.ref x0, .int (xs (i + 1)), .int (xs (i + 2)), .ref o]) hF hE hNc hS hV hl (fun B w h hoB => yk_distance l hlt g B w ν x0 o z (xs (i + 1)) (xs (i + 2)) h hoB) q916 q917 q37 q918 ⟨by decide +kernel, by decide +kernel, by show _ = some 4; decide +kernel⟩ rfl rfl ⟨Nat.le_of_ble_eq_true rfl, Nat.le_of_ble_eq_true rfl⟩ rfl (Nat.le_of_ble_eq_true rfl) dL_law_430 (by show (_ : Nat) ≤ 603072 ∧ (_ : Nat) ≤ 7194288; omega) (fun z1 H locs hz1 hV hS => ?_)
  refine x_istore hx hb dL_law_433 hl (by decide) (fun ls hl => ?_)
  refine lv_aload_n hx hb dL_law_435 rfl (lh_at hl rfl) ?_
  refine lv_aload_n hx hb dL_law_436 rfl (lh_at hl rfl) ?_
  refine lv_iload hx hb dL_law_437 (lh_at hl rfl) ?_
  refine n_const hx hb 1 dL_law_439 (by decide +kernel) ?_
  refine n_iadd hx hb dL_law_440 ?_
  refine l_iald hF hX hbl hS (by omega) hL dL_law_441 ?_
  refine lv_aload_n hx hb dL_law_442 rfl (lh_at hl rfl) ?_
  refine lv_iload hx hb dL_law_443 (lh_at hl rfl) ?_
  refine n_const hx hb 2 dL_law_445 (by decide +kernel) ?_
  refine n_iadd hx hb dL_law_446 ?_
  refine l_iald hF hX hbl hS (by omega) hL dL_law_447 ?_
  refine l_m (post := fun _ => mOp (opDistance ν (xs (i + 1)) (xs (i + 2)))) (As := [.int (xs (i + 1)), .int (xs (i + 2))]) hF hE hS hV hl (fun A ad μ h => mk_distance l g A m0 ad μ ν h (xs (i + 1)) (xs (i + 2))) q1427 q1428 q1429 q44 q1430 ⟨rfl, by decide +kernel, by decide +kernel, by show _ = some 2; decide +kernel⟩ rfl rfl ⟨Nat.le_of_ble_eq_true rfl, Nat.le_of_ble_eq_true rfl⟩ rfl (Nat.le_of_ble_eq_true rfl) dL_law_448 (by show (_ : Nat) ≤ 603072 ∧ (_ : Nat) ≤ 7194288; omega) (fun r2 H locs hV hS => ?_)
  generalize ht : (opDistance ν (xs (i + 1)) (xs (i + 2))) = t at hV hz1 hl ⊢
  have ht3 : t.1 ≤ 3 := by rw [← ht]; exact opDistance_c ν (xs (i + 1)) (xs (i + 2))
  clear ht
  have hr2 : r2 = t.2.1 := by
    obtain ⟨-, ⟨u9, μ9, -, -, hr9, -⟩, -⟩ := hV.get
    exact hr9
  subst hr2
  have hV := hV.mono (PX' := fun w => vOk t.2.2 → xI g t.2.2 x0 w) (PM' := fun u => u.1 0 = nI t.1 ∧ mR t.2.2 u) (fun _ h => h) (fun u h => by obtain ⟨μ, -, h1, -, h3⟩ := h; exact ⟨h1, h3⟩)
  refine x_istore hx hb dL_law_451 hl (by decide) (fun ls hl => ?_)
  refine lv_aload_n hx hb dL_law_453 rfl (lh_at hl rfl) ?_
  refine l_m (post := fun μ r u => r = μ.1 0 ∧ u = μ) (As := []) hF hE hS hV hl (fun A ad μ _ => mk_thrown l g A m0 ad μ) q1381 q1382 q1383 q44 q1384 ⟨rfl, by decide +kernel, by decide +kernel, by show _ = some 0; decide +kernel⟩ rfl rfl ⟨Nat.le_of_ble_eq_true rfl, Nat.le_of_ble_eq_true rfl⟩ rfl (Nat.le_of_ble_eq_true rfl) dL_law_454 (by show (_ : Nat) ≤ 603072 ∧ (_ : Nat) ≤ 7194288; omega) (fun r3 H locs hV hS => ?_)
  have hr3 : r3 = nI t.1 := by
    obtain ⟨-, ⟨u9, μ9, hm9, hr9, -⟩, -⟩ := hV.get
    exact hr9.trans hm9.1
  subst hr3
  have hV := hV.mono (PX' := fun w => vOk t.2.2 → xI g t.2.2 x0 w) (PM' := mR t.2.2) (fun _ h => h) (fun u h => by obtain ⟨μ, h1, -, h3⟩ := h; rw [h3]; exact h1.2)
  have hok : vOk t.2.2 := by
    obtain ⟨-, ⟨u9, hm9⟩, -⟩ := hV.get
    exact hm9.1
  have hV := hV.mono (PX' := xI g t.2.2 x0) (PM' := mR t.2.2) (fun _ h => h hok) (fun _ h => h)
  refine lv_iload hx hb dL_law_457 (lh_at hl rfl) ?_
  refine lv_icmp_eq (tgt := 464) hx hb dL_law_459 (by decide) (fun c1 => ?_) (fun c1 => ?_)
  · refine lv_iload hx hb dL_law_464 (lh_at hl rfl) ?_
    refine lv_if_ne (tgt := 481) hx hb dL_law_466 (by decide) (fun c2 => ?_) (fun c2 => ?_)
    · refine lv_goto (tgt := 1440) hx hb dL_law_481 (by decide) ?_
      refine W.widen (k := cells + 2200) (n := slots + 93200) (by omega) (by omega) ?_
      exact kk _ _ _ _ _ hV hS (lh_sub hl _ ⟨rfl, rfl, rfl, rfl, rfl, trivial⟩)
    · have h0 : t.1 = 0 := by
        have h4 := c2
        have h5 := congrArg Int32.toInt h4
        rw [nI_toInt (by omega)] at h5
        have h6 : ((0 : Int32)).toInt = 0 := rfl
        omega
      refine lv_aload_n hx hb dL_law_469 rfl (lh_at hl rfl) ?_
      refine n_const hx hb 0 dL_law_470 (by decide +kernel) ?_
      refine l_lald hF hE hV dL_law_471 ?_
      refine lv_iload hx hb dL_law_472 (lh_at hl rfl) ?_
      refine lv_i2l hx hb dL_law_474 rfl ?_
      refine W.lcmp hx hb dL_law_475 ?_
      rw [hz1 h0, show lg_cmp t.2.1.toInt64 t.2.1.toInt64 = 0 by simp [lg_cmp]]
      refine lv_if_eq (tgt := 481) hx hb dL_law_476 (by decide) (fun c3 => ?_) (fun c3 => ?_)
      · refine lv_goto (tgt := 1440) hx hb dL_law_481 (by decide) ?_
        refine W.widen (k := cells + 2200) (n := slots + 93200) (by omega) (by omega) ?_
        exact kk _ _ _ _ _ hV hS (lh_sub hl _ ⟨rfl, rfl, rfl, rfl, rfl, trivial⟩)
      · exact absurd rfl c3
  · exact absurd rfl c1
set_option maxHeartbeats 2000000 in
theorem law_c5 {p : Program} {l : Launch} {e : Env} {s : State} {m : MethodId} {args : Array Value} {below : List Frame} {meth : Method} {c : Code} {H : Heap} {locs : List Loc} {cells slots : Nat} {Q : State → Prop} {ls : Array Slot} {g : xg} {x0 m0 o bb L i : Nat} {xs : Nat → Int32} {ν : nS} {z : Int64} (hlt : l.stackTraces = false) (hF : xFix p m c cL_law 9 s args RX0) (hE : xE g (x3 s.heap.size) s) (hNc : xNc s) (hX : va_X bb L xs s s.heap) (hbl : bb < s.heap.size) (hL : L ≤ 259) (hi : i + 4 ≤ L) (hc : cells + 2200 ≤ 603072) (hsl : slots + 93200 ≤ 7194288)
    (hV : LV g s.heap.size m0 o (xI g ν x0) (mR ν) z H) (hS : va_S (x3 s.heap.size) s.heap H locs) (hl : lh ls 9 (xl [(0, .ref bb), (1, .ref x0), (2, .ref m0), (3, .ref o), (4, .int (nI i))]))
    (kk : ∀ (ν' : nS) (z' : Int64) (H1 : Heap) (locs1 : List Loc) (ls1 : Array Slot), LV g s.heap.size m0 o (xI g ν' x0) (mR ν') z' H1 → va_S (x3 s.heap.size) s.heap H1 locs1 → lh ls1 9 (xl [(0, .ref bb), (1, .ref x0), (2, .ref m0), (3, .ref o), (4, .int (nI i))]) → W p l e room_1 s m args below meth c H1 locs1 (cells + 2200) (slots + 93200) Q (F0 m 1440 ls1 [])) :
    W p l e room_1 s m args below meth c H locs cells slots Q (F0 m 484 ls []) := by
  obtain ⟨hx, hb, hml, hown, hts⟩ := id hF
  refine lv_aload_n hx hb dL_law_484 rfl (lh_at hl rfl) ?_
  refine lv_aload_n hx hb dL_law_485 rfl (lh_at hl rfl) ?_
  refine lv_iload hx hb dL_law_486 (lh_at hl rfl) ?_
  refine n_const hx hb 1 dL_law_488 (by decide +kernel) ?_
  refine n_iadd hx hb dL_law_489 ?_
  refine l_iald hF hX hbl hS (by omega) hL dL_law_490 ?_
  refine lv_aload_n hx hb dL_law_491 rfl (lh_at hl rfl) ?_
  refine l_x (As := [.ref x0, .int (xs (i + 1)), .ref o]) hF hE hNc hS hV hl (fun B w h hoB => yk_order l hlt g B w ν x0 o z (xs (i + 1)) h hoB) q931 q932 q37 q933 ⟨by decide +kernel, by decide +kernel, by show _ = some 3; decide +kernel⟩ rfl rfl ⟨Nat.le_of_ble_eq_true rfl, Nat.le_of_ble_eq_true rfl⟩ rfl (Nat.le_of_ble_eq_true rfl) dL_law_492 (by show (_ : Nat) ≤ 603072 ∧ (_ : Nat) ≤ 7194288; omega) (fun z1 H locs hz1 hV hS => ?_)
  refine x_istore hx hb dL_law_495 hl (by decide) (fun ls hl => ?_)
  refine lv_aload_n hx hb dL_law_497 rfl (lh_at hl rfl) ?_
  refine lv_aload_n hx hb dL_law_498 rfl (lh_at hl rfl) ?_
  refine lv_iload hx hb dL_law_499 (lh_at hl rfl) ?_
  refine n_const hx hb 1 dL_law_501 (by decide +kernel) ?_
  refine n_iadd hx hb dL_law_502 ?_
  refine l_iald hF hX hbl hS (by omega) hL dL_law_503 ?_
  refine l_m (post := fun _ => mOp (opOrder ν (xs (i + 1)))) (As := [.int (xs (i + 1))]) hF hE hS hV hl (fun A ad μ h => mk_order l g A m0 ad μ ν h (xs (i + 1))) q1431 q1432 q1433 q44 q1434 ⟨rfl, by decide +kernel, by decide +kernel, by show _ = some 1; decide +kernel⟩ rfl rfl ⟨Nat.le_of_ble_eq_true rfl, Nat.le_of_ble_eq_true rfl⟩ rfl (Nat.le_of_ble_eq_true rfl) dL_law_504 (by show (_ : Nat) ≤ 603072 ∧ (_ : Nat) ≤ 7194288; omega) (fun r2 H locs hV hS => ?_)
  generalize ht : (opOrder ν (xs (i + 1))) = t at hV hz1 hl ⊢
  have ht3 : t.1 ≤ 3 := by rw [← ht]; exact opOrder_c ν (xs (i + 1))
  clear ht
  have hr2 : r2 = t.2.1 := by
    obtain ⟨-, ⟨u9, μ9, -, -, hr9, -⟩, -⟩ := hV.get
    exact hr9
  subst hr2
  have hV := hV.mono (PX' := fun w => vOk t.2.2 → xI g t.2.2 x0 w) (PM' := fun u => u.1 0 = nI t.1 ∧ mR t.2.2 u) (fun _ h => h) (fun u h => by obtain ⟨μ, -, h1, -, h3⟩ := h; exact ⟨h1, h3⟩)
  refine x_istore hx hb dL_law_507 hl (by decide) (fun ls hl => ?_)
  refine lv_aload_n hx hb dL_law_509 rfl (lh_at hl rfl) ?_
  refine l_m (post := fun μ r u => r = μ.1 0 ∧ u = μ) (As := []) hF hE hS hV hl (fun A ad μ _ => mk_thrown l g A m0 ad μ) q1381 q1382 q1383 q44 q1384 ⟨rfl, by decide +kernel, by decide +kernel, by show _ = some 0; decide +kernel⟩ rfl rfl ⟨Nat.le_of_ble_eq_true rfl, Nat.le_of_ble_eq_true rfl⟩ rfl (Nat.le_of_ble_eq_true rfl) dL_law_510 (by show (_ : Nat) ≤ 603072 ∧ (_ : Nat) ≤ 7194288; omega) (fun r3 H locs hV hS => ?_)
  have hr3 : r3 = nI t.1 := by
    obtain ⟨-, ⟨u9, μ9, hm9, hr9, -⟩, -⟩ := hV.get
    exact hr9.trans hm9.1
  subst hr3
  have hV := hV.mono (PX' := fun w => vOk t.2.2 → xI g t.2.2 x0 w) (PM' := mR t.2.2) (fun _ h => h) (fun u h => by obtain ⟨μ, h1, -, h3⟩ := h; rw [h3]; exact h1.2)
  have hok : vOk t.2.2 := by
    obtain ⟨-, ⟨u9, hm9⟩, -⟩ := hV.get
    exact hm9.1
  have hV := hV.mono (PX' := xI g t.2.2 x0) (PM' := mR t.2.2) (fun _ h => h hok) (fun _ h => h)
  refine lv_iload hx hb dL_law_513 (lh_at hl rfl) ?_
  refine lv_icmp_eq (tgt := 520) hx hb dL_law_515 (by decide) (fun c1 => ?_) (fun c1 => ?_)
  · refine lv_iload hx hb dL_law_520 (lh_at hl rfl) ?_
    refine lv_if_ne (tgt := 537) hx hb dL_law_522 (by decide) (fun c2 => ?_) (fun c2 => ?_)
    · refine lv_goto (tgt := 1440) hx hb dL_law_537 (by decide) ?_
      refine W.widen (k := cells + 2200) (n := slots + 93200) (by omega) (by omega) ?_
      exact kk _ _ _ _ _ hV hS (lh_sub hl _ ⟨rfl, rfl, rfl, rfl, rfl, trivial⟩)
    · have h0 : t.1 = 0 := by
        have h4 := c2
        have h5 := congrArg Int32.toInt h4
        rw [nI_toInt (by omega)] at h5
        have h6 : ((0 : Int32)).toInt = 0 := rfl
        omega
      refine lv_aload_n hx hb dL_law_525 rfl (lh_at hl rfl) ?_
      refine n_const hx hb 0 dL_law_526 (by decide +kernel) ?_
      refine l_lald hF hE hV dL_law_527 ?_
      refine lv_iload hx hb dL_law_528 (lh_at hl rfl) ?_
      refine lv_i2l hx hb dL_law_530 rfl ?_
      refine W.lcmp hx hb dL_law_531 ?_
      rw [hz1 h0, show lg_cmp t.2.1.toInt64 t.2.1.toInt64 = 0 by simp [lg_cmp]]
      refine lv_if_eq (tgt := 537) hx hb dL_law_532 (by decide) (fun c3 => ?_) (fun c3 => ?_)
      · refine lv_goto (tgt := 1440) hx hb dL_law_537 (by decide) ?_
        refine W.widen (k := cells + 2200) (n := slots + 93200) (by omega) (by omega) ?_
        exact kk _ _ _ _ _ hV hS (lh_sub hl _ ⟨rfl, rfl, rfl, rfl, rfl, trivial⟩)
      · exact absurd rfl c3
  · exact absurd rfl c1
