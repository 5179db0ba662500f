/-! THE LAW: wrappers (1), printed by tools/gen_wrap.py -/
set_option maxRecDepth 100000
theorem xI.obj {g : xg} {ν : nS} {x0 : Nat} {w : xw_W} (h : xI g ν x0 w) : ∃ fs, w 0 = some (x0, .inr (0, fs)) := by
  obtain ⟨-, ad, β, e, -, hX⟩ := h
  exact ⟨_, e ▸ hX.obj⟩
theorem opPut_thr (ν : nS) (p0 p1 p2 : Int32) : (opPut ν p0 p1 p2).1 ≠ 0 → (opPut ν p0 p1 p2).2.2 = ν := by
  unfold opPut
  repeat' split
  all_goals first | exact fun _ => rfl | exact fun h => absurd rfl h
set_option maxHeartbeats 1000000 in
theorem yk_put (l : Launch) (hlt : l.stackTraces = false) (g : xg) (B : Nat → Prop) (w : xw_W) (ν : nS) (x0 o : Nat) (z : Int64) (p0 p1 p2 : Int32) (h : xI g ν x0 w) (hoB : ¬ B o) :
    vx_Met l yX0_put (wsW_ yX0_put cX0_put 6 (some .int) [((0 : Nat), (12 : Nat), (15 : Nat), (13 : Nat)), ((0 : Nat), (12 : Nat), (19 : Nat), (15 : Nat))]) (xrm 9 28 4596) (yPc g (yA B o) [.ref x0, .int p0, .int p1, .int p2, .ref o] (fun H => xw g B w H ∧ yO g o z H)) (yQ g B x0 o (opPut ν p0 p1 p2)) (yX B o) 28 4596 (yA B o) := by
  refine y_startH rfl (Nat.le_of_ble_eq_true rfl) ?_
  intro p e s m below meth c hx hb hr hlk hml hT hown hts hnm hE hNc hM hS ls hl
  have hF : xFix p m c cX0_put 6 s _ RX0 := ⟨hx, hb, hml, hown, hts⟩
  generalize hargs : List.toArray _ = args at hts hF ⊢
  generalize hQ : vx_MQ below _ _ _ s _ _ _ = Q
  obtain ⟨hM, hO⟩ := hM
  have hnB : ∀ q : Nat, s.heap.size ≤ q → B q := fun q hq => (hE.2.1 q hq).elim id (fun e => absurd hO.lt (Nat.not_lt.mpr (e ▸ hq)))
  obtain ⟨fs0, h00⟩ := h.obj
  refine lv_aload hx hb dX0_put_0 (lh_at hl rfl) ?_
  refine n_const hx hb 0 dX0_put_2 (by decide +kernel) ?_
  refine lv_aload_n hx hb dX0_put_3 rfl (lh_at hl rfl) ?_
  refine lv_iload_n hx hb dX0_put_4 rfl (lh_at hl rfl) ?_
  refine lv_iload_n hx hb dX0_put_5 rfl (lh_at hl rfl) ?_
  refine lv_iload_n hx hb dX0_put_6 rfl (lh_at hl rfl) ?_
  refine y_call (y_runVX (As := [.int p0, .int p1, .int p2]) hF hE hS (fun q h => Or.inl h) hnB hM hl (xk_put l hlt g B w ν x0 p0 p1 p2 h) (xw.recv3 hE hM h00 rfl) q288 q289 q290 q38 q291 ⟨rfl, by decide +kernel, by decide +kernel, by show _ = some 3; decide +kernel⟩ rfl rfl ⟨Nat.le_of_ble_eq_true rfl, Nat.le_of_ble_eq_true rfl⟩ rfl (Nat.le_of_ble_eq_true rfl) dX0_put_7 ⟨Nat.le_of_ble_eq_true rfl, Nat.le_of_ble_eq_true rfl⟩) hS (fun q h => Or.inl h) hoB hO (fun E ce q9 H locs hE9 hM hO hS hce hcv hcl => ?_) (fun r u H locs hq hM hO hS => ?_)
  · obtain ⟨j, hj, hj9⟩ := hE9
    have hw : vOk (opPut ν p0 p1 p2).2.2 → xI g (opPut ν p0 p1 p2).2.2 x0 w := fun _ => by rw [opPut_thr ν p0 p1 p2 (by omega)]; exact h
    rcases j with _ | _ | j
    · cases hj9
      refine vx_catch hown [] ⟨0, 12, 15, 13⟩ [⟨0, 12, 19, 15⟩] hT (fun z hz => absurd hz List.not_mem_nil) rfl (by decide) (hts _ q210) (va_Nw.use rfl (hE.2.2.1 _ q301 rfl)) hce hcv hcl ?_
      refine x_astore hx hb dX0_put_15 hl (by decide) (fun ls hl => ?_)
      refine n_const hx hb 1 dX0_put_17 (by decide +kernel) ?_
      exact hQ ▸ vx_ret (x_iret hx hb hr hlk hS (w, z) ⟨by rw [hj], fun h0 => absurd (hj.symm.trans h0) (Nat.succ_ne_zero _), hw⟩ ⟨hM, hO⟩ dX0_put_18)
    · cases hj9
      refine vx_catch hown [⟨0, 12, 15, 13⟩] ⟨0, 12, 19, 15⟩ [] hT (fun z hz => by rw [List.mem_singleton.mp hz]; exact Or.inr ⟨(by decide), eIB, hts _ q210, hNc.2.1⟩) rfl (by decide) (hts _ q287) (va_Nw.use rfl (hE.2.2.1 _ q578 rfl)) hce hcv hcl ?_
      refine x_astore hx hb dX0_put_19 hl (by decide) (fun ls hl => ?_)
      refine n_const hx hb 2 dX0_put_21 (by decide +kernel) ?_
      exact hQ ▸ vx_ret (x_iret hx hb hr hlk hS (w, z) ⟨by rw [hj], fun h0 => absurd (hj.symm.trans h0) (Nat.succ_ne_zero _), hw⟩ ⟨hM, hO⟩ dX0_put_22)
    · simp at hj9
  · refine lv_i2l hx hb dX0_put_10 rfl ?_
    refine y_last hx hb hE hM hS (Or.inr rfl) hoB hO dX0_put_11 (fun H locs hM hO hS => ?_)
    refine lv_goto (tgt := 23) hx hb dX0_put_12 (by decide) ?_
    refine n_const hx hb 0 dX0_put_23 (by decide +kernel) ?_
    exact hQ ▸ vx_ret (x_iret hx hb hr hlk hS (u, r.toInt64) ⟨by rw [hq.1], fun _ => by rw [hq.2.1], hq.2.2⟩ ⟨hM, hO⟩ dX0_put_24)
theorem opLayOut_thr (ν : nS) : (opLayOut ν).1 ≠ 0 → (opLayOut ν).2.2 = ν := by
  unfold opLayOut
  repeat' split
  all_goals first | exact fun _ => rfl | exact fun h => absurd rfl h
set_option maxHeartbeats 1000000 in
theorem yk_layOut (l : Launch) (hlt : l.stackTraces = false) (g : xg) (B : Nat → Prop) (w : xw_W) (ν : nS) (x0 o : Nat) (z : Int64) (h : xI g ν x0 w) (hoB : ¬ B o) :
    vx_Met l yX0_layOut (wsW_ yX0_layOut cX0_layOut 3 (some .int) [((0 : Nat), (8 : Nat), (11 : Nat), (15 : Nat))]) (xrm 9 83 2492) (yPc g (yA B o) [.ref x0, .ref o] (fun H => xw g B w H ∧ yO g o z H)) (yQ g B x0 o (opLayOut ν)) (yX B o) 83 2492 (yA B o) := by
  refine y_startH rfl (Nat.le_of_ble_eq_true rfl) ?_
  intro p e s m below meth c hx hb hr hlk hml hT hown hts hnm hE hNc hM hS ls hl
  have hF : xFix p m c cX0_layOut 3 s _ RX0 := ⟨hx, hb, hml, hown, hts⟩
  generalize hargs : List.toArray _ = args at hts hF ⊢
  generalize hQ : vx_MQ below _ _ _ s _ _ _ = Q
  obtain ⟨hM, hO⟩ := hM
  have hnB : ∀ q : Nat, s.heap.size ≤ q → B q := fun q hq => (hE.2.1 q hq).elim id (fun e => absurd hO.lt (Nat.not_lt.mpr (e ▸ hq)))
  obtain ⟨fs0, h00⟩ := h.obj
  refine lv_aload_n hx hb dX0_layOut_0 rfl (lh_at hl rfl) ?_
  refine n_const hx hb 0 dX0_layOut_1 (by decide +kernel) ?_
  refine lv_aload_n hx hb dX0_layOut_2 rfl (lh_at hl rfl) ?_
  refine y_call (y_runVX (As := []) hF hE hS (fun q h => Or.inl h) hnB hM hl (xk_layOut l hlt g B w ν x0 h) (xw.recv3 hE hM h00 rfl) q594 q595 q596 q38 q597 ⟨rfl, by decide +kernel, by decide +kernel, by show _ = some 0; decide +kernel⟩ rfl rfl ⟨Nat.le_of_ble_eq_true rfl, Nat.le_of_ble_eq_true rfl⟩ rfl (Nat.le_of_ble_eq_true rfl) dX0_layOut_3 ⟨Nat.le_of_ble_eq_true rfl, Nat.le_of_ble_eq_true rfl⟩) hS (fun q h => Or.inl h) hoB hO (fun E ce q9 H locs hE9 hM hO hS hce hcv hcl => ?_) (fun r u H locs hq hM hO hS => ?_)
  · obtain ⟨j, hj, hj9⟩ := hE9
    have hw : vOk (opLayOut ν).2.2 → xI g (opLayOut ν).2.2 x0 w := fun _ => by rw [opLayOut_thr ν (by omega)]; exact h
    rcases j with _ | j
    · cases hj9
      refine vx_catch hown [] ⟨0, 8, 11, 15⟩ [] hT (fun z hz => absurd hz List.not_mem_nil) rfl (by decide) (hts _ q287) (va_Nw.use rfl (hE.2.2.1 _ q578 rfl)) hce hcv hcl ?_
      refine x_astore_n hx hb dX0_layOut_11 rfl hl (by decide) (fun ls hl => ?_)
      refine n_const hx hb 1 dX0_layOut_12 (by decide +kernel) ?_
      exact hQ ▸ vx_ret (x_iret hx hb hr hlk hS (w, z) ⟨by rw [hj], fun h0 => absurd (hj.symm.trans h0) (Nat.succ_ne_zero _), hw⟩ ⟨hM, hO⟩ dX0_layOut_13)
    · simp at hj9
  · refine lv_i2l hx hb dX0_layOut_6 rfl ?_
    refine y_last hx hb hE hM hS (Or.inr rfl) hoB hO dX0_layOut_7 (fun H locs hM hO hS => ?_)
    refine lv_goto (tgt := 14) hx hb dX0_layOut_8 (by decide) ?_
    refine n_const hx hb 0 dX0_layOut_14 (by decide +kernel) ?_
    exact hQ ▸ vx_ret (x_iret hx hb hr hlk hS (u, r.toInt64) ⟨by rw [hq.1], fun _ => by rw [hq.2.1], hq.2.2⟩ ⟨hM, hO⟩ dX0_layOut_15)
theorem opPlaceOf_thr (ν : nS) (p0 : Int32) : (opPlaceOf ν p0).1 ≠ 0 → (opPlaceOf ν p0).2.2 = ν := by
  unfold opPlaceOf
  repeat' split
  all_goals first | exact fun _ => rfl | exact fun h => absurd rfl h
set_option maxHeartbeats 1000000 in
theorem yk_placeOf (l : Launch) (hlt : l.stackTraces = false) (g : xg) (B : Nat → Prop) (w : xw_W) (ν : nS) (x0 o : Nat) (z : Int64) (p0 : Int32) (h : xI g ν x0 w) (hoB : ¬ B o) :
    vx_Met l yX0_placeOf (wsW_ yX0_placeOf cX0_placeOf 4 (some .int) [((0 : Nat), (9 : Nat), (12 : Nat), (13 : Nat))]) (xrm 9 9 1530) (yPc g (yA B o) [.ref x0, .int p0, .ref o] (fun H => xw g B w H ∧ yO g o z H)) (yQ g B x0 o (opPlaceOf ν p0)) (yX B o) 9 1530 (yA B o) := by
  refine y_startH rfl (Nat.le_of_ble_eq_true rfl) ?_
  intro p e s m below meth c hx hb hr hlk hml hT hown hts hnm hE hNc hM hS ls hl
  have hF : xFix p m c cX0_placeOf 4 s _ RX0 := ⟨hx, hb, hml, hown, hts⟩
  generalize hargs : List.toArray _ = args at hts hF ⊢
  generalize hQ : vx_MQ below _ _ _ s _ _ _ = Q
  obtain ⟨hM, hO⟩ := hM
  have hnB : ∀ q : Nat, s.heap.size ≤ q → B q := fun q hq => (hE.2.1 q hq).elim id (fun e => absurd hO.lt (Nat.not_lt.mpr (e ▸ hq)))
  obtain ⟨fs0, h00⟩ := h.obj
  refine lv_aload_n hx hb dX0_placeOf_0 rfl (lh_at hl rfl) ?_
  refine n_const hx hb 0 dX0_placeOf_1 (by decide +kernel) ?_
  refine lv_aload_n hx hb dX0_placeOf_2 rfl (lh_at hl rfl) ?_
  refine lv_iload_n hx hb dX0_placeOf_3 rfl (lh_at hl rfl) ?_
  refine y_call (y_runVX (As := [.int p0]) hF hE hS (fun q h => Or.inl h) hnB hM hl (xk_placeOf l hlt g B w ν x0 p0 h) (xw.recv3 hE hM h00 rfl) q905 q906 q907 q38 q908 ⟨rfl, by decide +kernel, by decide +kernel, by show _ = some 1; decide +kernel⟩ rfl rfl ⟨Nat.le_of_ble_eq_true rfl, Nat.le_of_ble_eq_true rfl⟩ rfl (Nat.le_of_ble_eq_true rfl) dX0_placeOf_4 ⟨Nat.le_of_ble_eq_true rfl, Nat.le_of_ble_eq_true rfl⟩) hS (fun q h => Or.inl h) hoB hO (fun E ce q9 H locs hE9 hM hO hS hce hcv hcl => ?_) (fun r u H locs hq hM hO hS => ?_)
  · obtain ⟨j, hj, hj9⟩ := hE9
    have hw : vOk (opPlaceOf ν p0).2.2 → xI g (opPlaceOf ν p0).2.2 x0 w := fun _ => by rw [opPlaceOf_thr ν p0 (by omega)]; exact h
    rcases j with _ | j
    · cases hj9
      refine vx_catch hown [] ⟨0, 9, 12, 13⟩ [] hT (fun z hz => absurd hz List.not_mem_nil) rfl (by decide) (hts _ q210) (va_Nw.use rfl (hE.2.2.1 _ q301 rfl)) hce hcv hcl ?_
      refine x_astore_n hx hb dX0_placeOf_12 rfl hl (by decide) (fun ls hl => ?_)
      refine n_const hx hb 1 dX0_placeOf_13 (by decide +kernel) ?_
      exact hQ ▸ vx_ret (x_iret hx hb hr hlk hS (w, z) ⟨by rw [hj], fun h0 => absurd (hj.symm.trans h0) (Nat.succ_ne_zero _), hw⟩ ⟨hM, hO⟩ dX0_placeOf_14)
    · simp at hj9
  · refine lv_i2l hx hb dX0_placeOf_7 rfl ?_
    refine y_last hx hb hE hM hS (Or.inr rfl) hoB hO dX0_placeOf_8 (fun H locs hM hO hS => ?_)
    refine lv_goto (tgt := 15) hx hb dX0_placeOf_9 (by decide) ?_
    refine n_const hx hb 0 dX0_placeOf_15 (by decide +kernel) ?_
    exact hQ ▸ vx_ret (x_iret hx hb hr hlk hS (u, r.toInt64) ⟨by rw [hq.1], fun _ => by rw [hq.2.1], hq.2.2⟩ ⟨hM, hO⟩ dX0_placeOf_16)
theorem opTurnover_thr (ν : nS) (p0 : Int32) : (opTurnover ν p0).1 ≠ 0 → (opTurnover ν p0).2.2 = ν := by
  unfold opTurnover
  repeat' split
  all_goals first | exact fun _ => rfl | exact fun h => absurd rfl h
set_option maxHeartbeats 1000000 in
theorem yk_turnover (l : Launch) (hlt : l.stackTraces = false) (g : xg) (B : Nat → Prop) (w : xw_W) (ν : nS) (x0 o : Nat) (z : Int64) (p0 : Int32) (h : xI g ν x0 w) (hoB : ¬ B o) :
    vx_Met l yX0_turnover (wsW_ yX0_turnover cX0_turnover 4 (some .int) [((0 : Nat), (9 : Nat), (12 : Nat), (13 : Nat))]) (xrm 9 9 1530) (yPc g (yA B o) [.ref x0, .int p0, .ref o] (fun H => xw g B w H ∧ yO g o z H)) (yQ g B x0 o (opTurnover ν p0)) (yX B o) 9 1530 (yA B o) := by
  refine y_startH rfl (Nat.le_of_ble_eq_true rfl) ?_
  intro p e s m below meth c hx hb hr hlk hml hT hown hts hnm hE hNc hM hS ls hl
  have hF : xFix p m c cX0_turnover 4 s _ RX0 := ⟨hx, hb, hml, hown, hts⟩
  generalize hargs : List.toArray _ = args at hts hF ⊢
  generalize hQ : vx_MQ below _ _ _ s _ _ _ = Q
  obtain ⟨hM, hO⟩ := hM
  have hnB : ∀ q : Nat, s.heap.size ≤ q → B q := fun q hq => (hE.2.1 q hq).elim id (fun e => absurd hO.lt (Nat.not_lt.mpr (e ▸ hq)))
  obtain ⟨fs0, h00⟩ := h.obj
  refine lv_aload_n hx hb dX0_turnover_0 rfl (lh_at hl rfl) ?_
  refine n_const hx hb 0 dX0_turnover_1 (by decide +kernel) ?_
  refine lv_aload_n hx hb dX0_turnover_2 rfl (lh_at hl rfl) ?_
  refine lv_iload_n hx hb dX0_turnover_3 rfl (lh_at hl rfl) ?_
  refine y_call (y_runVX (As := [.int p0]) hF hE hS (fun q h => Or.inl h) hnB hM hl (xk_turnover l hlt g B w ν x0 p0 h) (xw.recv3 hE hM h00 rfl) q912 q913 q914 q38 q915 ⟨rfl, by decide +kernel, by decide +kernel, by show _ = some 1; decide +kernel⟩ rfl rfl ⟨Nat.le_of_ble_eq_true rfl, Nat.le_of_ble_eq_true rfl⟩ rfl (Nat.le_of_ble_eq_true rfl) dX0_turnover_4 ⟨Nat.le_of_ble_eq_true rfl, Nat.le_of_ble_eq_true rfl⟩) hS (fun q h => Or.inl h) hoB hO (fun E ce q9 H locs hE9 hM hO hS hce hcv hcl => ?_) (fun r u H locs hq hM hO hS => ?_)
  · obtain ⟨j, hj, hj9⟩ := hE9
    have hw : vOk (opTurnover ν p0).2.2 → xI g (opTurnover ν p0).2.2 x0 w := fun _ => by rw [opTurnover_thr ν p0 (by omega)]; exact h
    rcases j with _ | j
    · cases hj9
      refine vx_catch hown [] ⟨0, 9, 12, 13⟩ [] hT (fun z hz => absurd hz List.not_mem_nil) rfl (by decide) (hts _ q210) (va_Nw.use rfl (hE.2.2.1 _ q301 rfl)) hce hcv hcl ?_
      refine x_astore_n hx hb dX0_turnover_12 rfl hl (by decide) (fun ls hl => ?_)
      refine n_const hx hb 1 dX0_turnover_13 (by decide +kernel) ?_
      exact hQ ▸ vx_ret (x_iret hx hb hr hlk hS (w, z) ⟨by rw [hj], fun h0 => absurd (hj.symm.trans h0) (Nat.succ_ne_zero _), hw⟩ ⟨hM, hO⟩ dX0_turnover_14)
    · simp at hj9
  · refine lv_i2l hx hb dX0_turnover_7 rfl ?_
    refine y_last hx hb hE hM hS (Or.inr rfl) hoB hO dX0_turnover_8 (fun H locs hM hO hS => ?_)
    refine lv_goto (tgt := 15) hx hb dX0_turnover_9 (by decide) ?_
    refine n_const hx hb 0 dX0_turnover_15 (by decide +kernel) ?_
    exact hQ ▸ vx_ret (x_iret hx hb hr hlk hS (u, r.toInt64) ⟨by rw [hq.1], fun _ => by rw [hq.2.1], hq.2.2⟩ ⟨hM, hO⟩ dX0_turnover_16)
theorem opDistance_thr (ν : nS) (p0 p1 : Int32) : (opDistance ν p0 p1).1 ≠ 0 → (opDistance ν p0 p1).2.2 = ν := by
  unfold opDistance
  repeat' split
  all_goals first | exact fun _ => rfl | exact fun h => absurd rfl h
set_option maxHeartbeats 1000000 in
theorem yk_distance (l : Launch) (hlt : l.stackTraces = false) (g : xg) (B : Nat → Prop) (w : xw_W) (ν : nS) (x0 o : Nat) (z : Int64) (p0 p1 : Int32) (h : xI g ν x0 w) (hoB : ¬ B o) :
    vx_Met l yX0_distance (wsW_ yX0_distance cX0_distance 5 (some .int) [((0 : Nat), (10 : Nat), (13 : Nat), (13 : Nat)), ((0 : Nat), (10 : Nat), (17 : Nat), (15 : Nat))]) (xrm 9 19 3066) (yPc g (yA B o) [.ref x0, .int p0, .int p1, .ref o] (fun H => xw g B w H ∧ yO g o z H)) (yQ g B x0 o (opDistance ν p0 p1)) (yX B o) 19 3066 (yA B o) := by
  refine y_startH rfl (Nat.le_of_ble_eq_true rfl) ?_
  intro p e s m below meth c hx hb hr hlk hml hT hown hts hnm hE hNc hM hS ls hl
  have hF : xFix p m c cX0_distance 5 s _ RX0 := ⟨hx, hb, hml, hown, hts⟩
  generalize hargs : List.toArray _ = args at hts hF ⊢
  generalize hQ : vx_MQ below _ _ _ s _ _ _ = Q
  obtain ⟨hM, hO⟩ := hM
  have hnB : ∀ q : Nat, s.heap.size ≤ q → B q := fun q hq => (hE.2.1 q hq).elim id (fun e => absurd hO.lt (Nat.not_lt.mpr (e ▸ hq)))
  obtain ⟨fs0, h00⟩ := h.obj
  refine lv_aload_n hx hb dX0_distance_0 rfl (lh_at hl rfl) ?_
  refine n_const hx hb 0 dX0_distance_1 (by decide +kernel) ?_
  refine lv_aload_n hx hb dX0_distance_2 rfl (lh_at hl rfl) ?_
  refine lv_iload_n hx hb dX0_distance_3 rfl (lh_at hl rfl) ?_
  refine lv_iload_n hx hb dX0_distance_4 rfl (lh_at hl rfl) ?_
  refine y_call (y_runVX (As := [.int p0, .int p1]) hF hE hS (fun q h => Or.inl h) hnB hM hl (xk_distance l hlt g B w ν x0 p0 p1 h) (xw.recv3 hE hM h00 rfl) q919 q920 q921 q38 q922 ⟨rfl, by decide +kernel, by decide +kernel, by show _ = some 2; decide +kernel⟩ rfl rfl ⟨Nat.le_of_ble_eq_true rfl, Nat.le_of_ble_eq_true rfl⟩ rfl (Nat.le_of_ble_eq_true rfl) dX0_distance_5 ⟨Nat.le_of_ble_eq_true rfl, Nat.le_of_ble_eq_true rfl⟩) hS (fun q h => Or.inl h) hoB hO (fun E ce q9 H locs hE9 hM hO hS hce hcv hcl => ?_) (fun r u H locs hq hM hO hS => ?_)
  · obtain ⟨j, hj, hj9⟩ := hE9
    have hw : vOk (opDistance ν p0 p1).2.2 → xI g (opDistance ν p0 p1).2.2 x0 w := fun _ => by rw [opDistance_thr ν p0 p1 (by omega)]; exact h
    rcases j with _ | _ | j
    · cases hj9
      refine vx_catch hown [] ⟨0, 10, 13, 13⟩ [⟨0, 10, 17, 15⟩] hT (fun z hz => absurd hz List.not_mem_nil) rfl (by decide) (hts _ q210) (va_Nw.use rfl (hE.2.2.1 _ q301 rfl)) hce hcv hcl ?_
      refine x_astore hx hb dX0_distance_13 hl (by decide) (fun ls hl => ?_)
      refine n_const hx hb 1 dX0_distance_15 (by decide +kernel) ?_
      exact hQ ▸ vx_ret (x_iret hx hb hr hlk hS (w, z) ⟨by rw [hj], fun h0 => absurd (hj.symm.trans h0) (Nat.succ_ne_zero _), hw⟩ ⟨hM, hO⟩ dX0_distance_16)
    · cases hj9
      refine vx_catch hown [⟨0, 10, 13, 13⟩] ⟨0, 10, 17, 15⟩ [] hT (fun z hz => by rw [List.mem_singleton.mp hz]; exact Or.inr ⟨(by decide), eIB, hts _ q210, hNc.2.1⟩) rfl (by decide) (hts _ q287) (va_Nw.use rfl (hE.2.2.1 _ q578 rfl)) hce hcv hcl ?_
      refine x_astore hx hb dX0_distance_17 hl (by decide) (fun ls hl => ?_)
      refine n_const hx hb 2 dX0_distance_19 (by decide +kernel) ?_
      exact hQ ▸ vx_ret (x_iret hx hb hr hlk hS (w, z) ⟨by rw [hj], fun h0 => absurd (hj.symm.trans h0) (Nat.succ_ne_zero _), hw⟩ ⟨hM, hO⟩ dX0_distance_20)
    · simp at hj9
  · refine lv_i2l hx hb dX0_distance_8 rfl ?_
    refine y_last hx hb hE hM hS (Or.inr rfl) hoB hO dX0_distance_9 (fun H locs hM hO hS => ?_)
    refine lv_goto (tgt := 21) hx hb dX0_distance_10 (by decide) ?_
    refine n_const hx hb 0 dX0_distance_21 (by decide +kernel) ?_
    exact hQ ▸ vx_ret (x_iret hx hb hr hlk hS (u, r.toInt64) ⟨by rw [hq.1], fun _ => by rw [hq.2.1], hq.2.2⟩ ⟨hM, hO⟩ dX0_distance_22)
theorem opOrder_thr (ν : nS) (p0 : Int32) : (opOrder ν p0).1 ≠ 0 → (opOrder ν p0).2.2 = ν := by
  unfold opOrder
  repeat' split
  all_goals first | exact fun _ => rfl | exact fun h => absurd rfl h
set_option maxHeartbeats 1000000 in
theorem yk_order (l : Launch) (hlt : l.stackTraces = false) (g : xg) (B : Nat → Prop) (w : xw_W) (ν : nS) (x0 o : Nat) (z : Int64) (p0 : Int32) (h : xI g ν x0 w) (hoB : ¬ B o) :
    vx_Met l yX0_order (wsW_ yX0_order cX0_order 4 (some .int) [((0 : Nat), (9 : Nat), (12 : Nat), (35 : Nat)), ((0 : Nat), (9 : Nat), (15 : Nat), (15 : Nat))]) (xrm 9 14 1920) (yPc g (yA B o) [.ref x0, .int p0, .ref o] (fun H => xw g B w H ∧ yO g o z H)) (yQ g B x0 o (opOrder ν p0)) (yX B o) 14 1920 (yA B o) := by
  refine y_startH rfl (Nat.le_of_ble_eq_true rfl) ?_
  intro p e s m below meth c hx hb hr hlk hml hT hown hts hnm hE hNc hM hS ls hl
  have hF : xFix p m c cX0_order 4 s _ RX0 := ⟨hx, hb, hml, hown, hts⟩
  generalize hargs : List.toArray _ = args at hts hF ⊢
  generalize hQ : vx_MQ below _ _ _ s _ _ _ = Q
  obtain ⟨hM, hO⟩ := hM
  have hnB : ∀ q : Nat, s.heap.size ≤ q → B q := fun q hq => (hE.2.1 q hq).elim id (fun e => absurd hO.lt (Nat.not_lt.mpr (e ▸ hq)))
  obtain ⟨fs0, h00⟩ := h.obj
  refine lv_aload_n hx hb dX0_order_0 rfl (lh_at hl rfl) ?_
  refine n_const hx hb 0 dX0_order_1 (by decide +kernel) ?_
  refine lv_aload_n hx hb dX0_order_2 rfl (lh_at hl rfl) ?_
  refine lv_iload_n hx hb dX0_order_3 rfl (lh_at hl rfl) ?_
  refine y_call (y_runVX (As := [.int p0]) hF hE hS (fun q h => Or.inl h) hnB hM hl (xk_order l hlt g B w ν x0 p0 h) (xw.recv3 hE hM h00 rfl) q935 q936 q937 q38 q938 ⟨rfl, by decide +kernel, by decide +kernel, by show _ = some 1; decide +kernel⟩ rfl rfl ⟨Nat.le_of_ble_eq_true rfl, Nat.le_of_ble_eq_true rfl⟩ rfl (Nat.le_of_ble_eq_true rfl) dX0_order_4 ⟨Nat.le_of_ble_eq_true rfl, Nat.le_of_ble_eq_true rfl⟩) hS (fun q h => Or.inl h) hoB hO (fun E ce q9 H locs hE9 hM hO hS hce hcv hcl => ?_) (fun r u H locs hq hM hO hS => ?_)
  · obtain ⟨j, hj, hj9⟩ := hE9
    have hw : vOk (opOrder ν p0).2.2 → xI g (opOrder ν p0).2.2 x0 w := fun _ => by rw [opOrder_thr ν p0 (by omega)]; exact h
    rcases j with _ | _ | j
    · cases hj9
      refine vx_catch hown [] ⟨0, 9, 12, 35⟩ [⟨0, 9, 15, 15⟩] hT (fun z hz => absurd hz List.not_mem_nil) rfl (by decide) (hts _ q934) (va_Nw.use rfl (hE.2.2.1 _ q519 rfl)) hce hcv hcl ?_
      refine x_astore_n hx hb dX0_order_12 rfl hl (by decide) (fun ls hl => ?_)
      refine n_const hx hb 1 dX0_order_13 (by decide +kernel) ?_
      exact hQ ▸ vx_ret (x_iret hx hb hr hlk hS (w, z) ⟨by rw [hj], fun h0 => absurd (hj.symm.trans h0) (Nat.succ_ne_zero _), hw⟩ ⟨hM, hO⟩ dX0_order_14)
    · cases hj9
      refine vx_catch hown [⟨0, 9, 12, 35⟩] ⟨0, 9, 15, 15⟩ [] hT (fun z hz => by rw [List.mem_singleton.mp hz]; exact Or.inr ⟨(by decide), eIA, hts _ q934, hNc.2.2⟩) rfl (by decide) (hts _ q287) (va_Nw.use rfl (hE.2.2.1 _ q578 rfl)) hce hcv hcl ?_
      refine x_astore_n hx hb dX0_order_15 rfl hl (by decide) (fun ls hl => ?_)
      refine n_const hx hb 2 dX0_order_16 (by decide +kernel) ?_
      exact hQ ▸ vx_ret (x_iret hx hb hr hlk hS (w, z) ⟨by rw [hj], fun h0 => absurd (hj.symm.trans h0) (Nat.succ_ne_zero _), hw⟩ ⟨hM, hO⟩ dX0_order_17)
    · simp at hj9
  · refine lv_i2l hx hb dX0_order_7 rfl ?_
    refine y_last hx hb hE hM hS (Or.inr rfl) hoB hO dX0_order_8 (fun H locs hM hO hS => ?_)
    refine lv_goto (tgt := 18) hx hb dX0_order_9 (by decide) ?_
    refine n_const hx hb 0 dX0_order_18 (by decide +kernel) ?_
    exact hQ ▸ vx_ret (x_iret hx hb hr hlk hS (u, r.toInt64) ⟨by rw [hq.1], fun _ => by rw [hq.2.1], hq.2.2⟩ ⟨hM, hO⟩ dX0_order_19)
theorem opLine_thr (ν : nS) (p0 p1 p2 : Int32) : (opLine ν p0 p1 p2).1 ≠ 0 → (opLine ν p0 p1 p2).2.2 = ν := by
  unfold opLine
  repeat' split
  all_goals first | exact fun _ => rfl | exact fun h => absurd rfl h
set_option maxHeartbeats 1000000 in
theorem yk_line (l : Launch) (hlt : l.stackTraces = false) (g : xg) (B : Nat → Prop) (w : xw_W) (ν : nS) (x0 o : Nat) (z : Int64) (p0 p1 p2 : Int32) (h : xI g ν x0 w) (hoB : ¬ B o) :
    vx_Met l yX0_line (wsW_ yX0_line cX0_line 6 (some .int) [((0 : Nat), (12 : Nat), (15 : Nat), (13 : Nat)), ((0 : Nat), (12 : Nat), (19 : Nat), (35 : Nat)), ((0 : Nat), (12 : Nat), (23 : Nat), (15 : Nat))]) (xrm 9 29 4896) (yPc g (yA B o) [.ref x0, .int p0, .int p1, .int p2, .ref o] (fun H => xw g B w H ∧ yO g o z H)) (yQ g B x0 o (opLine ν p0 p1 p2)) (yX B o) 29 4896 (yA B o) := by
  refine y_startH rfl (Nat.le_of_ble_eq_true rfl) ?_
  intro p e s m below meth c hx hb hr hlk hml hT hown hts hnm hE hNc hM hS ls hl
  have hF : xFix p m c cX0_line 6 s _ RX0 := ⟨hx, hb, hml, hown, hts⟩
  generalize hargs : List.toArray _ = args at hts hF ⊢
  generalize hQ : vx_MQ below _ _ _ s _ _ _ = Q
  obtain ⟨hM, hO⟩ := hM
  have hnB : ∀ q : Nat, s.heap.size ≤ q → B q := fun q hq => (hE.2.1 q hq).elim id (fun e => absurd hO.lt (Nat.not_lt.mpr (e ▸ hq)))
  obtain ⟨fs0, h00⟩ := h.obj
  refine lv_aload hx hb dX0_line_0 (lh_at hl rfl) ?_
  refine n_const hx hb 0 dX0_line_2 (by decide +kernel) ?_
  refine lv_aload_n hx hb dX0_line_3 rfl (lh_at hl rfl) ?_
  refine lv_iload_n hx hb dX0_line_4 rfl (lh_at hl rfl) ?_
  refine lv_iload_n hx hb dX0_line_5 rfl (lh_at hl rfl) ?_
  refine lv_iload_n hx hb dX0_line_6 rfl (lh_at hl rfl) ?_
  refine y_call (y_runVX (As := [.int p0, .int p1, .int p2]) hF hE hS (fun q h => Or.inl h) hnB hM hl (xk_line l hlt g B w ν x0 p0 p1 p2 h) (xw.recv3 hE hM h00 rfl) q987 q988 q989 q38 q990 ⟨rfl, by decide +kernel, by decide +kernel, by show _ = some 3; decide +kernel⟩ rfl rfl ⟨Nat.le_of_ble_eq_true rfl, Nat.le_of_ble_eq_true rfl⟩ rfl (Nat.le_of_ble_eq_true rfl) dX0_line_7 ⟨Nat.le_of_ble_eq_true rfl, Nat.le_of_ble_eq_true rfl⟩) hS (fun q h => Or.inl h) hoB hO (fun E ce q9 H locs hE9 hM hO hS hce hcv hcl => ?_) (fun r u H locs hq hM hO hS => ?_)
  · obtain ⟨j, hj, hj9⟩ := hE9
    have hw : vOk (opLine ν p0 p1 p2).2.2 → xI g (opLine ν p0 p1 p2).2.2 x0 w := fun _ => by rw [opLine_thr ν p0 p1 p2 (by omega)]; exact h
    rcases j with _ | _ | _ | j
    · cases hj9
      refine vx_catch hown [] ⟨0, 12, 15, 13⟩ [⟨0, 12, 19, 35⟩, ⟨0, 12, 23, 15⟩] hT (fun z hz => absurd hz List.not_mem_nil) rfl (by decide) (hts _ q210) (va_Nw.use rfl (hE.2.2.1 _ q301 rfl)) hce hcv hcl ?_
      refine x_astore hx hb dX0_line_15 hl (by decide) (fun ls hl => ?_)
      refine n_const hx hb 1 dX0_line_17 (by decide +kernel) ?_
      exact hQ ▸ vx_ret (x_iret hx hb hr hlk hS (w, z) ⟨by rw [hj], fun h0 => absurd (hj.symm.trans h0) (Nat.succ_ne_zero _), hw⟩ ⟨hM, hO⟩ dX0_line_18)
    · cases hj9
      refine vx_catch hown [⟨0, 12, 15, 13⟩] ⟨0, 12, 19, 35⟩ [⟨0, 12, 23, 15⟩] hT (fun z hz => by rw [List.mem_singleton.mp hz]; exact Or.inr ⟨(by decide), eIB, hts _ q210, hNc.1⟩) rfl (by decide) (hts _ q934) (va_Nw.use rfl (hE.2.2.1 _ q519 rfl)) hce hcv hcl ?_
      refine x_astore hx hb dX0_line_19 hl (by decide) (fun ls hl => ?_)
      refine n_const hx hb 2 dX0_line_21 (by decide +kernel) ?_
      exact hQ ▸ vx_ret (x_iret hx hb hr hlk hS (w, z) ⟨by rw [hj], fun h0 => absurd (hj.symm.trans h0) (Nat.succ_ne_zero _), hw⟩ ⟨hM, hO⟩ dX0_line_22)
    · cases hj9
      refine vx_catch hown [⟨0, 12, 15, 13⟩, ⟨0, 12, 19, 35⟩] ⟨0, 12, 23, 15⟩ [] hT (fun z hz => (List.mem_cons.mp hz).elim (fun e9 => by rw [e9]; exact Or.inr ⟨(by decide), eIB, hts _ q210, hNc.2.1⟩) (fun hz => by rw [List.mem_singleton.mp hz]; exact Or.inr ⟨(by decide), eIA, hts _ q934, hNc.2.2⟩)) rfl (by decide) (hts _ q287) (va_Nw.use rfl (hE.2.2.1 _ q578 rfl)) hce hcv hcl ?_
      refine x_astore hx hb dX0_line_23 hl (by decide) (fun ls hl => ?_)
      refine n_const hx hb 3 dX0_line_25 (by decide +kernel) ?_
      exact hQ ▸ vx_ret (x_iret hx hb hr hlk hS (w, z) ⟨by rw [hj], fun h0 => absurd (hj.symm.trans h0) (Nat.succ_ne_zero _), hw⟩ ⟨hM, hO⟩ dX0_line_26)
    · simp at hj9
  · refine lv_i2l hx hb dX0_line_10 rfl ?_
    refine y_last hx hb hE hM hS (Or.inr rfl) hoB hO dX0_line_11 (fun H locs hM hO hS => ?_)
    refine lv_goto (tgt := 27) hx hb dX0_line_12 (by decide) ?_
    refine n_const hx hb 0 dX0_line_27 (by decide +kernel) ?_
    exact hQ ▸ vx_ret (x_iret hx hb hr hlk hS (u, r.toInt64) ⟨by rw [hq.1], fun _ => by rw [hq.2.1], hq.2.2⟩ ⟨hM, hO⟩ dX0_line_28)
