/-! THE LAW: wrappers (3), printed by tools/gen_wrap.py -/
set_option maxRecDepth 100000
theorem opLengthOf_thr (ν : nS) (p0 : Int32) : (opLengthOf ν p0).1 ≠ 0 → (opLengthOf ν p0).2.2 = ν := by
  unfold opLengthOf
  repeat' split
  all_goals first | exact fun _ => rfl | exact fun h => absurd rfl h
set_option maxHeartbeats 1000000 in
theorem yk_lengthOf (l : Launch) (hlt : l.stackTraces = false) (g : xg) (B : Nat → Prop) (w : xw_W) (ν : nS) (x0 o : Nat) (z : Int64) (p0 : Int32) (h : xI g ν x0 w) (hoB : ¬ B o) :
    vx_Met l yX0_lengthOf (wsW_ yX0_lengthOf cX0_lengthOf 4 (some .int) [((0 : Nat), (9 : Nat), (12 : Nat), (13 : Nat))]) (xrm 9 9 1530) (yPc g (yA B o) [.ref x0, .int p0, .ref o] (fun H => xw g B w H ∧ yO g o z H)) (yQ g B x0 o (opLengthOf ν p0)) (yX B o) 9 1530 (yA B o) := by
  refine y_startH rfl (Nat.le_of_ble_eq_true rfl) ?_
  intro p e s m below meth c hx hb hr hlk hml hT hown hts hnm hE hNc hM hS ls hl
  have hF : xFix p m c cX0_lengthOf 4 s _ RX0 := ⟨hx, hb, hml, hown, hts⟩
  generalize hargs : List.toArray _ = args at hts hF ⊢
  generalize hQ : vx_MQ below _ _ _ s _ _ _ = Q
  obtain ⟨hM, hO⟩ := hM
  have hnB : ∀ q : Nat, s.heap.size ≤ q → B q := fun q hq => (hE.2.1 q hq).elim id (fun e => absurd hO.lt (Nat.not_lt.mpr (e ▸ hq)))
  obtain ⟨fs0, h00⟩ := h.obj
  refine lv_aload_n hx hb dX0_lengthOf_0 rfl (lh_at hl rfl) ?_
  refine n_const hx hb 0 dX0_lengthOf_1 (by decide +kernel) ?_
  refine lv_aload_n hx hb dX0_lengthOf_2 rfl (lh_at hl rfl) ?_
  refine lv_iload_n hx hb dX0_lengthOf_3 rfl (lh_at hl rfl) ?_
  refine y_call (y_runVX (As := [.int p0]) hF hE hS (fun q h => Or.inl h) hnB hM hl (xk_lengthOf l hlt g B w ν x0 p0 h) (xw.recv3 hE hM h00 rfl) q1247 q1248 q1249 q38 q1250 ⟨rfl, by decide +kernel, by decide +kernel, by show _ = some 1; decide +kernel⟩ rfl rfl ⟨Nat.le_of_ble_eq_true rfl, Nat.le_of_ble_eq_true rfl⟩ rfl (Nat.le_of_ble_eq_true rfl) dX0_lengthOf_4 ⟨Nat.le_of_ble_eq_true rfl, Nat.le_of_ble_eq_true rfl⟩) hS (fun q h => Or.inl h) hoB hO (fun E ce q9 H locs hE9 hM hO hS hce hcv hcl => ?_) (fun r u H locs hq hM hO hS => ?_)
  · obtain ⟨j, hj, hj9⟩ := hE9
    have hw : vOk (opLengthOf ν p0).2.2 → xI g (opLengthOf ν p0).2.2 x0 w := fun _ => by rw [opLengthOf_thr ν p0 (by omega)]; exact h
    rcases j with _ | j
    · cases hj9
      refine vx_catch hown [] ⟨0, 9, 12, 13⟩ [] hT (fun z hz => absurd hz List.not_mem_nil) rfl (by decide) (hts _ q210) (va_Nw.use rfl (hE.2.2.1 _ q301 rfl)) hce hcv hcl ?_
      refine x_astore_n hx hb dX0_lengthOf_12 rfl hl (by decide) (fun ls hl => ?_)
      refine n_const hx hb 1 dX0_lengthOf_13 (by decide +kernel) ?_
      exact hQ ▸ vx_ret (x_iret hx hb hr hlk hS (w, z) ⟨by rw [hj], fun h0 => absurd (hj.symm.trans h0) (Nat.succ_ne_zero _), hw⟩ ⟨hM, hO⟩ dX0_lengthOf_14)
    · simp at hj9
  · refine lv_i2l hx hb dX0_lengthOf_7 rfl ?_
    refine y_last hx hb hE hM hS (Or.inr rfl) hoB hO dX0_lengthOf_8 (fun H locs hM hO hS => ?_)
    refine lv_goto (tgt := 15) hx hb dX0_lengthOf_9 (by decide) ?_
    refine n_const hx hb 0 dX0_lengthOf_15 (by decide +kernel) ?_
    exact hQ ▸ vx_ret (x_iret hx hb hr hlk hS (u, r.toInt64) ⟨by rw [hq.1], fun _ => by rw [hq.2.1], hq.2.2⟩ ⟨hM, hO⟩ dX0_lengthOf_16)
theorem opByTrying_thr (ν : nS) (p0 : Int32) : (opByTrying ν p0).1 ≠ 0 → (opByTrying ν p0).2.2 = ν := by
  unfold opByTrying
  repeat' split
  all_goals first | exact fun _ => rfl | exact fun h => absurd rfl h
set_option maxHeartbeats 1000000 in
theorem yk_lengthByTrying (l : Launch) (hlt : l.stackTraces = false) (g : xg) (B : Nat → Prop) (w : xw_W) (ν : nS) (x0 o : Nat) (z : Int64) (p0 : Int32) (h : xI g ν x0 w) (hoB : ¬ B o) :
    vx_Met l yX0_lengthByTrying (wsW_ yX0_lengthByTrying cX0_lengthByTrying 4 (some .int) [((0 : Nat), (9 : Nat), (12 : Nat), (13 : Nat)), ((0 : Nat), (9 : Nat), (15 : Nat), (15 : Nat))]) (xrm 12 10 1536) (yPc g (yA B o) [.ref x0, .int p0, .ref o] (fun H => xw g B w H ∧ yO g o z H)) (yQ g B x0 o (opByTrying ν p0)) (yX B o) 10 1536 (yA B o) := by
  refine y_startH rfl (Nat.le_of_ble_eq_true rfl) ?_
  intro p e s m below meth c hx hb hr hlk hml hT hown hts hnm hE hNc hM hS ls hl
  have hF : xFix p m c cX0_lengthByTrying 4 s _ RX0 := ⟨hx, hb, hml, hown, hts⟩
  generalize hargs : List.toArray _ = args at hts hF ⊢
  generalize hQ : vx_MQ below _ _ _ s _ _ _ = Q
  obtain ⟨hM, hO⟩ := hM
  have hnB : ∀ q : Nat, s.heap.size ≤ q → B q := fun q hq => (hE.2.1 q hq).elim id (fun e => absurd hO.lt (Nat.not_lt.mpr (e ▸ hq)))
  obtain ⟨fs0, h00⟩ := h.obj
  refine lv_aload_n hx hb dX0_lengthByTrying_0 rfl (lh_at hl rfl) ?_
  refine n_const hx hb 0 dX0_lengthByTrying_1 (by decide +kernel) ?_
  refine lv_aload_n hx hb dX0_lengthByTrying_2 rfl (lh_at hl rfl) ?_
  refine lv_iload_n hx hb dX0_lengthByTrying_3 rfl (lh_at hl rfl) ?_
  refine y_call (y_runVX (As := [.int p0]) hF hE hS (fun q h => Or.inl h) hnB hM hl (xk_lengthByTrying l hlt g B w ν x0 p0 h) (xw.recv3 hE hM h00 rfl) q1254 q1255 q1256 q38 q1257 ⟨rfl, by decide +kernel, by decide +kernel, by show _ = some 1; decide +kernel⟩ rfl rfl ⟨Nat.le_of_ble_eq_true rfl, Nat.le_of_ble_eq_true rfl⟩ rfl (Nat.le_of_ble_eq_true rfl) dX0_lengthByTrying_4 ⟨Nat.le_of_ble_eq_true rfl, Nat.le_of_ble_eq_true rfl⟩) hS (fun q h => Or.inl h) hoB hO (fun E ce q9 H locs hE9 hM hO hS hce hcv hcl => ?_) (fun r u H locs hq hM hO hS => ?_)
  · obtain ⟨j, hj, hj9⟩ := hE9
    have hw : vOk (opByTrying ν p0).2.2 → xI g (opByTrying ν p0).2.2 x0 w := fun _ => by rw [opByTrying_thr ν p0 (by omega)]; exact h
    rcases j with _ | _ | j
    · cases hj9
      refine vx_catch hown [] ⟨0, 9, 12, 13⟩ [⟨0, 9, 15, 15⟩] hT (fun z hz => absurd hz List.not_mem_nil) rfl (by decide) (hts _ q210) (va_Nw.use rfl (hE.2.2.1 _ q301 rfl)) hce hcv hcl ?_
      refine x_astore_n hx hb dX0_lengthByTrying_12 rfl hl (by decide) (fun ls hl => ?_)
      refine n_const hx hb 1 dX0_lengthByTrying_13 (by decide +kernel) ?_
      exact hQ ▸ vx_ret (x_iret hx hb hr hlk hS (w, z) ⟨by rw [hj], fun h0 => absurd (hj.symm.trans h0) (Nat.succ_ne_zero _), hw⟩ ⟨hM, hO⟩ dX0_lengthByTrying_14)
    · cases hj9
      refine vx_catch hown [⟨0, 9, 12, 13⟩] ⟨0, 9, 15, 15⟩ [] hT (fun z hz => by rw [List.mem_singleton.mp hz]; exact Or.inr ⟨(by decide), eIB, hts _ q210, hNc.2.1⟩) rfl (by decide) (hts _ q287) (va_Nw.use rfl (hE.2.2.1 _ q578 rfl)) hce hcv hcl ?_
      refine x_astore_n hx hb dX0_lengthByTrying_15 rfl hl (by decide) (fun ls hl => ?_)
      refine n_const hx hb 2 dX0_lengthByTrying_16 (by decide +kernel) ?_
      exact hQ ▸ vx_ret (x_iret hx hb hr hlk hS (w, z) ⟨by rw [hj], fun h0 => absurd (hj.symm.trans h0) (Nat.succ_ne_zero _), hw⟩ ⟨hM, hO⟩ dX0_lengthByTrying_17)
    · simp at hj9
  · refine lv_i2l hx hb dX0_lengthByTrying_7 rfl ?_
    refine y_last hx hb hE hM hS (Or.inr rfl) hoB hO dX0_lengthByTrying_8 (fun H locs hM hO hS => ?_)
    refine lv_goto (tgt := 18) hx hb dX0_lengthByTrying_9 (by decide) ?_
    refine n_const hx hb 0 dX0_lengthByTrying_18 (by decide +kernel) ?_
    exact hQ ▸ vx_ret (x_iret hx hb hr hlk hS (u, r.toInt64) ⟨by rw [hq.1], fun _ => by rw [hq.2.1], hq.2.2⟩ ⟨hM, hO⟩ dX0_lengthByTrying_19)
theorem opThrough_thr (ν : nS) (p0 : Int32) : (opThrough ν p0).1 ≠ 0 → (opThrough ν p0).2.2 = ν := by
  unfold opThrough
  repeat' split
  all_goals first | exact fun _ => rfl | exact fun h => absurd rfl h
set_option maxHeartbeats 1000000 in
theorem yk_lengthThrough (l : Launch) (hlt : l.stackTraces = false) (g : xg) (B : Nat → Prop) (w : xw_W) (ν : nS) (x0 o : Nat) (z : Int64) (p0 : Int32) (h : xI g ν x0 w) (hoB : ¬ B o) :
    vx_Met l yX0_lengthThrough (wsW_ yX0_lengthThrough cX0_lengthThrough 4 (some .int) [((0 : Nat), (9 : Nat), (12 : Nat), (13 : Nat))]) (xrm 9 9 1530) (yPc g (yA B o) [.ref x0, .int p0, .ref o] (fun H => xw g B w H ∧ yO g o z H)) (yQ g B x0 o (opThrough ν p0)) (yX B o) 9 1530 (yA B o) := by
  refine y_startH rfl (Nat.le_of_ble_eq_true rfl) ?_
  intro p e s m below meth c hx hb hr hlk hml hT hown hts hnm hE hNc hM hS ls hl
  have hF : xFix p m c cX0_lengthThrough 4 s _ RX0 := ⟨hx, hb, hml, hown, hts⟩
  generalize hargs : List.toArray _ = args at hts hF ⊢
  generalize hQ : vx_MQ below _ _ _ s _ _ _ = Q
  obtain ⟨hM, hO⟩ := hM
  have hnB : ∀ q : Nat, s.heap.size ≤ q → B q := fun q hq => (hE.2.1 q hq).elim id (fun e => absurd hO.lt (Nat.not_lt.mpr (e ▸ hq)))
  obtain ⟨fs0, h00⟩ := h.obj
  refine lv_aload_n hx hb dX0_lengthThrough_0 rfl (lh_at hl rfl) ?_
  refine n_const hx hb 0 dX0_lengthThrough_1 (by decide +kernel) ?_
  refine lv_aload_n hx hb dX0_lengthThrough_2 rfl (lh_at hl rfl) ?_
  refine lv_iload_n hx hb dX0_lengthThrough_3 rfl (lh_at hl rfl) ?_
  refine y_call (y_runVX (As := [.int p0]) hF hE hS (fun q h => Or.inl h) hnB hM hl (xk_lengthThrough l hlt g B w ν x0 p0 h) (xw.recv3 hE hM h00 rfl) q1273 q1274 q1275 q38 q1276 ⟨rfl, by decide +kernel, by decide +kernel, by show _ = some 1; decide +kernel⟩ rfl rfl ⟨Nat.le_of_ble_eq_true rfl, Nat.le_of_ble_eq_true rfl⟩ rfl (Nat.le_of_ble_eq_true rfl) dX0_lengthThrough_4 ⟨Nat.le_of_ble_eq_true rfl, Nat.le_of_ble_eq_true rfl⟩) hS (fun q h => Or.inl h) hoB hO (fun E ce q9 H locs hE9 hM hO hS hce hcv hcl => ?_) (fun r u H locs hq hM hO hS => ?_)
  · obtain ⟨j, hj, hj9⟩ := hE9
    have hw : vOk (opThrough ν p0).2.2 → xI g (opThrough ν p0).2.2 x0 w := fun _ => by rw [opThrough_thr ν p0 (by omega)]; exact h
    rcases j with _ | j
    · cases hj9
      refine vx_catch hown [] ⟨0, 9, 12, 13⟩ [] hT (fun z hz => absurd hz List.not_mem_nil) rfl (by decide) (hts _ q210) (va_Nw.use rfl (hE.2.2.1 _ q301 rfl)) hce hcv hcl ?_
      refine x_astore_n hx hb dX0_lengthThrough_12 rfl hl (by decide) (fun ls hl => ?_)
      refine n_const hx hb 1 dX0_lengthThrough_13 (by decide +kernel) ?_
      exact hQ ▸ vx_ret (x_iret hx hb hr hlk hS (w, z) ⟨by rw [hj], fun h0 => absurd (hj.symm.trans h0) (Nat.succ_ne_zero _), hw⟩ ⟨hM, hO⟩ dX0_lengthThrough_14)
    · simp at hj9
  · refine lv_i2l hx hb dX0_lengthThrough_7 rfl ?_
    refine y_last hx hb hE hM hS (Or.inr rfl) hoB hO dX0_lengthThrough_8 (fun H locs hM hO hS => ?_)
    refine lv_goto (tgt := 15) hx hb dX0_lengthThrough_9 (by decide) ?_
    refine n_const hx hb 0 dX0_lengthThrough_15 (by decide +kernel) ?_
    exact hQ ▸ vx_ret (x_iret hx hb hr hlk hS (u, r.toInt64) ⟨by rw [hq.1], fun _ => by rw [hq.2.1], hq.2.2⟩ ⟨hM, hO⟩ dX0_lengthThrough_16)
theorem opStops_thr (ν : nS) (p0 : Int32) : (opStops ν p0).1 ≠ 0 → (opStops ν p0).2.2 = ν := by
  unfold opStops
  repeat' split
  all_goals first | exact fun _ => rfl | exact fun h => absurd rfl h
set_option maxHeartbeats 1000000 in
theorem yk_stops (l : Launch) (hlt : l.stackTraces = false) (g : xg) (B : Nat → Prop) (w : xw_W) (ν : nS) (x0 o : Nat) (z : Int64) (p0 : Int32) (h : xI g ν x0 w) (hoB : ¬ B o) :
    vx_Met l yX0_stops (wsW_ yX0_stops cX0_stops 4 (some .int) [((0 : Nat), (9 : Nat), (12 : Nat), (13 : Nat))]) (xrm 9 9 1530) (yPc g (yA B o) [.ref x0, .int p0, .ref o] (fun H => xw g B w H ∧ yO g o z H)) (yQ g B x0 o (opStops ν p0)) (yX B o) 9 1530 (yA B o) := by
  refine y_startH rfl (Nat.le_of_ble_eq_true rfl) ?_
  intro p e s m below meth c hx hb hr hlk hml hT hown hts hnm hE hNc hM hS ls hl
  have hF : xFix p m c cX0_stops 4 s _ RX0 := ⟨hx, hb, hml, hown, hts⟩
  generalize hargs : List.toArray _ = args at hts hF ⊢
  generalize hQ : vx_MQ below _ _ _ s _ _ _ = Q
  obtain ⟨hM, hO⟩ := hM
  have hnB : ∀ q : Nat, s.heap.size ≤ q → B q := fun q hq => (hE.2.1 q hq).elim id (fun e => absurd hO.lt (Nat.not_lt.mpr (e ▸ hq)))
  obtain ⟨fs0, h00⟩ := h.obj
  refine lv_aload_n hx hb dX0_stops_0 rfl (lh_at hl rfl) ?_
  refine n_const hx hb 0 dX0_stops_1 (by decide +kernel) ?_
  refine lv_aload_n hx hb dX0_stops_2 rfl (lh_at hl rfl) ?_
  refine lv_iload_n hx hb dX0_stops_3 rfl (lh_at hl rfl) ?_
  refine y_call (y_runVX (As := [.int p0]) hF hE hS (fun q h => Or.inl h) hnB hM hl (xk_stops l hlt g B w ν x0 p0 h) (xw.recv3 hE hM h00 rfl) q1284 q1285 q1286 q38 q1287 ⟨rfl, by decide +kernel, by decide +kernel, by show _ = some 1; decide +kernel⟩ rfl rfl ⟨Nat.le_of_ble_eq_true rfl, Nat.le_of_ble_eq_true rfl⟩ rfl (Nat.le_of_ble_eq_true rfl) dX0_stops_4 ⟨Nat.le_of_ble_eq_true rfl, Nat.le_of_ble_eq_true rfl⟩) hS (fun q h => Or.inl h) hoB hO (fun E ce q9 H locs hE9 hM hO hS hce hcv hcl => ?_) (fun r u H locs hq hM hO hS => ?_)
  · obtain ⟨j, hj, hj9⟩ := hE9
    have hw : vOk (opStops ν p0).2.2 → xI g (opStops ν p0).2.2 x0 w := fun _ => by rw [opStops_thr ν p0 (by omega)]; exact h
    rcases j with _ | j
    · cases hj9
      refine vx_catch hown [] ⟨0, 9, 12, 13⟩ [] hT (fun z hz => absurd hz List.not_mem_nil) rfl (by decide) (hts _ q210) (va_Nw.use rfl (hE.2.2.1 _ q301 rfl)) hce hcv hcl ?_
      refine x_astore_n hx hb dX0_stops_12 rfl hl (by decide) (fun ls hl => ?_)
      refine n_const hx hb 1 dX0_stops_13 (by decide +kernel) ?_
      exact hQ ▸ vx_ret (x_iret hx hb hr hlk hS (w, z) ⟨by rw [hj], fun h0 => absurd (hj.symm.trans h0) (Nat.succ_ne_zero _), hw⟩ ⟨hM, hO⟩ dX0_stops_14)
    · simp at hj9
  · refine lv_i2l hx hb dX0_stops_7 rfl ?_
    refine y_last hx hb hE hM hS (Or.inr rfl) hoB hO dX0_stops_8 (fun H locs hM hO hS => ?_)
    refine lv_goto (tgt := 15) hx hb dX0_stops_9 (by decide) ?_
    refine n_const hx hb 0 dX0_stops_15 (by decide +kernel) ?_
    exact hQ ▸ vx_ret (x_iret hx hb hr hlk hS (u, r.toInt64) ⟨by rw [hq.1], fun _ => by rw [hq.2.1], hq.2.2⟩ ⟨hM, hO⟩ dX0_stops_16)
theorem opStopAt_thr (ν : nS) (p0 p1 : Int32) : (opStopAt ν p0 p1).1 ≠ 0 → (opStopAt ν p0 p1).2.2 = ν := by
  unfold opStopAt
  repeat' split
  all_goals first | exact fun _ => rfl | exact fun h => absurd rfl h
set_option maxHeartbeats 1000000 in
theorem yk_stopAt (l : Launch) (hlt : l.stackTraces = false) (g : xg) (B : Nat → Prop) (w : xw_W) (ν : nS) (x0 o : Nat) (z : Int64) (p0 p1 : Int32) (h : xI g ν x0 w) (hoB : ¬ B o) :
    vx_Met l yX0_stopAt (wsW_ yX0_stopAt cX0_stopAt 5 (some .int) [((0 : Nat), (10 : Nat), (13 : Nat), (13 : Nat))]) (xrm 9 18 3060) (yPc g (yA B o) [.ref x0, .int p0, .int p1, .ref o] (fun H => xw g B w H ∧ yO g o z H)) (yQ g B x0 o (opStopAt ν p0 p1)) (yX B o) 18 3060 (yA B o) := by
  refine y_startH rfl (Nat.le_of_ble_eq_true rfl) ?_
  intro p e s m below meth c hx hb hr hlk hml hT hown hts hnm hE hNc hM hS ls hl
  have hF : xFix p m c cX0_stopAt 5 s _ RX0 := ⟨hx, hb, hml, hown, hts⟩
  generalize hargs : List.toArray _ = args at hts hF ⊢
  generalize hQ : vx_MQ below _ _ _ s _ _ _ = Q
  obtain ⟨hM, hO⟩ := hM
  have hnB : ∀ q : Nat, s.heap.size ≤ q → B q := fun q hq => (hE.2.1 q hq).elim id (fun e => absurd hO.lt (Nat.not_lt.mpr (e ▸ hq)))
  obtain ⟨fs0, h00⟩ := h.obj
  refine lv_aload_n hx hb dX0_stopAt_0 rfl (lh_at hl rfl) ?_
  refine n_const hx hb 0 dX0_stopAt_1 (by decide +kernel) ?_
  refine lv_aload_n hx hb dX0_stopAt_2 rfl (lh_at hl rfl) ?_
  refine lv_iload_n hx hb dX0_stopAt_3 rfl (lh_at hl rfl) ?_
  refine lv_iload_n hx hb dX0_stopAt_4 rfl (lh_at hl rfl) ?_
  refine y_call (y_runVX (As := [.int p0, .int p1]) hF hE hS (fun q h => Or.inl h) hnB hM hl (xk_stopAt l hlt g B w ν x0 p0 p1 h) (xw.recv3 hE hM h00 rfl) q1291 q1292 q1293 q38 q1294 ⟨rfl, by decide +kernel, by decide +kernel, by show _ = some 2; decide +kernel⟩ rfl rfl ⟨Nat.le_of_ble_eq_true rfl, Nat.le_of_ble_eq_true rfl⟩ rfl (Nat.le_of_ble_eq_true rfl) dX0_stopAt_5 ⟨Nat.le_of_ble_eq_true rfl, Nat.le_of_ble_eq_true rfl⟩) hS (fun q h => Or.inl h) hoB hO (fun E ce q9 H locs hE9 hM hO hS hce hcv hcl => ?_) (fun r u H locs hq hM hO hS => ?_)
  · obtain ⟨j, hj, hj9⟩ := hE9
    have hw : vOk (opStopAt ν p0 p1).2.2 → xI g (opStopAt ν p0 p1).2.2 x0 w := fun _ => by rw [opStopAt_thr ν p0 p1 (by omega)]; exact h
    rcases j with _ | j
    · cases hj9
      refine vx_catch hown [] ⟨0, 10, 13, 13⟩ [] hT (fun z hz => absurd hz List.not_mem_nil) rfl (by decide) (hts _ q210) (va_Nw.use rfl (hE.2.2.1 _ q301 rfl)) hce hcv hcl ?_
      refine x_astore hx hb dX0_stopAt_13 hl (by decide) (fun ls hl => ?_)
      refine n_const hx hb 1 dX0_stopAt_15 (by decide +kernel) ?_
      exact hQ ▸ vx_ret (x_iret hx hb hr hlk hS (w, z) ⟨by rw [hj], fun h0 => absurd (hj.symm.trans h0) (Nat.succ_ne_zero _), hw⟩ ⟨hM, hO⟩ dX0_stopAt_16)
    · simp at hj9
  · refine lv_i2l hx hb dX0_stopAt_8 rfl ?_
    refine y_last hx hb hE hM hS (Or.inr rfl) hoB hO dX0_stopAt_9 (fun H locs hM hO hS => ?_)
    refine lv_goto (tgt := 17) hx hb dX0_stopAt_10 (by decide) ?_
    refine n_const hx hb 0 dX0_stopAt_17 (by decide +kernel) ?_
    exact hQ ▸ vx_ret (x_iret hx hb hr hlk hS (u, r.toInt64) ⟨by rw [hq.1], fun _ => by rw [hq.2.1], hq.2.2⟩ ⟨hM, hO⟩ dX0_stopAt_18)
theorem opInAisle_thr (ν : nS) (p0 : Int32) : (opInAisle ν p0).1 ≠ 0 → (opInAisle ν p0).2.2 = ν := by
  unfold opInAisle
  repeat' split
  all_goals first | exact fun _ => rfl | exact fun h => absurd rfl h
set_option maxHeartbeats 1000000 in
theorem yk_inAisle (l : Launch) (hlt : l.stackTraces = false) (g : xg) (B : Nat → Prop) (w : xw_W) (ν : nS) (x0 o : Nat) (z : Int64) (p0 : Int32) (h : xI g ν x0 w) (hoB : ¬ B o) :
    vx_Met l yX0_inAisle (wsW_ yX0_inAisle cX0_inAisle 4 (some .int) [((0 : Nat), (9 : Nat), (12 : Nat), (13 : Nat))]) (xrm 9 10 1534) (yPc g (yA B o) [.ref x0, .int p0, .ref o] (fun H => xw g B w H ∧ yO g o z H)) (yQ g B x0 o (opInAisle ν p0)) (yX B o) 10 1534 (yA B o) := by
  refine y_startH rfl (Nat.le_of_ble_eq_true rfl) ?_
  intro p e s m below meth c hx hb hr hlk hml hT hown hts hnm hE hNc hM hS ls hl
  have hF : xFix p m c cX0_inAisle 4 s _ RX0 := ⟨hx, hb, hml, hown, hts⟩
  generalize hargs : List.toArray _ = args at hts hF ⊢
  generalize hQ : vx_MQ below _ _ _ s _ _ _ = Q
  obtain ⟨hM, hO⟩ := hM
  have hnB : ∀ q : Nat, s.heap.size ≤ q → B q := fun q hq => (hE.2.1 q hq).elim id (fun e => absurd hO.lt (Nat.not_lt.mpr (e ▸ hq)))
  obtain ⟨fs0, h00⟩ := h.obj
  refine lv_aload_n hx hb dX0_inAisle_0 rfl (lh_at hl rfl) ?_
  refine n_const hx hb 0 dX0_inAisle_1 (by decide +kernel) ?_
  refine lv_aload_n hx hb dX0_inAisle_2 rfl (lh_at hl rfl) ?_
  refine lv_iload_n hx hb dX0_inAisle_3 rfl (lh_at hl rfl) ?_
  refine y_call (y_runVX (As := [.int p0]) hF hE hS (fun q h => Or.inl h) hnB hM hl (xk_inAisle l hlt g B w ν x0 p0 h) (xw.recv3 hE hM h00 rfl) q1304 q1305 q1306 q38 q1307 ⟨rfl, by decide +kernel, by decide +kernel, by show _ = some 1; decide +kernel⟩ rfl rfl ⟨Nat.le_of_ble_eq_true rfl, Nat.le_of_ble_eq_true rfl⟩ rfl (Nat.le_of_ble_eq_true rfl) dX0_inAisle_4 ⟨Nat.le_of_ble_eq_true rfl, Nat.le_of_ble_eq_true rfl⟩) hS (fun q h => Or.inl h) hoB hO (fun E ce q9 H locs hE9 hM hO hS hce hcv hcl => ?_) (fun r u H locs hq hM hO hS => ?_)
  · obtain ⟨j, hj, hj9⟩ := hE9
    have hw : vOk (opInAisle ν p0).2.2 → xI g (opInAisle ν p0).2.2 x0 w := fun _ => by rw [opInAisle_thr ν p0 (by omega)]; exact h
    rcases j with _ | j
    · cases hj9
      refine vx_catch hown [] ⟨0, 9, 12, 13⟩ [] hT (fun z hz => absurd hz List.not_mem_nil) rfl (by decide) (hts _ q210) (va_Nw.use rfl (hE.2.2.1 _ q301 rfl)) hce hcv hcl ?_
      refine x_astore_n hx hb dX0_inAisle_12 rfl hl (by decide) (fun ls hl => ?_)
      refine n_const hx hb 1 dX0_inAisle_13 (by decide +kernel) ?_
      exact hQ ▸ vx_ret (x_iret hx hb hr hlk hS (w, z) ⟨by rw [hj], fun h0 => absurd (hj.symm.trans h0) (Nat.succ_ne_zero _), hw⟩ ⟨hM, hO⟩ dX0_inAisle_14)
    · simp at hj9
  · refine lv_i2l hx hb dX0_inAisle_7 rfl ?_
    refine y_last hx hb hE hM hS (Or.inr rfl) hoB hO dX0_inAisle_8 (fun H locs hM hO hS => ?_)
    refine lv_goto (tgt := 15) hx hb dX0_inAisle_9 (by decide) ?_
    refine n_const hx hb 0 dX0_inAisle_15 (by decide +kernel) ?_
    exact hQ ▸ vx_ret (x_iret hx hb hr hlk hS (u, r.toInt64) ⟨by rw [hq.1], fun _ => by rw [hq.2.1], hq.2.2⟩ ⟨hM, hO⟩ dX0_inAisle_16)
