/-! THE LAW: wrappers (2), printed by tools/gen_wrap.py -/
set_option maxRecDepth 100000
theorem opStateOf_thr (ν : nS) (p0 : Int32) : (opStateOf ν p0).1 ≠ 0 → (opStateOf ν p0).2.2 = ν := by
  unfold opStateOf
  repeat' split
  all_goals first | exact fun _ => rfl | exact fun h => absurd rfl h
set_option maxHeartbeats 1000000 in
theorem yk_stateOf (l : Launch) (hlt : l.stackTraces = false) (g : xg) (B : Nat → Prop) (w : xw_W) (ν : nS) (x0 o : Nat) (z : Int64) (p0 : Int32) (h : xI g ν x0 w) (hoB : ¬ B o) :
    vx_Met l yX0_stateOf (wsW_ yX0_stateOf cX0_stateOf 4 (some .int) [((0 : Nat), (9 : Nat), (12 : Nat), (13 : Nat))]) (xrm 9 9 1530) (yPc g (yA B o) [.ref x0, .int p0, .ref o] (fun H => xw g B w H ∧ yO g o z H)) (yQ g B x0 o (opStateOf ν p0)) (yX B o) 9 1530 (yA B o) := by
  refine y_startH rfl (Nat.le_of_ble_eq_true rfl) ?_
  intro p e s m below meth c hx hb hr hlk hml hT hown hts hnm hE hNc hM hS ls hl
  have hF : xFix p m c cX0_stateOf 4 s _ RX0 := ⟨hx, hb, hml, hown, hts⟩
  generalize hargs : List.toArray _ = args at hts hF ⊢
  generalize hQ : vx_MQ below _ _ _ s _ _ _ = Q
  obtain ⟨hM, hO⟩ := hM
  have hnB : ∀ q : Nat, s.heap.size ≤ q → B q := fun q hq => (hE.2.1 q hq).elim id (fun e => absurd hO.lt (Nat.not_lt.mpr (e ▸ hq)))
  obtain ⟨fs0, h00⟩ := h.obj
  refine lv_aload_n hx hb dX0_stateOf_0 rfl (lh_at hl rfl) ?_
  refine n_const hx hb 0 dX0_stateOf_1 (by decide +kernel) ?_
  refine lv_aload_n hx hb dX0_stateOf_2 rfl (lh_at hl rfl) ?_
  refine lv_iload_n hx hb dX0_stateOf_3 rfl (lh_at hl rfl) ?_
  refine y_call (y_runVX (As := [.int p0]) hF hE hS (fun q h => Or.inl h) hnB hM hl (xk_stateOf l hlt g B w ν x0 p0 h) (xw.recv3 hE hM h00 rfl) q1010 q1011 q1012 q38 q1013 ⟨rfl, by decide +kernel, by decide +kernel, by show _ = some 1; decide +kernel⟩ rfl rfl ⟨Nat.le_of_ble_eq_true rfl, Nat.le_of_ble_eq_true rfl⟩ rfl (Nat.le_of_ble_eq_true rfl) dX0_stateOf_4 ⟨Nat.le_of_ble_eq_true rfl, Nat.le_of_ble_eq_true rfl⟩) hS (fun q h => Or.inl h) hoB hO (fun E ce q9 H locs hE9 hM hO hS hce hcv hcl => ?_) (fun r u H locs hq hM hO hS => ?_)
  · obtain ⟨j, hj, hj9⟩ := hE9
    have hw : vOk (opStateOf ν p0).2.2 → xI g (opStateOf ν p0).2.2 x0 w := fun _ => by rw [opStateOf_thr ν p0 (by omega)]; exact h
    rcases j with _ | j
    · cases hj9
      refine vx_catch hown [] ⟨0, 9, 12, 13⟩ [] hT (fun z hz => absurd hz List.not_mem_nil) rfl (by decide) (hts _ q210) (va_Nw.use rfl (hE.2.2.1 _ q301 rfl)) hce hcv hcl ?_
      refine x_astore_n hx hb dX0_stateOf_12 rfl hl (by decide) (fun ls hl => ?_)
      refine n_const hx hb 1 dX0_stateOf_13 (by decide +kernel) ?_
      exact hQ ▸ vx_ret (x_iret hx hb hr hlk hS (w, z) ⟨by rw [hj], fun h0 => absurd (hj.symm.trans h0) (Nat.succ_ne_zero _), hw⟩ ⟨hM, hO⟩ dX0_stateOf_14)
    · simp at hj9
  · refine lv_i2l hx hb dX0_stateOf_7 rfl ?_
    refine y_last hx hb hE hM hS (Or.inr rfl) hoB hO dX0_stateOf_8 (fun H locs hM hO hS => ?_)
    refine lv_goto (tgt := 15) hx hb dX0_stateOf_9 (by decide) ?_
    refine n_const hx hb 0 dX0_stateOf_15 (by decide +kernel) ?_
    exact hQ ▸ vx_ret (x_iret hx hb hr hlk hS (u, r.toInt64) ⟨by rw [hq.1], fun _ => by rw [hq.2.1], hq.2.2⟩ ⟨hM, hO⟩ dX0_stateOf_16)
theorem opLengthAlone_thr (ν : nS) (p0 : Int32) : (opLengthAlone ν p0).1 ≠ 0 → (opLengthAlone ν p0).2.2 = ν := by
  unfold opLengthAlone
  repeat' split
  all_goals first | exact fun _ => rfl | exact fun h => absurd rfl h
set_option maxHeartbeats 1000000 in
theorem yk_lengthAlone (l : Launch) (hlt : l.stackTraces = false) (g : xg) (B : Nat → Prop) (w : xw_W) (ν : nS) (x0 o : Nat) (z : Int64) (p0 : Int32) (h : xI g ν x0 w) (hoB : ¬ B o) :
    vx_Met l yX0_lengthAlone (wsW_ yX0_lengthAlone cX0_lengthAlone 4 (some .int) [((0 : Nat), (9 : Nat), (12 : Nat), (13 : Nat))]) (xrm 9 9 1530) (yPc g (yA B o) [.ref x0, .int p0, .ref o] (fun H => xw g B w H ∧ yO g o z H)) (yQ g B x0 o (opLengthAlone ν p0)) (yX B o) 9 1530 (yA B o) := by
  refine y_startH rfl (Nat.le_of_ble_eq_true rfl) ?_
  intro p e s m below meth c hx hb hr hlk hml hT hown hts hnm hE hNc hM hS ls hl
  have hF : xFix p m c cX0_lengthAlone 4 s _ RX0 := ⟨hx, hb, hml, hown, hts⟩
  generalize hargs : List.toArray _ = args at hts hF ⊢
  generalize hQ : vx_MQ below _ _ _ s _ _ _ = Q
  obtain ⟨hM, hO⟩ := hM
  have hnB : ∀ q : Nat, s.heap.size ≤ q → B q := fun q hq => (hE.2.1 q hq).elim id (fun e => absurd hO.lt (Nat.not_lt.mpr (e ▸ hq)))
  obtain ⟨fs0, h00⟩ := h.obj
  refine lv_aload_n hx hb dX0_lengthAlone_0 rfl (lh_at hl rfl) ?_
  refine n_const hx hb 0 dX0_lengthAlone_1 (by decide +kernel) ?_
  refine lv_aload_n hx hb dX0_lengthAlone_2 rfl (lh_at hl rfl) ?_
  refine lv_iload_n hx hb dX0_lengthAlone_3 rfl (lh_at hl rfl) ?_
  refine y_call (y_runVX (As := [.int p0]) hF hE hS (fun q h => Or.inl h) hnB hM hl (xk_lengthAlone l hlt g B w ν x0 p0 h) (xw.recv3 hE hM h00 rfl) q1017 q1018 q1019 q38 q1020 ⟨rfl, by decide +kernel, by decide +kernel, by show _ = some 1; decide +kernel⟩ rfl rfl ⟨Nat.le_of_ble_eq_true rfl, Nat.le_of_ble_eq_true rfl⟩ rfl (Nat.le_of_ble_eq_true rfl) dX0_lengthAlone_4 ⟨Nat.le_of_ble_eq_true rfl, Nat.le_of_ble_eq_true rfl⟩) hS (fun q h => Or.inl h) hoB hO (fun E ce q9 H locs hE9 hM hO hS hce hcv hcl => ?_) (fun r u H locs hq hM hO hS => ?_)
  · obtain ⟨j, hj, hj9⟩ := hE9
    have hw : vOk (opLengthAlone ν p0).2.2 → xI g (opLengthAlone ν p0).2.2 x0 w := fun _ => by rw [opLengthAlone_thr ν p0 (by omega)]; exact h
    rcases j with _ | j
    · cases hj9
      refine vx_catch hown [] ⟨0, 9, 12, 13⟩ [] hT (fun z hz => absurd hz List.not_mem_nil) rfl (by decide) (hts _ q210) (va_Nw.use rfl (hE.2.2.1 _ q301 rfl)) hce hcv hcl ?_
      refine x_astore_n hx hb dX0_lengthAlone_12 rfl hl (by decide) (fun ls hl => ?_)
      refine n_const hx hb 1 dX0_lengthAlone_13 (by decide +kernel) ?_
      exact hQ ▸ vx_ret (x_iret hx hb hr hlk hS (w, z) ⟨by rw [hj], fun h0 => absurd (hj.symm.trans h0) (Nat.succ_ne_zero _), hw⟩ ⟨hM, hO⟩ dX0_lengthAlone_14)
    · simp at hj9
  · refine lv_i2l hx hb dX0_lengthAlone_7 rfl ?_
    refine y_last hx hb hE hM hS (Or.inr rfl) hoB hO dX0_lengthAlone_8 (fun H locs hM hO hS => ?_)
    refine lv_goto (tgt := 15) hx hb dX0_lengthAlone_9 (by decide) ?_
    refine n_const hx hb 0 dX0_lengthAlone_15 (by decide +kernel) ?_
    exact hQ ▸ vx_ret (x_iret hx hb hr hlk hS (u, r.toInt64) ⟨by rw [hq.1], fun _ => by rw [hq.2.1], hq.2.2⟩ ⟨hM, hO⟩ dX0_lengthAlone_16)
theorem opSetCap_thr (ν : nS) (p0 : Int32) : (opSetCap ν p0).1 ≠ 0 → (opSetCap ν p0).2.2 = ν := by
  unfold opSetCap
  repeat' split
  all_goals first | exact fun _ => rfl | exact fun h => absurd rfl h
set_option maxHeartbeats 1000000 in
theorem yk_setCapacity (l : Launch) (hlt : l.stackTraces = false) (g : xg) (B : Nat → Prop) (w : xw_W) (ν : nS) (x0 o : Nat) (z : Int64) (p0 : Int32) (h : xI g ν x0 w) (hoB : ¬ B o) :
    vx_Met l yX0_setCapacity (wsW_ yX0_setCapacity cX0_setCapacity 4 (some .int) [((0 : Nat), (9 : Nat), (12 : Nat), (35 : Nat)), ((0 : Nat), (9 : Nat), (15 : Nat), (15 : Nat))]) (xrm 9 12 1840) (yPc g (yA B o) [.ref x0, .int p0, .ref o] (fun H => xw g B w H ∧ yO g o z H)) (yQ g B x0 o (opSetCap ν p0)) (yX B o) 12 1840 (yA B o) := by
  refine y_startH rfl (Nat.le_of_ble_eq_true rfl) ?_
  intro p e s m below meth c hx hb hr hlk hml hT hown hts hnm hE hNc hM hS ls hl
  have hF : xFix p m c cX0_setCapacity 4 s _ RX0 := ⟨hx, hb, hml, hown, hts⟩
  generalize hargs : List.toArray _ = args at hts hF ⊢
  generalize hQ : vx_MQ below _ _ _ s _ _ _ = Q
  obtain ⟨hM, hO⟩ := hM
  have hnB : ∀ q : Nat, s.heap.size ≤ q → B q := fun q hq => (hE.2.1 q hq).elim id (fun e => absurd hO.lt (Nat.not_lt.mpr (e ▸ hq)))
  obtain ⟨fs0, h00⟩ := h.obj
  refine lv_aload_n hx hb dX0_setCapacity_0 rfl (lh_at hl rfl) ?_
  refine n_const hx hb 0 dX0_setCapacity_1 (by decide +kernel) ?_
  refine lv_aload_n hx hb dX0_setCapacity_2 rfl (lh_at hl rfl) ?_
  refine lv_iload_n hx hb dX0_setCapacity_3 rfl (lh_at hl rfl) ?_
  refine y_call (y_runVX (As := [.int p0]) hF hE hS (fun q h => Or.inl h) hnB hM hl (xk_setCapacity l hlt g B w ν x0 p0 h) (xw.recv3 hE hM h00 rfl) q1044 q1045 q1046 q38 q1047 ⟨rfl, by decide +kernel, by decide +kernel, by show _ = some 1; decide +kernel⟩ rfl rfl ⟨Nat.le_of_ble_eq_true rfl, Nat.le_of_ble_eq_true rfl⟩ rfl (Nat.le_of_ble_eq_true rfl) dX0_setCapacity_4 ⟨Nat.le_of_ble_eq_true rfl, Nat.le_of_ble_eq_true rfl⟩) hS (fun q h => Or.inl h) hoB hO (fun E ce q9 H locs hE9 hM hO hS hce hcv hcl => ?_) (fun r u H locs hq hM hO hS => ?_)
  · obtain ⟨j, hj, hj9⟩ := hE9
    have hw : vOk (opSetCap ν p0).2.2 → xI g (opSetCap ν p0).2.2 x0 w := fun _ => by rw [opSetCap_thr ν p0 (by omega)]; exact h
    rcases j with _ | _ | j
    · cases hj9
      refine vx_catch hown [] ⟨0, 9, 12, 35⟩ [⟨0, 9, 15, 15⟩] hT (fun z hz => absurd hz List.not_mem_nil) rfl (by decide) (hts _ q934) (va_Nw.use rfl (hE.2.2.1 _ q519 rfl)) hce hcv hcl ?_
      refine x_astore_n hx hb dX0_setCapacity_12 rfl hl (by decide) (fun ls hl => ?_)
      refine n_const hx hb 1 dX0_setCapacity_13 (by decide +kernel) ?_
      exact hQ ▸ vx_ret (x_iret hx hb hr hlk hS (w, z) ⟨by rw [hj], fun h0 => absurd (hj.symm.trans h0) (Nat.succ_ne_zero _), hw⟩ ⟨hM, hO⟩ dX0_setCapacity_14)
    · cases hj9
      refine vx_catch hown [⟨0, 9, 12, 35⟩] ⟨0, 9, 15, 15⟩ [] hT (fun z hz => by rw [List.mem_singleton.mp hz]; exact Or.inr ⟨(by decide), eIA, hts _ q934, hNc.2.2⟩) rfl (by decide) (hts _ q287) (va_Nw.use rfl (hE.2.2.1 _ q578 rfl)) hce hcv hcl ?_
      refine x_astore_n hx hb dX0_setCapacity_15 rfl hl (by decide) (fun ls hl => ?_)
      refine n_const hx hb 2 dX0_setCapacity_16 (by decide +kernel) ?_
      exact hQ ▸ vx_ret (x_iret hx hb hr hlk hS (w, z) ⟨by rw [hj], fun h0 => absurd (hj.symm.trans h0) (Nat.succ_ne_zero _), hw⟩ ⟨hM, hO⟩ dX0_setCapacity_17)
    · simp at hj9
  · refine lv_i2l hx hb dX0_setCapacity_7 rfl ?_
    refine y_last hx hb hE hM hS (Or.inr rfl) hoB hO dX0_setCapacity_8 (fun H locs hM hO hS => ?_)
    refine lv_goto (tgt := 18) hx hb dX0_setCapacity_9 (by decide) ?_
    refine n_const hx hb 0 dX0_setCapacity_18 (by decide +kernel) ?_
    exact hQ ▸ vx_ret (x_iret hx hb hr hlk hS (u, r.toInt64) ⟨by rw [hq.1], fun _ => by rw [hq.2.1], hq.2.2⟩ ⟨hM, hO⟩ dX0_setCapacity_19)
theorem opPlan_thr (ν : nS) (p0 : Int32) : (opPlan ν p0).1 ≠ 0 → (opPlan ν p0).2.2 = ν := by
  unfold opPlan
  repeat' split
  all_goals first | exact fun _ => rfl | exact fun h => absurd rfl h
set_option maxHeartbeats 1000000 in
theorem yk_planWave (l : Launch) (hlt : l.stackTraces = false) (g : xg) (B : Nat → Prop) (w : xw_W) (ν : nS) (x0 o : Nat) (z : Int64) (p0 : Int32) (h : xI g ν x0 w) (hoB : ¬ B o) :
    vx_Met l yX0_planWave (wsW_ yX0_planWave cX0_planWave 4 (some .int) [((0 : Nat), (9 : Nat), (12 : Nat), (35 : Nat)), ((0 : Nat), (9 : Nat), (15 : Nat), (15 : Nat))]) (xrm 11 2200 93200) (yPc g (yA B o) [.ref x0, .int p0, .ref o] (fun H => xw g B w H ∧ yO g o z H)) (yQ g B x0 o (opPlan ν p0)) (yX B o) 2200 93200 (yA B o) := by
  refine y_startH rfl (Nat.le_of_ble_eq_true rfl) ?_
  intro p e s m below meth c hx hb hr hlk hml hT hown hts hnm hE hNc hM hS ls hl
  have hF : xFix p m c cX0_planWave 4 s _ RX0 := ⟨hx, hb, hml, hown, hts⟩
  generalize hargs : List.toArray _ = args at hts hF ⊢
  generalize hQ : vx_MQ below _ _ _ s _ _ _ = Q
  obtain ⟨hM, hO⟩ := hM
  have hnB : ∀ q : Nat, s.heap.size ≤ q → B q := fun q hq => (hE.2.1 q hq).elim id (fun e => absurd hO.lt (Nat.not_lt.mpr (e ▸ hq)))
  obtain ⟨fs0, h00⟩ := h.obj
  refine lv_aload_n hx hb dX0_planWave_0 rfl (lh_at hl rfl) ?_
  refine n_const hx hb 0 dX0_planWave_1 (by decide +kernel) ?_
  refine lv_aload_n hx hb dX0_planWave_2 rfl (lh_at hl rfl) ?_
  refine lv_iload_n hx hb dX0_planWave_3 rfl (lh_at hl rfl) ?_
  refine y_call (y_runVX (As := [.int p0]) hF hE hS (fun q h => Or.inl h) hnB hM hl (xk_planWave l hlt g B w ν x0 p0 h) (xw.recv3 hE hM h00 rfl) q1103 q1104 q1105 q38 q1106 ⟨rfl, by decide +kernel, by decide +kernel, by show _ = some 1; decide +kernel⟩ rfl rfl ⟨Nat.le_of_ble_eq_true rfl, Nat.le_of_ble_eq_true rfl⟩ rfl (Nat.le_of_ble_eq_true rfl) dX0_planWave_4 ⟨Nat.le_of_ble_eq_true rfl, Nat.le_of_ble_eq_true rfl⟩) hS (fun q h => Or.inl h) hoB hO (fun E ce q9 H locs hE9 hM hO hS hce hcv hcl => ?_) (fun r u H locs hq hM hO hS => ?_)
  · obtain ⟨j, hj, hj9⟩ := hE9
    have hw : vOk (opPlan ν p0).2.2 → xI g (opPlan ν p0).2.2 x0 w := fun _ => by rw [opPlan_thr ν p0 (by omega)]; exact h
    rcases j with _ | _ | j
    · cases hj9
      refine vx_catch hown [] ⟨0, 9, 12, 35⟩ [⟨0, 9, 15, 15⟩] hT (fun z hz => absurd hz List.not_mem_nil) rfl (by decide) (hts _ q934) (va_Nw.use rfl (hE.2.2.1 _ q519 rfl)) hce hcv hcl ?_
      refine x_astore_n hx hb dX0_planWave_12 rfl hl (by decide) (fun ls hl => ?_)
      refine n_const hx hb 1 dX0_planWave_13 (by decide +kernel) ?_
      exact hQ ▸ vx_ret (x_iret hx hb hr hlk hS (w, z) ⟨by rw [hj], fun h0 => absurd (hj.symm.trans h0) (Nat.succ_ne_zero _), hw⟩ ⟨hM, hO⟩ dX0_planWave_14)
    · cases hj9
      refine vx_catch hown [⟨0, 9, 12, 35⟩] ⟨0, 9, 15, 15⟩ [] hT (fun z hz => by rw [List.mem_singleton.mp hz]; exact Or.inr ⟨(by decide), eIA, hts _ q934, hNc.2.2⟩) rfl (by decide) (hts _ q287) (va_Nw.use rfl (hE.2.2.1 _ q578 rfl)) hce hcv hcl ?_
      refine x_astore_n hx hb dX0_planWave_15 rfl hl (by decide) (fun ls hl => ?_)
      refine n_const hx hb 2 dX0_planWave_16 (by decide +kernel) ?_
      exact hQ ▸ vx_ret (x_iret hx hb hr hlk hS (w, z) ⟨by rw [hj], fun h0 => absurd (hj.symm.trans h0) (Nat.succ_ne_zero _), hw⟩ ⟨hM, hO⟩ dX0_planWave_17)
    · simp at hj9
  · refine lv_i2l hx hb dX0_planWave_7 rfl ?_
    refine y_last hx hb hE hM hS (Or.inr rfl) hoB hO dX0_planWave_8 (fun H locs hM hO hS => ?_)
    refine lv_goto (tgt := 18) hx hb dX0_planWave_9 (by decide) ?_
    refine n_const hx hb 0 dX0_planWave_18 (by decide +kernel) ?_
    exact hQ ▸ vx_ret (x_iret hx hb hr hlk hS (u, r.toInt64) ⟨by rw [hq.1], fun _ => by rw [hq.2.1], hq.2.2⟩ ⟨hM, hO⟩ dX0_planWave_19)
theorem opPick_thr (ν : nS) (p0 : Int32) : (opPick ν p0).1 ≠ 0 → (opPick ν p0).2.2 = ν := by
  unfold opPick
  repeat' split
  all_goals first | exact fun _ => rfl | exact fun h => absurd rfl h
set_option maxHeartbeats 1000000 in
theorem yk_pick (l : Launch) (hlt : l.stackTraces = false) (g : xg) (B : Nat → Prop) (w : xw_W) (ν : nS) (x0 o : Nat) (z : Int64) (p0 : Int32) (h : xI g ν x0 w) (hoB : ¬ B o) :
    vx_Met l yX0_pick (wsW_ yX0_pick cX0_pick 4 (some .int) [((0 : Nat), (9 : Nat), (12 : Nat), (13 : Nat))]) (xrm 9 10 1534) (yPc g (yA B o) [.ref x0, .int p0, .ref o] (fun H => xw g B w H ∧ yO g o z H)) (yQ g B x0 o (opPick ν p0)) (yX B o) 10 1534 (yA B o) := by
  refine y_startH rfl (Nat.le_of_ble_eq_true rfl) ?_
  intro p e s m below meth c hx hb hr hlk hml hT hown hts hnm hE hNc hM hS ls hl
  have hF : xFix p m c cX0_pick 4 s _ RX0 := ⟨hx, hb, hml, hown, hts⟩
  generalize hargs : List.toArray _ = args at hts hF ⊢
  generalize hQ : vx_MQ below _ _ _ s _ _ _ = Q
  obtain ⟨hM, hO⟩ := hM
  have hnB : ∀ q : Nat, s.heap.size ≤ q → B q := fun q hq => (hE.2.1 q hq).elim id (fun e => absurd hO.lt (Nat.not_lt.mpr (e ▸ hq)))
  obtain ⟨fs0, h00⟩ := h.obj
  refine lv_aload_n hx hb dX0_pick_0 rfl (lh_at hl rfl) ?_
  refine n_const hx hb 0 dX0_pick_1 (by decide +kernel) ?_
  refine lv_aload_n hx hb dX0_pick_2 rfl (lh_at hl rfl) ?_
  refine lv_iload_n hx hb dX0_pick_3 rfl (lh_at hl rfl) ?_
  refine y_call (y_runVX (As := [.int p0]) hF hE hS (fun q h => Or.inl h) hnB hM hl (xk_pick l hlt g B w ν x0 p0 h) (xw.recv3 hE hM h00 rfl) q1181 q1182 q1183 q38 q1184 ⟨rfl, by decide +kernel, by decide +kernel, by show _ = some 1; decide +kernel⟩ rfl rfl ⟨Nat.le_of_ble_eq_true rfl, Nat.le_of_ble_eq_true rfl⟩ rfl (Nat.le_of_ble_eq_true rfl) dX0_pick_4 ⟨Nat.le_of_ble_eq_true rfl, Nat.le_of_ble_eq_true rfl⟩) hS (fun q h => Or.inl h) hoB hO (fun E ce q9 H locs hE9 hM hO hS hce hcv hcl => ?_) (fun r u H locs hq hM hO hS => ?_)
  · obtain ⟨j, hj, hj9⟩ := hE9
    have hw : vOk (opPick ν p0).2.2 → xI g (opPick ν p0).2.2 x0 w := fun _ => by rw [opPick_thr ν p0 (by omega)]; exact h
    rcases j with _ | j
    · cases hj9
      refine vx_catch hown [] ⟨0, 9, 12, 13⟩ [] hT (fun z hz => absurd hz List.not_mem_nil) rfl (by decide) (hts _ q210) (va_Nw.use rfl (hE.2.2.1 _ q301 rfl)) hce hcv hcl ?_
      refine x_astore_n hx hb dX0_pick_12 rfl hl (by decide) (fun ls hl => ?_)
      refine n_const hx hb 1 dX0_pick_13 (by decide +kernel) ?_
      exact hQ ▸ vx_ret (x_iret hx hb hr hlk hS (w, z) ⟨by rw [hj], fun h0 => absurd (hj.symm.trans h0) (Nat.succ_ne_zero _), hw⟩ ⟨hM, hO⟩ dX0_pick_14)
    · simp at hj9
  · refine lv_i2l hx hb dX0_pick_7 rfl ?_
    refine y_last hx hb hE hM hS (Or.inr rfl) hoB hO dX0_pick_8 (fun H locs hM hO hS => ?_)
    refine lv_goto (tgt := 15) hx hb dX0_pick_9 (by decide) ?_
    refine n_const hx hb 0 dX0_pick_15 (by decide +kernel) ?_
    exact hQ ▸ vx_ret (x_iret hx hb hr hlk hS (u, r.toInt64) ⟨by rw [hq.1], fun _ => by rw [hq.2.1], hq.2.2⟩ ⟨hM, hO⟩ dX0_pick_16)
theorem opBatchOf_thr (ν : nS) (p0 : Int32) : (opBatchOf ν p0).1 ≠ 0 → (opBatchOf ν p0).2.2 = ν := by
  unfold opBatchOf
  repeat' split
  all_goals first | exact fun _ => rfl | exact fun h => absurd rfl h
set_option maxHeartbeats 1000000 in
theorem yk_batchOf (l : Launch) (hlt : l.stackTraces = false) (g : xg) (B : Nat → Prop) (w : xw_W) (ν : nS) (x0 o : Nat) (z : Int64) (p0 : Int32) (h : xI g ν x0 w) (hoB : ¬ B o) :
    vx_Met l yX0_batchOf (wsW_ yX0_batchOf cX0_batchOf 4 (some .int) [((0 : Nat), (9 : Nat), (12 : Nat), (13 : Nat))]) (xrm 9 9 1530) (yPc g (yA B o) [.ref x0, .int p0, .ref o] (fun H => xw g B w H ∧ yO g o z H)) (yQ g B x0 o (opBatchOf ν p0)) (yX B o) 9 1530 (yA B o) := by
  refine y_startH rfl (Nat.le_of_ble_eq_true rfl) ?_
  intro p e s m below meth c hx hb hr hlk hml hT hown hts hnm hE hNc hM hS ls hl
  have hF : xFix p m c cX0_batchOf 4 s _ RX0 := ⟨hx, hb, hml, hown, hts⟩
  generalize hargs : List.toArray _ = args at hts hF ⊢
  generalize hQ : vx_MQ below _ _ _ s _ _ _ = Q
  obtain ⟨hM, hO⟩ := hM
  have hnB : ∀ q : Nat, s.heap.size ≤ q → B q := fun q hq => (hE.2.1 q hq).elim id (fun e => absurd hO.lt (Nat.not_lt.mpr (e ▸ hq)))
  obtain ⟨fs0, h00⟩ := h.obj
  refine lv_aload_n hx hb dX0_batchOf_0 rfl (lh_at hl rfl) ?_
  refine n_const hx hb 0 dX0_batchOf_1 (by decide +kernel) ?_
  refine lv_aload_n hx hb dX0_batchOf_2 rfl (lh_at hl rfl) ?_
  refine lv_iload_n hx hb dX0_batchOf_3 rfl (lh_at hl rfl) ?_
  refine y_call (y_runVX (As := [.int p0]) hF hE hS (fun q h => Or.inl h) hnB hM hl (xk_batchOf l hlt g B w ν x0 p0 h) (xw.recv3 hE hM h00 rfl) q1193 q1194 q1195 q38 q1196 ⟨rfl, by decide +kernel, by decide +kernel, by show _ = some 1; decide +kernel⟩ rfl rfl ⟨Nat.le_of_ble_eq_true rfl, Nat.le_of_ble_eq_true rfl⟩ rfl (Nat.le_of_ble_eq_true rfl) dX0_batchOf_4 ⟨Nat.le_of_ble_eq_true rfl, Nat.le_of_ble_eq_true rfl⟩) hS (fun q h => Or.inl h) hoB hO (fun E ce q9 H locs hE9 hM hO hS hce hcv hcl => ?_) (fun r u H locs hq hM hO hS => ?_)
  · obtain ⟨j, hj, hj9⟩ := hE9
    have hw : vOk (opBatchOf ν p0).2.2 → xI g (opBatchOf ν p0).2.2 x0 w := fun _ => by rw [opBatchOf_thr ν p0 (by omega)]; exact h
    rcases j with _ | j
    · cases hj9
      refine vx_catch hown [] ⟨0, 9, 12, 13⟩ [] hT (fun z hz => absurd hz List.not_mem_nil) rfl (by decide) (hts _ q210) (va_Nw.use rfl (hE.2.2.1 _ q301 rfl)) hce hcv hcl ?_
      refine x_astore_n hx hb dX0_batchOf_12 rfl hl (by decide) (fun ls hl => ?_)
      refine n_const hx hb 1 dX0_batchOf_13 (by decide +kernel) ?_
      exact hQ ▸ vx_ret (x_iret hx hb hr hlk hS (w, z) ⟨by rw [hj], fun h0 => absurd (hj.symm.trans h0) (Nat.succ_ne_zero _), hw⟩ ⟨hM, hO⟩ dX0_batchOf_14)
    · simp at hj9
  · refine lv_i2l hx hb dX0_batchOf_7 rfl ?_
    refine y_last hx hb hE hM hS (Or.inr rfl) hoB hO dX0_batchOf_8 (fun H locs hM hO hS => ?_)
    refine lv_goto (tgt := 15) hx hb dX0_batchOf_9 (by decide) ?_
    refine n_const hx hb 0 dX0_batchOf_15 (by decide +kernel) ?_
    exact hQ ▸ vx_ret (x_iret hx hb hr hlk hS (u, r.toInt64) ⟨by rw [hq.1], fun _ => by rw [hq.2.1], hq.2.2⟩ ⟨hM, hO⟩ dX0_batchOf_16)
theorem opLinesOf_thr (ν : nS) (p0 : Int32) : (opLinesOf ν p0).1 ≠ 0 → (opLinesOf ν p0).2.2 = ν := by
  unfold opLinesOf
  repeat' split
  all_goals first | exact fun _ => rfl | exact fun h => absurd rfl h
set_option maxHeartbeats 1000000 in
theorem yk_linesOf (l : Launch) (hlt : l.stackTraces = false) (g : xg) (B : Nat → Prop) (w : xw_W) (ν : nS) (x0 o : Nat) (z : Int64) (p0 : Int32) (h : xI g ν x0 w) (hoB : ¬ B o) :
    vx_Met l yX0_linesOf (wsW_ yX0_linesOf cX0_linesOf 4 (some .int) [((0 : Nat), (9 : Nat), (12 : Nat), (13 : Nat))]) (xrm 9 9 1530) (yPc g (yA B o) [.ref x0, .int p0, .ref o] (fun H => xw g B w H ∧ yO g o z H)) (yQ g B x0 o (opLinesOf ν p0)) (yX B o) 9 1530 (yA B o) := by
  refine y_startH rfl (Nat.le_of_ble_eq_true rfl) ?_
  intro p e s m below meth c hx hb hr hlk hml hT hown hts hnm hE hNc hM hS ls hl
  have hF : xFix p m c cX0_linesOf 4 s _ RX0 := ⟨hx, hb, hml, hown, hts⟩
  generalize hargs : List.toArray _ = args at hts hF ⊢
  generalize hQ : vx_MQ below _ _ _ s _ _ _ = Q
  obtain ⟨hM, hO⟩ := hM
  have hnB : ∀ q : Nat, s.heap.size ≤ q → B q := fun q hq => (hE.2.1 q hq).elim id (fun e => absurd hO.lt (Nat.not_lt.mpr (e ▸ hq)))
  obtain ⟨fs0, h00⟩ := h.obj
  refine lv_aload_n hx hb dX0_linesOf_0 rfl (lh_at hl rfl) ?_
  refine n_const hx hb 0 dX0_linesOf_1 (by decide +kernel) ?_
  refine lv_aload_n hx hb dX0_linesOf_2 rfl (lh_at hl rfl) ?_
  refine lv_iload_n hx hb dX0_linesOf_3 rfl (lh_at hl rfl) ?_
  refine y_call (y_runVX (As := [.int p0]) hF hE hS (fun q h => Or.inl h) hnB hM hl (xk_linesOf l hlt g B w ν x0 p0 h) (xw.recv3 hE hM h00 rfl) q1240 q1241 q1242 q38 q1243 ⟨rfl, by decide +kernel, by decide +kernel, by show _ = some 1; decide +kernel⟩ rfl rfl ⟨Nat.le_of_ble_eq_true rfl, Nat.le_of_ble_eq_true rfl⟩ rfl (Nat.le_of_ble_eq_true rfl) dX0_linesOf_4 ⟨Nat.le_of_ble_eq_true rfl, Nat.le_of_ble_eq_true rfl⟩) hS (fun q h => Or.inl h) hoB hO (fun E ce q9 H locs hE9 hM hO hS hce hcv hcl => ?_) (fun r u H locs hq hM hO hS => ?_)
  · obtain ⟨j, hj, hj9⟩ := hE9
    have hw : vOk (opLinesOf ν p0).2.2 → xI g (opLinesOf ν p0).2.2 x0 w := fun _ => by rw [opLinesOf_thr ν p0 (by omega)]; exact h
    rcases j with _ | j
    · cases hj9
      refine vx_catch hown [] ⟨0, 9, 12, 13⟩ [] hT (fun z hz => absurd hz List.not_mem_nil) rfl (by decide) (hts _ q210) (va_Nw.use rfl (hE.2.2.1 _ q301 rfl)) hce hcv hcl ?_
      refine x_astore_n hx hb dX0_linesOf_12 rfl hl (by decide) (fun ls hl => ?_)
      refine n_const hx hb 1 dX0_linesOf_13 (by decide +kernel) ?_
      exact hQ ▸ vx_ret (x_iret hx hb hr hlk hS (w, z) ⟨by rw [hj], fun h0 => absurd (hj.symm.trans h0) (Nat.succ_ne_zero _), hw⟩ ⟨hM, hO⟩ dX0_linesOf_14)
    · simp at hj9
  · refine lv_i2l hx hb dX0_linesOf_7 rfl ?_
    refine y_last hx hb hE hM hS (Or.inr rfl) hoB hO dX0_linesOf_8 (fun H locs hM hO hS => ?_)
    refine lv_goto (tgt := 15) hx hb dX0_linesOf_9 (by decide) ?_
    refine n_const hx hb 0 dX0_linesOf_15 (by decide +kernel) ?_
    exact hQ ▸ vx_ret (x_iret hx hb hr hlk hS (u, r.toInt64) ⟨by rw [hq.1], fun _ => by rw [hq.2.1], hq.2.2⟩ ⟨hM, hO⟩ dX0_linesOf_16)
