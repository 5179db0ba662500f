/-! Aislewright: what only asks (2): by the router -/
set_option maxRecDepth 100000
theorem xk_lengthAlone (l : Launch) (hlt : l.stackTraces = false) (g : xg) (A : Nat → Prop) (w : xw_W) (ν : nS) (x0 : Nat) (k : Int32) (h : xI g ν x0 w) :
    vx_Met l yX1_lengthAlone (ws_ yX1_lengthAlone cX1_lengthAlone 2 (some .int)) (xrm 8 9 1530) (xPw g A w [.ref x0, .int k]) (opQi g A x0 (opLengthAlone ν k)) (opQX g A w [eIB] (opLengthAlone ν k)) 9 1530 A := by
  obtain ⟨hO, ad, β, rfl, hβ, hX⟩ := id h
  have h0 := hX.obj
  have hN := hO.N
  refine x_startX rfl (Nat.le_of_ble_eq_true rfl) ?_
  intro p e s m below meth c hx hb hr hlk hml hxt hown hts hnm hE hM hS ls hl
  have hF : xFix p m c cX1_lengthAlone 2 s _ RX1 := ⟨hx, hb, hml, hown, hts⟩
  generalize hargs : List.toArray _ = args at hts hF ⊢
  generalize hQ : vx_MQ below _ _ _ s _ _ A = Q
  refine lv_aload_n hx hb dX1_lengthAlone_0 rfl (lh_at hl rfl) ?_
  refine xr_get (C := RX1) (T := TX1) (N := 12) (ci := 0) (n := 0) hx hb hts in_X1 hown hE hM (by first | assumption | exact va_up_s | rfl | (refine (va_up_n ?_).trans ?_; rotate_left; (first | assumption | exact va_up_s | rfl | (refine (va_up_n ?_).trans ?_; rotate_left; (first | assumption | exact va_up_s | rfl | (refine (va_up_n ?_).trans ?_; rotate_left; (first | assumption | exact va_up_s | rfl | (refine (va_up_n ?_).trans ?_; rotate_left; (first | assumption | exact va_up_s | rfl | (refine (va_up_n ?_).trans ?_; rotate_left; (assumption); omega)); omega)); omega)); omega)); omega)) rfl 8 (by decide) (hts _ q149) (fun _ h => h) rfl dX1_lengthAlone_1 ?_
  refine lv_aload_n hx hb dX1_lengthAlone_4 rfl (lh_at hl rfl) ?_
  refine lv_iload_n hx hb dX1_lengthAlone_5 rfl (lh_at hl rfl) ?_
  refine x_tcallr (x_runVX (As := [.int k]) hF hE hS hM hl (xk_written l hlt g A w ν ad β k hO hX) (xw.recv hE hM (by first | assumption | exact va_up_s | rfl | (refine (va_up_n ?_).trans ?_; rotate_left; (first | assumption | exact va_up_s | rfl | (refine (va_up_n ?_).trans ?_; rotate_left; (first | assumption | exact va_up_s | rfl | (refine (va_up_n ?_).trans ?_; rotate_left; (first | assumption | exact va_up_s | rfl | (refine (va_up_n ?_).trans ?_; rotate_left; (first | assumption | exact va_up_s | rfl | (refine (va_up_n ?_).trans ?_; rotate_left; (assumption); omega)); omega)); omega)); omega)); omega)) rfl) q991 q993 qs8 q38 q994 ⟨rfl, by decide +kernel, by decide +kernel, by show _ = some 1; decide +kernel⟩ rfl rfl ⟨Nat.le_of_ble_eq_true rfl, Nat.le_of_ble_eq_true rfl⟩ rfl (Nat.le_of_ble_eq_true rfl) dX1_lengthAlone_6 ⟨Nat.le_of_ble_eq_true rfl, Nat.le_of_ble_eq_true rfl⟩) hS hQ hxt hlk (Nat.le_of_ble_eq_true rfl) (Nat.le_of_ble_eq_true rfl) (fun E9 H9 hE9 hP9 => ?_) (fun uu ra H locs hq hM hS => ?_)
  · exact ⟨⟨xCode.at (by unfold opLengthAlone; rw [hE9.2]) rfl hE9.1, rfl⟩, hP9⟩
  · obtain ⟨⟨o, ho, hra⟩, hM⟩ := hM
    rw [hra]
    have hoN := (xr_some (by omega) ho).1
    have ho2 := (hX.os hoN).1
    refine xr_getN (C := RX5) (T := TX5) (N := 4) (ci := 4) (n := (2000 + 2 * o)) hx hb hts in_X5 hown hE hM (by first | assumption | exact va_up_s | rfl | (refine (va_up_n ?_).trans ?_; rotate_left; (first | assumption | exact va_up_s | rfl | (refine (va_up_n ?_).trans ?_; rotate_left; (first | assumption | exact va_up_s | rfl | (refine (va_up_n ?_).trans ?_; rotate_left; (first | assumption | exact va_up_s | rfl | (refine (va_up_n ?_).trans ?_; rotate_left; (first | assumption | exact va_up_s | rfl | (refine (va_up_n ?_).trans ?_; rotate_left; (assumption); omega)); omega)); omega)); omega)); omega)) rfl 2 (by decide) q959 (fun _ h => h) rfl dX1_lengthAlone_9 ?_
    obtain ⟨σ, hM, hX2⟩ := hX.rget hM
    refine x_calli (x_runV (As := [.int (nI (wantN ν o))]) hF hE hS hM hl (xk_length l g A w ad σ ν (wantN ν o) hX.rB hO.V (want_okSet hO.V hoN)) (by exact xw.recv hE hM rW_8 rfl) q1021 q1022 q1023 q42 q1024 ⟨rfl, by decide +kernel, by decide +kernel, by show _ = some 1; decide +kernel⟩ rfl rfl ⟨Nat.le_of_ble_eq_true rfl, Nat.le_of_ble_eq_true rfl⟩ rfl (Nat.le_of_ble_eq_true rfl) dX1_lengthAlone_12 ⟨Nat.le_of_ble_eq_true rfl, Nat.le_of_ble_eq_true rfl⟩) hS (fun r u H locs hq hM hS => ?_)
    exact hQ ▸ vx_ret (x_iret hx hb hr hlk hS (rW g w ad u) ⟨by unfold opLengthAlone; rw [ho], by unfold opLengthAlone; rw [ho]; exact hq.1, by unfold opLengthAlone; rw [ho]; exact fun _ => ⟨hO, ad, β, rfl, hβ, hX.rput u⟩⟩ hM dX1_lengthAlone_15)
theorem xk_lengthOf (l : Launch) (hlt : l.stackTraces = false) (g : xg) (A : Nat → Prop) (w : xw_W) (ν : nS) (x0 : Nat) (k : Int32) (h : xI g ν x0 w) :
    vx_Met l yX1_lengthOf (ws_ yX1_lengthOf cX1_lengthOf 2 (some .int)) (xrm 8 9 1530) (xPw g A w [.ref x0, .int k]) (opQi g A x0 (opLengthOf ν k)) (opQX g A w [eIB] (opLengthOf ν k)) 9 1530 A := by
  obtain ⟨hO, ad, β, rfl, hβ, hX⟩ := id h
  have h0 := hX.obj
  have hN := hO.B
  refine x_startX rfl (Nat.le_of_ble_eq_true rfl) ?_
  intro p e s m below meth c hx hb hr hlk hml hxt hown hts hnm hE hM hS ls hl
  have hF : xFix p m c cX1_lengthOf 2 s _ RX1 := ⟨hx, hb, hml, hown, hts⟩
  generalize hargs : List.toArray _ = args at hts hF ⊢
  generalize hQ : vx_MQ below _ _ _ s _ _ A = Q
  refine lv_aload_n hx hb dX1_lengthOf_0 rfl (lh_at hl rfl) ?_
  refine xr_get (C := RX1) (T := TX1) (N := 12) (ci := 0) (n := 0) hx hb hts in_X1 hown hE hM (by first | assumption | exact va_up_s | rfl | (refine (va_up_n ?_).trans ?_; rotate_left; (first | assumption | exact va_up_s | rfl | (refine (va_up_n ?_).trans ?_; rotate_left; (first | assumption | exact va_up_s | rfl | (refine (va_up_n ?_).trans ?_; rotate_left; (first | assumption | exact va_up_s | rfl | (refine (va_up_n ?_).trans ?_; rotate_left; (first | assumption | exact va_up_s | rfl | (refine (va_up_n ?_).trans ?_; rotate_left; (assumption); omega)); omega)); omega)); omega)); omega)) rfl 8 (by decide) (hts _ q149) (fun _ h => h) rfl dX1_lengthOf_1 ?_
  refine lv_aload_n hx hb dX1_lengthOf_4 rfl (lh_at hl rfl) ?_
  refine lv_iload_n hx hb dX1_lengthOf_5 rfl (lh_at hl rfl) ?_
  refine x_tcallr (x_runVX (As := [.int k]) hF hE hS hM hl (xk_batch l hlt g A w ν ad β k hO hX) (xw.recv hE hM (by first | assumption | exact va_up_s | rfl | (refine (va_up_n ?_).trans ?_; rotate_left; (first | assumption | exact va_up_s | rfl | (refine (va_up_n ?_).trans ?_; rotate_left; (first | assumption | exact va_up_s | rfl | (refine (va_up_n ?_).trans ?_; rotate_left; (first | assumption | exact va_up_s | rfl | (refine (va_up_n ?_).trans ?_; rotate_left; (first | assumption | exact va_up_s | rfl | (refine (va_up_n ?_).trans ?_; rotate_left; (assumption); omega)); omega)); omega)); omega)); omega)) rfl) q1185 q1187 qs17 q38 q1188 ⟨rfl, by decide +kernel, by decide +kernel, by show _ = some 1; decide +kernel⟩ rfl rfl ⟨Nat.le_of_ble_eq_true rfl, Nat.le_of_ble_eq_true rfl⟩ rfl (Nat.le_of_ble_eq_true rfl) dX1_lengthOf_6 ⟨Nat.le_of_ble_eq_true rfl, Nat.le_of_ble_eq_true rfl⟩) hS hQ hxt hlk (Nat.le_of_ble_eq_true rfl) (Nat.le_of_ble_eq_true rfl) (fun E9 H9 hE9 hP9 => ?_) (fun uu ra H locs hq hM hS => ?_)
  · exact ⟨⟨xCode.at (by unfold opLengthOf; rw [hE9.2]) rfl hE9.1, rfl⟩, hP9⟩
  · obtain ⟨⟨o, ho, hra⟩, hM⟩ := hM
    rw [hra]
    have hoN := (xr_some (by omega) ho).1
    have ho2 := (hX.bs hoN).1
    refine xr_getN (C := RX6) (T := TX6) (N := 3) (ci := 5) (n := (bN β o)) hx hb hts in_X6 hown hE hM (by first | assumption | exact va_up_s | rfl | (refine (va_up_n ?_).trans ?_; rotate_left; (first | assumption | exact va_up_s | rfl | (refine (va_up_n ?_).trans ?_; rotate_left; (first | assumption | exact va_up_s | rfl | (refine (va_up_n ?_).trans ?_; rotate_left; (first | assumption | exact va_up_s | rfl | (refine (va_up_n ?_).trans ?_; rotate_left; (first | assumption | exact va_up_s | rfl | (refine (va_up_n ?_).trans ?_; rotate_left; (assumption); omega)); omega)); omega)); omega)); omega)) rfl 1 (by decide) q1125 (fun _ h => h) rfl dX1_lengthOf_9 ?_
    obtain ⟨σ, hM, hX2⟩ := hX.rget hM
    refine x_calli (x_runV (As := [.int (nI (pAll ν o))]) hF hE hS hM hl (xk_length l g A w ad σ ν (pAll ν o) hX.rB hO.V (hO.pset hoN)) (by exact xw.recv hE hM rW_8 rfl) q1021 q1022 q1023 q42 q1024 ⟨rfl, by decide +kernel, by decide +kernel, by show _ = some 1; decide +kernel⟩ rfl rfl ⟨Nat.le_of_ble_eq_true rfl, Nat.le_of_ble_eq_true rfl⟩ rfl (Nat.le_of_ble_eq_true rfl) dX1_lengthOf_12 ⟨Nat.le_of_ble_eq_true rfl, Nat.le_of_ble_eq_true rfl⟩) hS (fun r u H locs hq hM hS => ?_)
    exact hQ ▸ vx_ret (x_iret hx hb hr hlk hS (rW g w ad u) ⟨by unfold opLengthOf; rw [ho], by unfold opLengthOf; rw [ho]; exact hq.1, by unfold opLengthOf; rw [ho]; exact fun _ => ⟨hO, ad, β, rfl, hβ, hX.rput u⟩⟩ hM dX1_lengthOf_15)
theorem xk_lengthThrough (l : Launch) (hlt : l.stackTraces = false) (g : xg) (A : Nat → Prop) (w : xw_W) (ν : nS) (x0 : Nat) (k : Int32) (h : xI g ν x0 w) :
    vx_Met l yX1_lengthThrough (ws_ yX1_lengthThrough cX1_lengthThrough 2 (some .int)) (xrm 8 9 1530) (xPw g A w [.ref x0, .int k]) (opQi g A x0 (opThrough ν k)) (opQX g A w [eIB] (opThrough ν k)) 9 1530 A := by
  obtain ⟨hO, ad, β, rfl, hβ, hX⟩ := id h
  have h0 := hX.obj
  have hN := hO.B
  refine x_startX rfl (Nat.le_of_ble_eq_true rfl) ?_
  intro p e s m below meth c hx hb hr hlk hml hxt hown hts hnm hE hM hS ls hl
  have hF : xFix p m c cX1_lengthThrough 2 s _ RX1 := ⟨hx, hb, hml, hown, hts⟩
  generalize hargs : List.toArray _ = args at hts hF ⊢
  generalize hQ : vx_MQ below _ _ _ s _ _ A = Q
  refine lv_aload_n hx hb dX1_lengthThrough_0 rfl (lh_at hl rfl) ?_
  refine xr_get (C := RX1) (T := TX1) (N := 12) (ci := 0) (n := 0) hx hb hts in_X1 hown hE hM (by first | assumption | exact va_up_s | rfl | (refine (va_up_n ?_).trans ?_; rotate_left; (first | assumption | exact va_up_s | rfl | (refine (va_up_n ?_).trans ?_; rotate_left; (first | assumption | exact va_up_s | rfl | (refine (va_up_n ?_).trans ?_; rotate_left; (first | assumption | exact va_up_s | rfl | (refine (va_up_n ?_).trans ?_; rotate_left; (first | assumption | exact va_up_s | rfl | (refine (va_up_n ?_).trans ?_; rotate_left; (assumption); omega)); omega)); omega)); omega)); omega)) rfl 8 (by decide) (hts _ q149) (fun _ h => h) rfl dX1_lengthThrough_1 ?_
  refine lv_aload_n hx hb dX1_lengthThrough_4 rfl (lh_at hl rfl) ?_
  refine lv_iload_n hx hb dX1_lengthThrough_5 rfl (lh_at hl rfl) ?_
  refine x_tcallr (x_runVX (As := [.int k]) hF hE hS hM hl (xk_batch l hlt g A w ν ad β k hO hX) (xw.recv hE hM (by first | assumption | exact va_up_s | rfl | (refine (va_up_n ?_).trans ?_; rotate_left; (first | assumption | exact va_up_s | rfl | (refine (va_up_n ?_).trans ?_; rotate_left; (first | assumption | exact va_up_s | rfl | (refine (va_up_n ?_).trans ?_; rotate_left; (first | assumption | exact va_up_s | rfl | (refine (va_up_n ?_).trans ?_; rotate_left; (first | assumption | exact va_up_s | rfl | (refine (va_up_n ?_).trans ?_; rotate_left; (assumption); omega)); omega)); omega)); omega)); omega)) rfl) q1185 q1187 qs17 q38 q1188 ⟨rfl, by decide +kernel, by decide +kernel, by show _ = some 1; decide +kernel⟩ rfl rfl ⟨Nat.le_of_ble_eq_true rfl, Nat.le_of_ble_eq_true rfl⟩ rfl (Nat.le_of_ble_eq_true rfl) dX1_lengthThrough_6 ⟨Nat.le_of_ble_eq_true rfl, Nat.le_of_ble_eq_true rfl⟩) hS hQ hxt hlk (Nat.le_of_ble_eq_true rfl) (Nat.le_of_ble_eq_true rfl) (fun E9 H9 hE9 hP9 => ?_) (fun uu ra H locs hq hM hS => ?_)
  · exact ⟨⟨xCode.at (by unfold opThrough; rw [hE9.2]) rfl hE9.1, rfl⟩, hP9⟩
  · obtain ⟨⟨o, ho, hra⟩, hM⟩ := hM
    rw [hra]
    have hoN := (xr_some (by omega) ho).1
    have ho2 := (hX.bs hoN).1
    refine xr_getN (C := RX6) (T := TX6) (N := 3) (ci := 5) (n := (bN β o)) hx hb hts in_X6 hown hE hM (by first | assumption | exact va_up_s | rfl | (refine (va_up_n ?_).trans ?_; rotate_left; (first | assumption | exact va_up_s | rfl | (refine (va_up_n ?_).trans ?_; rotate_left; (first | assumption | exact va_up_s | rfl | (refine (va_up_n ?_).trans ?_; rotate_left; (first | assumption | exact va_up_s | rfl | (refine (va_up_n ?_).trans ?_; rotate_left; (first | assumption | exact va_up_s | rfl | (refine (va_up_n ?_).trans ?_; rotate_left; (assumption); omega)); omega)); omega)); omega)); omega)) rfl 1 (by decide) q1125 (fun _ h => h) rfl dX1_lengthThrough_9 ?_
    obtain ⟨σ, hM, hX2⟩ := hX.rget hM
    refine x_callv (x_runVN (As := [.int (nI (pAll ν o))]) hF hE hS hM hl (xk_lays l g A w ad σ ν (pAll ν o) hX.rB hO.V (hO.pset hoN)) (by exact xw.recv hE hM rW_8 rfl) q1260 q1027 qs9 q42 q1028 ⟨rfl, by decide +kernel, by decide +kernel, by show _ = some 1; decide +kernel⟩ rfl rfl ⟨Nat.le_of_ble_eq_true rfl, Nat.le_of_ble_eq_true rfl⟩ rfl (Nat.le_of_ble_eq_true rfl) dX1_lengthThrough_12 ⟨Nat.le_of_ble_eq_true rfl, Nat.le_of_ble_eq_true rfl⟩) hS (fun u H locs hq hM hS => ?_)
    have h02 := (hX.rput u).obj
    refine lv_aload_n hx hb dX1_lengthThrough_15 rfl (lh_at hl rfl) ?_
    refine xr_get (C := RX1) (T := TX1) (N := 12) (ci := 0) (n := 0) hx hb hts in_X1 hown hE hM (by first | assumption | exact va_up_s | rfl | (refine (va_up_n ?_).trans ?_; rotate_left; (first | assumption | exact va_up_s | rfl | (refine (va_up_n ?_).trans ?_; rotate_left; (first | assumption | exact va_up_s | rfl | (refine (va_up_n ?_).trans ?_; rotate_left; (first | assumption | exact va_up_s | rfl | (refine (va_up_n ?_).trans ?_; rotate_left; (first | assumption | exact va_up_s | rfl | (refine (va_up_n ?_).trans ?_; rotate_left; (assumption); omega)); omega)); omega)); omega)); omega)) rfl 8 (by decide) (hts _ q149) (fun _ h => h) rfl dX1_lengthThrough_16 ?_
    refine x_calli (x_runV (As := []) hF hE hS hM hl (xk_through l g A w ad u ν (pAll ν o) hX.rB hO.V (hO.pset hoN) hq.1) (by exact xw.recv hE hM rW_8 rfl) q1277 q1278 q1279 q42 q1280 ⟨rfl, by decide +kernel, by decide +kernel, by show _ = some 0; decide +kernel⟩ rfl rfl ⟨Nat.le_of_ble_eq_true rfl, Nat.le_of_ble_eq_true rfl⟩ rfl (Nat.le_of_ble_eq_true rfl) dX1_lengthThrough_19 ⟨Nat.le_of_ble_eq_true rfl, Nat.le_of_ble_eq_true rfl⟩) hS (fun r u2 H locs hq2 hM hS => ?_)
    exact hQ ▸ vx_ret (x_iret hx hb hr hlk hS (rW g w ad u2) ⟨by unfold opThrough; rw [ho], by unfold opThrough; rw [ho]; exact hq2.1, by unfold opThrough; rw [ho]; exact fun _ => ⟨hO, ad, β, rfl, hβ, hX.rput u2⟩⟩ hM dX1_lengthThrough_22)
theorem xk_stopAt (l : Launch) (hlt : l.stackTraces = false) (g : xg) (A : Nat → Prop) (w : xw_W) (ν : nS) (x0 : Nat) (k t : Int32) (h : xI g ν x0 w) :
    vx_Met l yX1_stopAt (ws_ yX1_stopAt cX1_stopAt 4 (some .int)) (xrm 8 18 3060) (xPw g A w [.ref x0, .int k, .int t]) (opQi g A x0 (opStopAt ν k t)) (opQX g A w [eIB] (opStopAt ν k t)) 18 3060 A := by
  obtain ⟨hO, ad, β, rfl, hβ, hX⟩ := id h
  have h0 := hX.obj
  have hN := hO.B
  refine x_startX rfl (Nat.le_of_ble_eq_true rfl) ?_
  intro p e s m below meth c hx hb hr hlk hml hxt hown hts hnm hE hM hS ls hl
  have hF : xFix p m c cX1_stopAt 4 s _ RX1 := ⟨hx, hb, hml, hown, hts⟩
  generalize hargs : List.toArray _ = args at hts hF ⊢
  generalize hQ : vx_MQ below _ _ _ s _ _ A = Q
  refine lv_aload_n hx hb dX1_stopAt_0 rfl (lh_at hl rfl) ?_
  refine lv_iload_n hx hb dX1_stopAt_1 rfl (lh_at hl rfl) ?_
  refine x_tcallr (x_runVX (As := [.int k]) hF hE hS hM hl (xk_batch l hlt g A w ν ad β k hO hX) (xw.recv hE hM (by first | assumption | exact va_up_s | rfl | (refine (va_up_n ?_).trans ?_; rotate_left; (first | assumption | exact va_up_s | rfl | (refine (va_up_n ?_).trans ?_; rotate_left; (first | assumption | exact va_up_s | rfl | (refine (va_up_n ?_).trans ?_; rotate_left; (first | assumption | exact va_up_s | rfl | (refine (va_up_n ?_).trans ?_; rotate_left; (first | assumption | exact va_up_s | rfl | (refine (va_up_n ?_).trans ?_; rotate_left; (assumption); omega)); omega)); omega)); omega)); omega)) rfl) q1185 q1187 qs17 q38 q1188 ⟨rfl, by decide +kernel, by decide +kernel, by show _ = some 1; decide +kernel⟩ rfl rfl ⟨Nat.le_of_ble_eq_true rfl, Nat.le_of_ble_eq_true rfl⟩ rfl (Nat.le_of_ble_eq_true rfl) dX1_stopAt_2 ⟨Nat.le_of_ble_eq_true rfl, Nat.le_of_ble_eq_true rfl⟩) hS hQ hxt hlk (Nat.le_of_ble_eq_true rfl) (Nat.le_of_ble_eq_true rfl) (fun E9 H9 hE9 hP9 => ?_) (fun uu ra H locs hq hM hS => ?_)
  · exact ⟨⟨xCode.at (by unfold opStopAt; rw [hE9.2]) rfl hE9.1, rfl⟩, hP9⟩
  · obtain ⟨⟨o, ho, hra⟩, hM⟩ := hM
    rw [hra]
    have hoN := (xr_some (by omega) ho).1
    have ho2 := (hX.bs hoN).1
    have hS9 := hO.pset hoN
    have hc9 := hS9.2.2
    refine x_astore_n hx hb dX1_stopAt_5 rfl hl (by decide) (fun ls hl => ?_)
    refine lv_iload_n hx hb dX1_stopAt_6 rfl (lh_at hl rfl) ?_
    refine lv_aload_n hx hb dX1_stopAt_7 rfl (lh_at hl rfl) ?_
    refine xr_getN (C := RX6) (T := TX6) (N := 3) (ci := 5) (n := (bN β o)) hx hb hts in_X6 hown hE hM (by first | assumption | exact va_up_s | rfl | (refine (va_up_n ?_).trans ?_; rotate_left; (first | assumption | exact va_up_s | rfl | (refine (va_up_n ?_).trans ?_; rotate_left; (first | assumption | exact va_up_s | rfl | (refine (va_up_n ?_).trans ?_; rotate_left; (first | assumption | exact va_up_s | rfl | (refine (va_up_n ?_).trans ?_; rotate_left; (first | assumption | exact va_up_s | rfl | (refine (va_up_n ?_).trans ?_; rotate_left; (assumption); omega)); omega)); omega)); omega)); omega)) rfl 1 (by decide) q1125 (fun _ h => h) rfl dX1_stopAt_8 ?_
    refine x_calli (x_runS (As := [.int (nI (pAll ν o))]) hF hE hS hM hl (jk_bitCount l g A (xw g A w) (pAll ν o) hS9.1) q1258 q1001 q60 q1002 ⟨by decide +kernel, by decide +kernel, by show _ = some 1; decide +kernel⟩ rfl rfl ⟨Nat.le_of_ble_eq_true rfl, Nat.le_of_ble_eq_true rfl⟩ rfl (Nat.le_of_ble_eq_true rfl) dX1_stopAt_11 ⟨Nat.le_of_ble_eq_true rfl, Nat.le_of_ble_eq_true rfl⟩) hS (fun r uu H locs hq hM hS => ?_)
    rw [hq, ← cntN_eq (ν := ν)]
    refine xr_ldcw hx hb hown hE (i := 17) (k := 289) rfl dX1_stopAt_14 ?_
    refine x_tcalli (x_runSX (As := [.int t, .int (nI (cntN ν (pAll ν o))), .ref (g.2 (100 + 289))]) hF hE hS hM hl (xk_within l hlt g A w t (cntN ν (pAll ν o)) (289, "stop") (List.mem_of_getElem? (i := 17) rfl) (by omega)) q296 q297 q38 q298 ⟨by decide +kernel, by decide +kernel, by show _ = some 3; decide +kernel⟩ rfl rfl ⟨Nat.le_of_ble_eq_true rfl, Nat.le_of_ble_eq_true rfl⟩ rfl (Nat.le_of_ble_eq_true rfl) dX1_stopAt_17 ⟨Nat.le_of_ble_eq_true rfl, Nat.le_of_ble_eq_true rfl⟩) hS hQ hxt hlk (Nat.le_of_ble_eq_true rfl) (Nat.le_of_ble_eq_true rfl) (fun E9 H9 hE9 hP9 => ?_) (fun r uu H locs hq hM hS => ?_)
    · exact ⟨⟨xCode.at (j := 0) (by unfold opStopAt; rw [ho]; simp only [hE9.2]) rfl hE9.1, rfl⟩, hP9⟩
    · obtain ⟨i, hi, rfl⟩ := hq
      obtain ⟨hi9, rfl⟩ := xr_some (by omega) hi
      refine lv_pop hx hb dX1_stopAt_20 rfl ?_
      refine lv_aload_n hx hb dX1_stopAt_21 rfl (lh_at hl rfl) ?_
      refine xr_get (C := RX1) (T := TX1) (N := 12) (ci := 0) (n := 0) hx hb hts in_X1 hown hE hM (by first | assumption | exact va_up_s | rfl | (refine (va_up_n ?_).trans ?_; rotate_left; (first | assumption | exact va_up_s | rfl | (refine (va_up_n ?_).trans ?_; rotate_left; (first | assumption | exact va_up_s | rfl | (refine (va_up_n ?_).trans ?_; rotate_left; (first | assumption | exact va_up_s | rfl | (refine (va_up_n ?_).trans ?_; rotate_left; (first | assumption | exact va_up_s | rfl | (refine (va_up_n ?_).trans ?_; rotate_left; (assumption); omega)); omega)); omega)); omega)); omega)) rfl 8 (by decide) (hts _ q149) (fun _ h => h) rfl dX1_stopAt_22 ?_
      refine lv_aload_n hx hb dX1_stopAt_25 rfl (lh_at hl rfl) ?_
      refine xr_getN (C := RX6) (T := TX6) (N := 3) (ci := 5) (n := (bN β o)) hx hb hts in_X6 hown hE hM (by first | assumption | exact va_up_s | rfl | (refine (va_up_n ?_).trans ?_; rotate_left; (first | assumption | exact va_up_s | rfl | (refine (va_up_n ?_).trans ?_; rotate_left; (first | assumption | exact va_up_s | rfl | (refine (va_up_n ?_).trans ?_; rotate_left; (first | assumption | exact va_up_s | rfl | (refine (va_up_n ?_).trans ?_; rotate_left; (first | assumption | exact va_up_s | rfl | (refine (va_up_n ?_).trans ?_; rotate_left; (assumption); omega)); omega)); omega)); omega)); omega)) rfl 1 (by decide) q1125 (fun _ h => h) rfl dX1_stopAt_26 ?_
      refine lv_iload_n hx hb dX1_stopAt_29 rfl (lh_at hl rfl) ?_
      obtain ⟨σ, hM, hX2⟩ := hX.rget hM
      refine x_calli (x_runV (As := [.int (nI (pAll ν o)), .int (nI i)]) hF hE hS hM hl (xk_stop l g A w ad σ ν (pAll ν o) i hX.rB hO.V hS9 hi9) (by exact xw.recv hE hM rW_8 rfl) q1296 q1297 q1298 q42 q1299 ⟨rfl, by decide +kernel, by decide +kernel, by show _ = some 2; decide +kernel⟩ rfl rfl ⟨Nat.le_of_ble_eq_true rfl, Nat.le_of_ble_eq_true rfl⟩ rfl (Nat.le_of_ble_eq_true rfl) dX1_stopAt_30 ⟨Nat.le_of_ble_eq_true rfl, Nat.le_of_ble_eq_true rfl⟩) hS (fun r u H locs hq hM hS => ?_)
      exact hQ ▸ vx_ret (x_iret hx hb hr hlk hS (rW g w ad u) ⟨by unfold opStopAt; rw [ho]; simp only [hi], by unfold opStopAt; rw [ho]; simp only [hi]; exact hq, by unfold opStopAt; rw [ho]; simp only [hi]; exact fun _ => ⟨hO, ad, β, rfl, hβ, hX.rput u⟩⟩ hM dX1_stopAt_33)
theorem xk_lengthByTrying (l : Launch) (hlt : l.stackTraces = false) (g : xg) (A : Nat → Prop) (w : xw_W) (ν : nS) (x0 : Nat) (k : Int32) (h : xI g ν x0 w) :
    vx_Met l yX1_lengthByTrying (ws_ yX1_lengthByTrying cX1_lengthByTrying 3 (some .int)) (xrm 11 10 1536) (xPw g A w [.ref x0, .int k]) (opQi g A x0 (opByTrying ν k)) (opQX g A w [eIB, eIS] (opByTrying ν k)) 10 1536 A := by
  obtain ⟨hO, ad, β, rfl, hβ, hX⟩ := id h
  have h0 := hX.obj
  have hN := hO.B
  refine x_startX rfl (Nat.le_of_ble_eq_true rfl) ?_
  intro p e s m below meth c hx hb hr hlk hml hxt hown hts hnm hE hM hS ls hl
  have hF : xFix p m c cX1_lengthByTrying 3 s _ RX1 := ⟨hx, hb, hml, hown, hts⟩
  generalize hargs : List.toArray _ = args at hts hF ⊢
  generalize hQ : vx_MQ below _ _ _ s _ _ A = Q
  refine lv_aload_n hx hb dX1_lengthByTrying_0 rfl (lh_at hl rfl) ?_
  refine lv_iload_n hx hb dX1_lengthByTrying_1 rfl (lh_at hl rfl) ?_
  refine x_tcallr (x_runVX (As := [.int k]) hF hE hS hM hl (xk_batch l hlt g A w ν ad β k hO hX) (xw.recv hE hM (by first | assumption | exact va_up_s | rfl | (refine (va_up_n ?_).trans ?_; rotate_left; (first | assumption | exact va_up_s | rfl | (refine (va_up_n ?_).trans ?_; rotate_left; (first | assumption | exact va_up_s | rfl | (refine (va_up_n ?_).trans ?_; rotate_left; (first | assumption | exact va_up_s | rfl | (refine (va_up_n ?_).trans ?_; rotate_left; (first | assumption | exact va_up_s | rfl | (refine (va_up_n ?_).trans ?_; rotate_left; (assumption); omega)); omega)); omega)); omega)); omega)) rfl) q1185 q1187 qs17 q38 q1188 ⟨rfl, by decide +kernel, by decide +kernel, by show _ = some 1; decide +kernel⟩ rfl rfl ⟨Nat.le_of_ble_eq_true rfl, Nat.le_of_ble_eq_true rfl⟩ rfl (Nat.le_of_ble_eq_true rfl) dX1_lengthByTrying_2 ⟨Nat.le_of_ble_eq_true rfl, Nat.le_of_ble_eq_true rfl⟩) hS hQ hxt hlk (Nat.le_of_ble_eq_true rfl) (Nat.le_of_ble_eq_true rfl) (fun E9 H9 hE9 hP9 => ?_) (fun uu ra H locs hq hM hS => ?_)
  · exact ⟨⟨xCode.at (j := 0) (by unfold opByTrying; rw [hE9.2]) rfl hE9.1, rfl⟩, hP9⟩
  · obtain ⟨⟨o, ho, hra⟩, hM⟩ := hM
    rw [hra]
    have hoN := (xr_some (by omega) ho).1
    have ho2 := (hX.bs hoN).1
    have hS9 := hO.pset hoN
    have hc9 := hS9.2.2
    have hc0 := cnt_pos hO hβ hoN
    refine x_astore_n hx hb dX1_lengthByTrying_5 rfl hl (by decide) (fun ls hl => ?_)
    refine lv_aload_n hx hb dX1_lengthByTrying_6 rfl (lh_at hl rfl) ?_
    refine xr_getN (C := RX6) (T := TX6) (N := 3) (ci := 5) (n := (bN β o)) hx hb hts in_X6 hown hE hM (by first | assumption | exact va_up_s | rfl | (refine (va_up_n ?_).trans ?_; rotate_left; (first | assumption | exact va_up_s | rfl | (refine (va_up_n ?_).trans ?_; rotate_left; (first | assumption | exact va_up_s | rfl | (refine (va_up_n ?_).trans ?_; rotate_left; (first | assumption | exact va_up_s | rfl | (refine (va_up_n ?_).trans ?_; rotate_left; (first | assumption | exact va_up_s | rfl | (refine (va_up_n ?_).trans ?_; rotate_left; (assumption); omega)); omega)); omega)); omega)); omega)) rfl 1 (by decide) q1125 (fun _ h => h) rfl dX1_lengthByTrying_7 ?_
    refine x_calli (x_runS (As := [.int (nI (pAll ν o))]) hF hE hS hM hl (jk_bitCount l g A (xw g A w) (pAll ν o) hS9.1) q1258 q1001 q60 q1002 ⟨by decide +kernel, by decide +kernel, by show _ = some 1; decide +kernel⟩ rfl rfl ⟨Nat.le_of_ble_eq_true rfl, Nat.le_of_ble_eq_true rfl⟩ rfl (Nat.le_of_ble_eq_true rfl) dX1_lengthByTrying_10 ⟨Nat.le_of_ble_eq_true rfl, Nat.le_of_ble_eq_true rfl⟩) hS (fun r uu H locs hq hM hS => ?_)
    rw [hq, ← cntN_eq (ν := ν)]
    refine n_bipush hx hb 7 dX1_lengthByTrying_13 (by decide +kernel) ?_
    refine n_icmp_gt (tgt := 22) hx hb dX1_lengthByTrying_15 (by decide) (by omega) (by omega) (fun c1 => ?_) (fun c1 => ?_)
    · refine n_const hx hb 0 dX1_lengthByTrying_22 (by decide +kernel) ?_
      refine xr_ldcw hx hb hown hE (i := 16) (k := 275) rfl dX1_lengthByTrying_23 ?_
      refine x_tcallv (x_runSX (As := [.int (nI 0), .ref (g.2 (100 + 275))]) hF hE hS hM hl (xk_must l hlt g A w (nI 0) (g.2 (100 + 275))) q573 q574 q38 q575 ⟨by decide +kernel, by decide +kernel, by show _ = some 2; decide +kernel⟩ rfl rfl ⟨Nat.le_of_ble_eq_true rfl, Nat.le_of_ble_eq_true rfl⟩ rfl (Nat.le_of_ble_eq_true rfl) dX1_lengthByTrying_26 ⟨Nat.le_of_ble_eq_true rfl, Nat.le_of_ble_eq_true rfl⟩) hS hQ hxt hlk (Nat.le_of_ble_eq_true rfl) (Nat.le_of_ble_eq_true rfl) (fun E9 H9 hE9 hP9 => ?_) (fun uu H locs hq hM hS => ?_)
      · exact ⟨⟨xCode.at (j := 1) (by unfold opByTrying; rw [ho]; simp only [if_pos c1]) rfl hE9.1, rfl⟩, hP9⟩
      · exact absurd rfl hq
    · refine n_const hx hb 1 dX1_lengthByTrying_18 (by decide +kernel) ?_
      refine lv_goto (tgt := 23) hx hb dX1_lengthByTrying_19 (by decide) ?_
      refine xr_ldcw hx hb hown hE (i := 16) (k := 275) rfl dX1_lengthByTrying_23 ?_
      refine x_tcallv (x_runSX (As := [.int (nI 1), .ref (g.2 (100 + 275))]) hF hE hS hM hl (xk_must l hlt g A w (nI 1) (g.2 (100 + 275))) q573 q574 q38 q575 ⟨by decide +kernel, by decide +kernel, by show _ = some 2; decide +kernel⟩ rfl rfl ⟨Nat.le_of_ble_eq_true rfl, Nat.le_of_ble_eq_true rfl⟩ rfl (Nat.le_of_ble_eq_true rfl) dX1_lengthByTrying_26 ⟨Nat.le_of_ble_eq_true rfl, Nat.le_of_ble_eq_true rfl⟩) hS hQ hxt hlk (Nat.le_of_ble_eq_true rfl) (Nat.le_of_ble_eq_true rfl) (fun E9 H9 hE9 hP9 => ?_) (fun uu H locs hq hM hS => ?_)
      · exact absurd hE9.2 (by decide)
      · refine lv_aload_n hx hb dX1_lengthByTrying_29 rfl (lh_at hl rfl) ?_
        refine xr_get (C := RX1) (T := TX1) (N := 12) (ci := 0) (n := 0) hx hb hts in_X1 hown hE hM (by first | assumption | exact va_up_s | rfl | (refine (va_up_n ?_).trans ?_; rotate_left; (first | assumption | exact va_up_s | rfl | (refine (va_up_n ?_).trans ?_; rotate_left; (first | assumption | exact va_up_s | rfl | (refine (va_up_n ?_).trans ?_; rotate_left; (first | assumption | exact va_up_s | rfl | (refine (va_up_n ?_).trans ?_; rotate_left; (first | assumption | exact va_up_s | rfl | (refine (va_up_n ?_).trans ?_; rotate_left; (assumption); omega)); omega)); omega)); omega)); omega)) rfl 8 (by decide) (hts _ q149) (fun _ h => h) rfl dX1_lengthByTrying_30 ?_
        refine lv_aload_n hx hb dX1_lengthByTrying_33 rfl (lh_at hl rfl) ?_
        refine xr_getN (C := RX6) (T := TX6) (N := 3) (ci := 5) (n := (bN β o)) hx hb hts in_X6 hown hE hM (by first | assumption | exact va_up_s | rfl | (refine (va_up_n ?_).trans ?_; rotate_left; (first | assumption | exact va_up_s | rfl | (refine (va_up_n ?_).trans ?_; rotate_left; (first | assumption | exact va_up_s | rfl | (refine (va_up_n ?_).trans ?_; rotate_left; (first | assumption | exact va_up_s | rfl | (refine (va_up_n ?_).trans ?_; rotate_left; (first | assumption | exact va_up_s | rfl | (refine (va_up_n ?_).trans ?_; rotate_left; (assumption); omega)); omega)); omega)); omega)); omega)) rfl 1 (by decide) q1125 (fun _ h => h) rfl dX1_lengthByTrying_34 ?_
        obtain ⟨σ, hM, hX2⟩ := hX.rget hM
        refine x_callv (x_runVN (As := [.int (nI (pAll ν o))]) hF hE hS hM hl (xk_lays l g A w ad σ ν (pAll ν o) hX.rB hO.V hS9) (by exact xw.recv hE hM rW_8 rfl) q1260 q1027 qs9 q42 q1028 ⟨rfl, by decide +kernel, by decide +kernel, by show _ = some 1; decide +kernel⟩ rfl rfl ⟨Nat.le_of_ble_eq_true rfl, Nat.le_of_ble_eq_true rfl⟩ rfl (Nat.le_of_ble_eq_true rfl) dX1_lengthByTrying_37 ⟨Nat.le_of_ble_eq_true rfl, Nat.le_of_ble_eq_true rfl⟩) hS (fun u H locs hq2 hM hS => ?_)
        have h02 := (hX.rput u).obj
        refine lv_aload_n hx hb dX1_lengthByTrying_40 rfl (lh_at hl rfl) ?_
        refine xr_get (C := RX1) (T := TX1) (N := 12) (ci := 0) (n := 0) hx hb hts in_X1 hown hE hM (by first | assumption | exact va_up_s | rfl | (refine (va_up_n ?_).trans ?_; rotate_left; (first | assumption | exact va_up_s | rfl | (refine (va_up_n ?_).trans ?_; rotate_left; (first | assumption | exact va_up_s | rfl | (refine (va_up_n ?_).trans ?_; rotate_left; (first | assumption | exact va_up_s | rfl | (refine (va_up_n ?_).trans ?_; rotate_left; (first | assumption | exact va_up_s | rfl | (refine (va_up_n ?_).trans ?_; rotate_left; (assumption); omega)); omega)); omega)); omega)); omega)) rfl 8 (by decide) (hts _ q149) (fun _ h => h) rfl dX1_lengthByTrying_41 ?_
        refine n_const hx hb 1 dX1_lengthByTrying_44 (by decide +kernel) ?_
        refine lv_aload_n hx hb dX1_lengthByTrying_45 rfl (lh_at hl rfl) ?_
        refine xr_get (C := RX1) (T := TX1) (N := 12) (ci := 0) (n := 0) hx hb hts in_X1 hown hE hM (by first | assumption | exact va_up_s | rfl | (refine (va_up_n ?_).trans ?_; rotate_left; (first | assumption | exact va_up_s | rfl | (refine (va_up_n ?_).trans ?_; rotate_left; (first | assumption | exact va_up_s | rfl | (refine (va_up_n ?_).trans ?_; rotate_left; (first | assumption | exact va_up_s | rfl | (refine (va_up_n ?_).trans ?_; rotate_left; (first | assumption | exact va_up_s | rfl | (refine (va_up_n ?_).trans ?_; rotate_left; (assumption); omega)); omega)); omega)); omega)); omega)) rfl 8 (by decide) (hts _ q149) (fun _ h => h) rfl dX1_lengthByTrying_46 ?_
        refine xr_getN (C := RX2) (T := TX2) (N := 4) (ci := 1) (n := 8) hx hb hts in_X2 hown hE hM (by exact rW_8) rfl 2 (by decide) q121 (fun _ h => h) rfl dX1_lengthByTrying_49 ?_
        rw [hq2.1.1]
        refine n_ishl hx hb (by omega) (by exact pw32 (by omega)) dX1_lengthByTrying_52 ?_
        rw [shl1]
        have hpos := Nat.two_pow_pos (cntN ν (pAll ν o))
        have h2le : 2 ^ 1 ≤ 2 ^ cntN ν (pAll ν o) := Nat.pow_le_pow_right (by decide) hc0
        refine n_const hx hb 1 dX1_lengthByTrying_53 (by decide +kernel) ?_
        refine n_isub hx hb (by omega) dX1_lengthByTrying_54 ?_
        refine lv_iconst (v := -1) hx hb dX1_lengthByTrying_55 (by decide +kernel) ?_
        have hcb : cntB (2 ^ cntN ν (pAll ν o) - 1) (cntN ν (pAll ν o)) = cntN ν (pAll ν o) := cntB_full _ _ (Nat.le_refl _)
        have hR9 : cntN ν (pAll ν o) ≤ 7 := by omega
        refine x_calli (x_runV (As := [.int (nI (2 ^ cntN ν (pAll ν o) - 1)), .int (eA 9)]) hF hE hS hM hl (xk_byTrying l g A w ad u ν (pAll ν o) hX.rB hO.V hS9 hq2.1 (cntN ν (pAll ν o)) (2 ^ cntN ν (pAll ν o) - 1) 9 (by omega) (Or.inl rfl) (fun z => by omega) hcb) (by exact xw.recv hE hM rW_8 rfl) q1261 q1262 q1263 q42 q1264 ⟨rfl, by decide +kernel, by decide +kernel, by show _ = some 2; decide +kernel⟩ rfl rfl (by exact ⟨by show 4 + (3 + cntN ν (pAll ν o)) + 1 ≤ 4 + 11; omega, by show 8 + (5 + 11) + (100 + 64 * (3 + cntN ν (pAll ν o))) ≤ 100 + 64 * 11; omega⟩) rfl (Nat.le_of_ble_eq_true rfl) dX1_lengthByTrying_56 ⟨Nat.le_of_ble_eq_true rfl, Nat.le_of_ble_eq_true rfl⟩) hS (fun r u2 H locs hq3 hM hS => ?_)
        exact hQ ▸ vx_ret (x_iret hx hb hr hlk hS (rW g w ad u2) ⟨by unfold opByTrying; rw [ho]; simp only [if_neg c1], by unfold opByTrying; rw [ho]; simp only [if_neg c1]; exact hq3.1, by unfold opByTrying; rw [ho]; simp only [if_neg c1]; exact fun _ => ⟨hO, ad, β, rfl, hβ, hX.rput u2⟩⟩ hM dX1_lengthByTrying_59)
theorem xk_distance (l : Launch) (hlt : l.stackTraces = false) (g : xg) (A : Nat → Prop) (w : xw_W) (ν : nS) (x0 : Nat) (k t : Int32) (h : xI g ν x0 w) :
    vx_Met l yX1_distance (ws_ yX1_distance cX1_distance 5 (some .int)) (xrm 8 19 3066) (xPw g A w [.ref x0, .int k, .int t]) (opQi g A x0 (opDistance ν k t)) (opQX g A w [eIB, eIS] (opDistance ν k t)) 19 3066 A := by
  obtain ⟨hO, ad, β, rfl, hβ, hX⟩ := id h
  have h0 := hX.obj
  obtain ⟨f, hf, hfv⟩ := hX.pl
  refine x_startX rfl (Nat.le_of_ble_eq_true rfl) ?_
  intro p e s m below meth c hx hb hr hlk hml hxt hown hts hnm hE hM hS ls hl
  have hF : xFix p m c cX1_distance 5 s _ RX1 := ⟨hx, hb, hml, hown, hts⟩
  generalize hargs : List.toArray _ = args at hts hF ⊢
  generalize hQ : vx_MQ below _ _ _ s _ _ A = Q
  refine lv_aload_n hx hb dX1_distance_0 rfl (lh_at hl rfl) ?_
  refine xr_get (C := RX1) (T := TX1) (N := 12) (ci := 0) (n := 0) hx hb hts in_X1 hown hE hM (by first | assumption | exact va_up_s | rfl | (refine (va_up_n ?_).trans ?_; rotate_left; (first | assumption | exact va_up_s | rfl | (refine (va_up_n ?_).trans ?_; rotate_left; (first | assumption | exact va_up_s | rfl | (refine (va_up_n ?_).trans ?_; rotate_left; (first | assumption | exact va_up_s | rfl | (refine (va_up_n ?_).trans ?_; rotate_left; (first | assumption | exact va_up_s | rfl | (refine (va_up_n ?_).trans ?_; rotate_left; (assumption); omega)); omega)); omega)); omega)); omega)) rfl 3 (by decide) (hts _ q143) (fun _ h => h) rfl dX1_distance_1 ?_
  refine lv_iload_n hx hb dX1_distance_4 rfl (lh_at hl rfl) ?_
  refine x_tcalli (x_runSX (As := [.int k]) hF hE hS hM hl (xk_product l hlt g A w k) q292 q293 q38 q294 ⟨by decide +kernel, by decide +kernel, by show _ = some 1; decide +kernel⟩ rfl rfl ⟨Nat.le_of_ble_eq_true rfl, Nat.le_of_ble_eq_true rfl⟩ rfl (Nat.le_of_ble_eq_true rfl) dX1_distance_5 ⟨Nat.le_of_ble_eq_true rfl, Nat.le_of_ble_eq_true rfl⟩) hS hQ hxt hlk (Nat.le_of_ble_eq_true rfl) (Nat.le_of_ble_eq_true rfl) (fun E9 H9 hE9 hP9 => ?_) (fun r uu H locs hq hM hS => ?_)
  · exact ⟨⟨xCode.at (j := 0) (by unfold opDistance; rw [hE9.2]) rfl hE9.1, rfl⟩, hP9⟩
  · obtain ⟨i, hi, rfl⟩ := hq
    have hi20 := (xr_some (by decide) hi).1
    refine xr_iald hx hb hE hM (by first | assumption | exact va_up_s | rfl | (refine (va_up_n ?_).trans ?_; rotate_left; (first | assumption | exact va_up_s | rfl | (refine (va_up_n ?_).trans ?_; rotate_left; (first | assumption | exact va_up_s | rfl | (refine (va_up_n ?_).trans ?_; rotate_left; (first | assumption | exact va_up_s | rfl | (refine (va_up_n ?_).trans ?_; rotate_left; (first | assumption | exact va_up_s | rfl | (refine (va_up_n ?_).trans ?_; rotate_left; (assumption); omega)); omega)); omega)); omega)); omega)) (by omega) (by first | decide | omega) (by exact hfv i hi20) dX1_distance_8 ?_
    refine x_istore_n hx hb dX1_distance_9 rfl hl (by decide) (fun ls hl => ?_)
    refine lv_aload_n hx hb dX1_distance_10 rfl (lh_at hl rfl) ?_
    refine xr_get (C := RX1) (T := TX1) (N := 12) (ci := 0) (n := 0) hx hb hts in_X1 hown hE hM (by first | assumption | exact va_up_s | rfl | (refine (va_up_n ?_).trans ?_; rotate_left; (first | assumption | exact va_up_s | rfl | (refine (va_up_n ?_).trans ?_; rotate_left; (first | assumption | exact va_up_s | rfl | (refine (va_up_n ?_).trans ?_; rotate_left; (first | assumption | exact va_up_s | rfl | (refine (va_up_n ?_).trans ?_; rotate_left; (first | assumption | exact va_up_s | rfl | (refine (va_up_n ?_).trans ?_; rotate_left; (assumption); omega)); omega)); omega)); omega)); omega)) rfl 3 (by decide) (hts _ q143) (fun _ h => h) rfl dX1_distance_11 ?_
    refine lv_iload_n hx hb dX1_distance_14 rfl (lh_at hl rfl) ?_
    refine x_tcalli (x_runSX (As := [.int t]) hF hE hS hM hl (xk_product l hlt g A w t) q292 q293 q38 q294 ⟨by decide +kernel, by decide +kernel, by show _ = some 1; decide +kernel⟩ rfl rfl ⟨Nat.le_of_ble_eq_true rfl, Nat.le_of_ble_eq_true rfl⟩ rfl (Nat.le_of_ble_eq_true rfl) dX1_distance_15 ⟨Nat.le_of_ble_eq_true rfl, Nat.le_of_ble_eq_true rfl⟩) hS hQ hxt hlk (Nat.le_of_ble_eq_true rfl) (Nat.le_of_ble_eq_true rfl) (fun E9 H9 hE9 hP9 => ?_) (fun r uu H locs hq hM hS => ?_)
    · exact ⟨⟨xCode.at (j := 0) (by unfold opDistance; rw [hi]; simp only [hE9.2]) rfl hE9.1, rfl⟩, hP9⟩
    · obtain ⟨j, hj, rfl⟩ := hq
      have hj20 := (xr_some (by decide) hj).1
      refine xr_iald hx hb hE hM (by first | assumption | exact va_up_s | rfl | (refine (va_up_n ?_).trans ?_; rotate_left; (first | assumption | exact va_up_s | rfl | (refine (va_up_n ?_).trans ?_; rotate_left; (first | assumption | exact va_up_s | rfl | (refine (va_up_n ?_).trans ?_; rotate_left; (first | assumption | exact va_up_s | rfl | (refine (va_up_n ?_).trans ?_; rotate_left; (first | assumption | exact va_up_s | rfl | (refine (va_up_n ?_).trans ?_; rotate_left; (assumption); omega)); omega)); omega)); omega)); omega)) (by omega) (by first | decide | omega) (by exact hfv j hj20) dX1_distance_18 ?_
      refine x_istore hx hb dX1_distance_19 hl (by decide) (fun ls hl => ?_)
      refine lv_iload_n hx hb dX1_distance_21 rfl (lh_at hl rfl) ?_
      refine lv_iconst (v := -1) hx hb dX1_distance_22 (by decide +kernel) ?_
      have e0 : ∀ v, v < 2 ^ 31 → (eP v = -1 ↔ v = 0) := by
        intro v hv
        unfold eP
        by_cases z : v = 0
        · simp [z]
        · simp [z]
          exact nI_m1 hv
      have hvi := hO.V.2.2.2.2.2.2.1 i hi20
      have hvj := hO.V.2.2.2.2.2.2.1 j hj20
      have hA6 := hO.V.1.2
      have hP20 := hO.V.2.1.2
      have hbi : vPl ν i < 600 := hvi.elim (fun z => by omega) (fun z => (z.lt hA6 hP20).1)
      have hbj : vPl ν j < 600 := hvj.elim (fun z => by omega) (fun z => (z.lt hA6 hP20).1)
      have no : (vPl ν i = 0 ∨ vPl ν j = 0) → ∀ (H : Heap) (locs : List Loc) (ls : Array Slot), xw g A w H → va_S A s.heap H locs → lh ls 5 (xl [(0, .ref (ad 0))]) → W p l e (xrm 8 19 3066) s m args below meth c H locs 18 3060 Q (F0 m 36 ls []) := by
        intro hz H locs ls hM hS hl
        refine n_const hx hb 0 dX1_distance_36 (by decide +kernel) ?_
        refine xr_ldc hx hb hown hE (i := 7) (k := 166) rfl dX1_distance_37 ?_
        refine x_tcallv (x_runSX (As := [.int (nI 0), .ref (g.2 (100 + 166))]) hF hE hS hM hl (xk_must l hlt g A w (nI 0) (g.2 (100 + 166))) q573 q574 q38 q575 ⟨by decide +kernel, by decide +kernel, by show _ = some 2; decide +kernel⟩ rfl rfl ⟨Nat.le_of_ble_eq_true rfl, Nat.le_of_ble_eq_true rfl⟩ rfl (Nat.le_of_ble_eq_true rfl) dX1_distance_39 ⟨Nat.le_of_ble_eq_true rfl, Nat.le_of_ble_eq_true rfl⟩) hS hQ hxt hlk (Nat.le_of_ble_eq_true rfl) (Nat.le_of_ble_eq_true rfl) (fun E9 H9 hE9 hP9 => ?_) (fun uu H locs hq hM hS => ?_)
        · exact ⟨⟨xCode.at (j := 1) (by unfold opDistance; rw [hi]; simp only [hj, if_pos hz]) rfl hE9.1, rfl⟩, hP9⟩
        · exact absurd rfl hq
      refine lv_icmp_eq (tgt := 36) hx hb dX1_distance_23 (by decide) (fun c1 => ?_) (fun c1 => ?_)
      · exact no (Or.inl ((e0 _ (by omega)).mp c1)) H locs _ hM hS (lh_sub hl _ ⟨rfl, trivial⟩)
      · refine lv_iload hx hb dX1_distance_26 (lh_at hl rfl) ?_
        refine lv_iconst (v := -1) hx hb dX1_distance_28 (by decide +kernel) ?_
        refine lv_icmp_eq (tgt := 36) hx hb dX1_distance_29 (by decide) (fun c2 => ?_) (fun c2 => ?_)
        · exact no (Or.inr ((e0 _ (by omega)).mp c2)) H locs _ hM hS (lh_sub hl _ ⟨rfl, trivial⟩)
        · have n1 : vPl ν i ≠ 0 := fun z => c1 ((e0 _ (by omega)).mpr z)
          have n2 : vPl ν j ≠ 0 := fun z => c2 ((e0 _ (by omega)).mpr z)
          have o1 := hvi.resolve_left n1
          have o2 := hvj.resolve_left n2
          rw [eP_pos n1, eP_pos n2] at hl
          refine n_const hx hb 1 dX1_distance_32 (by decide +kernel) ?_
          refine lv_goto (tgt := 37) hx hb dX1_distance_33 (by decide) ?_
          refine xr_ldc hx hb hown hE (i := 7) (k := 166) rfl dX1_distance_37 ?_
          refine x_tcallv (x_runSX (As := [.int (nI 1), .ref (g.2 (100 + 166))]) hF hE hS hM hl (xk_must l hlt g A w (nI 1) (g.2 (100 + 166))) q573 q574 q38 q575 ⟨by decide +kernel, by decide +kernel, by show _ = some 2; decide +kernel⟩ rfl rfl ⟨Nat.le_of_ble_eq_true rfl, Nat.le_of_ble_eq_true rfl⟩ rfl (Nat.le_of_ble_eq_true rfl) dX1_distance_39 ⟨Nat.le_of_ble_eq_true rfl, Nat.le_of_ble_eq_true rfl⟩) hS hQ hxt hlk (Nat.le_of_ble_eq_true rfl) (Nat.le_of_ble_eq_true rfl) (fun E9 H9 hE9 hP9 => ?_) (fun uu H locs hq hM hS => ?_)
          · exact absurd hE9.2 (by decide)
          · refine lv_aload_n hx hb dX1_distance_42 rfl (lh_at hl rfl) ?_
            refine lv_iload_n hx hb dX1_distance_43 rfl (lh_at hl rfl) ?_
            refine lv_iload hx hb dX1_distance_44 (lh_at hl rfl) ?_
            refine x_calli (x_runV (As := [.int (nI (vPl ν i)), .int (nI (vPl ν j))]) hF hE hS hM hl (xk_between l g A w (ad 0) (vPl ν i) (vPl ν j) ν ad _ _ h0 hO.V.2.2.1.2 hP20 (by omega) (by omega) o1.2.2 o2.2.2) (xw.recv hE hM (by first | assumption | exact va_up_s | rfl | (refine (va_up_n ?_).trans ?_; rotate_left; (first | assumption | exact va_up_s | rfl | (refine (va_up_n ?_).trans ?_; rotate_left; (first | assumption | exact va_up_s | rfl | (refine (va_up_n ?_).trans ?_; rotate_left; (first | assumption | exact va_up_s | rfl | (refine (va_up_n ?_).trans ?_; rotate_left; (first | assumption | exact va_up_s | rfl | (refine (va_up_n ?_).trans ?_; rotate_left; (assumption); omega)); omega)); omega)); omega)); omega)) rfl) q924 q926 qs6 q38 q927 ⟨rfl, by decide +kernel, by decide +kernel, by show _ = some 2; decide +kernel⟩ rfl rfl ⟨Nat.le_of_ble_eq_true rfl, Nat.le_of_ble_eq_true rfl⟩ rfl (Nat.le_of_ble_eq_true rfl) dX1_distance_46 ⟨Nat.le_of_ble_eq_true rfl, Nat.le_of_ble_eq_true rfl⟩) hS (fun r uu H locs hq hM hS => ?_)
            have hn : ¬ (vPl ν i = 0 ∨ vPl ν j = 0) := fun z => z.elim n1 n2
            exact hQ ▸ vx_ret (x_iret hx hb hr hlk hS w ⟨by unfold opDistance; rw [hi]; simp only [hj, if_neg hn], by unfold opDistance; rw [hi]; simp only [hj, if_neg hn]; exact hq, by unfold opDistance; rw [hi]; simp only [hj, if_neg hn]; exact fun _ => h⟩ hM dX1_distance_49)
