/-! THE REFERENCE: the methods that only ask -/
set_option maxRecDepth 100000
theorem isS1 {o : Option Nat} {r : Int32} {q : Nat} (h : r = if o.isSome = true then 1 else 0) (e : o = some q) : r = 1 := by rw [h, e]; rfl
theorem isS0 {o : Option Nat} {r : Int32} (h : r = if o.isSome = true then 1 else 0) (e : o = none) : r = 0 := by rw [h, e]; rfl
set_option maxHeartbeats 4000000 in
theorem mk_placeOf (l : Launch) (g : xg) (A : Nat → Prop) (m0 : Nat) (ad : Nat → Nat) (μ : mS) (ν : nS) (hR : mR ν μ) (v : Int32) :
    Met l yX3_placeOf (ws_ yX3_placeOf cX3_placeOf 2 (some .int)) (xrm 9 0 0) (mPc g A m0 ad μ [.int v]) (mQi g A m0 ad (mOp (opPlaceOf ν v))) 0 0 A := by
  refine x_start rfl (Nat.le_of_ble_eq_true rfl) ?_
  intro p e s m below meth c hx hb hr hlk hml hown hts hnm hE hM hS ls hl
  have hF : xFix p m c cX3_placeOf 2 s _ RX3 := ⟨hx, hb, hml, hown, hts⟩
  generalize hargs : List.toArray _ = args at hts hF ⊢
  generalize hQ : MQ below _ _ s _ _ A = Q
  refine lv_aload_n hx hb dX3_placeOf_0 rfl (lh_at hl rfl) ?_
  refine n_const hx hb 0 dX3_placeOf_1 (by decide +kernel) ?_
  refine m_putI hF hE hM hS 0 (by decide) q1314 rfl (by decide +kernel) rfl dX3_placeOf_2 (fun H locs hM hS => ?_)
  refine lv_iload_n hx hb dX3_placeOf_5 rfl (lh_at hl rfl) ?_
  have hR := mR_thrown (v := nI 0) hR
  refine z_calli (P := mW g A m0 ad (m_setI μ 0 (nI 0))) (As := [.int v]) hF hE hM hS hl (zk_isProduct l g A _ v) q1389 q1390 q44 q1391 ⟨by decide +kernel, by decide +kernel, by show _ = some 1; decide +kernel⟩ rfl rfl ⟨Nat.le_of_ble_eq_true rfl, Nat.le_of_ble_eq_true rfl⟩ rfl (Nat.le_of_ble_eq_true rfl) dX3_placeOf_6 ⟨Nat.le_of_ble_eq_true rfl, Nat.le_of_ble_eq_true rfl⟩ (fun r H locs hq hM hS => ?_)
  cases hxr : xr v 20 with
  | none =>
    obtain rfl := isS0 hq hxr
    refine lv_if_eq (tgt := 21) hx hb dX3_placeOf_9 (by decide) (fun d => ?_) (fun d => ?_)
    · refine lv_aload_n hx hb dX3_placeOf_21 rfl (lh_at hl rfl) ?_
      refine n_const hx hb 1 dX3_placeOf_22 (by decide +kernel) ?_
      refine m_calli (As := [.int (nI 1)]) hF hE hM hS hl (mk_fails l g A m0 ad _ (nI 1)) q1395 q1397 qs19 q1398 ⟨rfl, by decide +kernel, by decide +kernel, by show _ = some 1; decide +kernel⟩ rfl rfl ⟨Nat.le_of_ble_eq_true rfl, Nat.le_of_ble_eq_true rfl⟩ rfl (Nat.le_of_ble_eq_true rfl) dX3_placeOf_23 ⟨Nat.le_of_ble_eq_true rfl, Nat.le_of_ble_eq_true rfl⟩ (fun r uf H locs hqf hM hS => ?_)
      obtain ⟨rfl, huf⟩ := hqf
      rw [huf] at hM
      exact hQ ▸ x_iret hx hb hr hlk hS _ ⟨by simp [opPlaceOf, hxr]; rfl, by simp [opPlaceOf, hxr], by simp only [opPlaceOf, hxr]; exact hR⟩ hM dX3_placeOf_26
    · exact absurd rfl d
  | some q =>
    obtain rfl := isS1 hq hxr
    obtain ⟨hq20, rfl⟩ := xr_some (by decide) hxr
    refine lv_if_eq (tgt := 21) hx hb dX3_placeOf_9 (by decide) (fun d => ?_) (fun d => ?_)
    · exact absurd d (by decide)
    · refine lv_aload_n hx hb dX3_placeOf_12 rfl (lh_at hl rfl) ?_
      refine m_getA hF hE hM 5 (by decide) q1319 rfl dX3_placeOf_13 ?_
      refine lv_iload_n hx hb dX3_placeOf_16 rfl (lh_at hl rfl) ?_
      refine m_ald hF hE hM (by decide) (by simp only [mLen]; omega) (by exact hR.pl hq20) dX3_placeOf_17 ?_
      refine lv_goto (tgt := 26) hx hb dX3_placeOf_18 (by decide) ?_
      exact hQ ▸ x_iret hx hb hr hlk hS _ ⟨by simp [opPlaceOf, hxr]; rfl, by simp [opPlaceOf, hxr], by simp only [opPlaceOf, hxr]; exact hR⟩ hM dX3_placeOf_26
set_option maxHeartbeats 4000000 in
theorem mk_turnover (l : Launch) (g : xg) (A : Nat → Prop) (m0 : Nat) (ad : Nat → Nat) (μ : mS) (ν : nS) (hR : mR ν μ) (v : Int32) :
    Met l yX3_turnover (ws_ yX3_turnover cX3_turnover 2 (some .int)) (xrm 9 0 0) (mPc g A m0 ad μ [.int v]) (mQi g A m0 ad (mOp (opTurnover ν v))) 0 0 A := by
  refine x_start rfl (Nat.le_of_ble_eq_true rfl) ?_
  intro p e s m below meth c hx hb hr hlk hml hown hts hnm hE hM hS ls hl
  have hF : xFix p m c cX3_turnover 2 s _ RX3 := ⟨hx, hb, hml, hown, hts⟩
  generalize hargs : List.toArray _ = args at hts hF ⊢
  generalize hQ : MQ below _ _ s _ _ A = Q
  refine lv_aload_n hx hb dX3_turnover_0 rfl (lh_at hl rfl) ?_
  refine n_const hx hb 0 dX3_turnover_1 (by decide +kernel) ?_
  refine m_putI hF hE hM hS 0 (by decide) q1314 rfl (by decide +kernel) rfl dX3_turnover_2 (fun H locs hM hS => ?_)
  refine lv_iload_n hx hb dX3_turnover_5 rfl (lh_at hl rfl) ?_
  have hR := mR_thrown (v := nI 0) hR
  refine z_calli (P := mW g A m0 ad (m_setI μ 0 (nI 0))) (As := [.int v]) hF hE hM hS hl (zk_isProduct l g A _ v) q1389 q1390 q44 q1391 ⟨by decide +kernel, by decide +kernel, by show _ = some 1; decide +kernel⟩ rfl rfl ⟨Nat.le_of_ble_eq_true rfl, Nat.le_of_ble_eq_true rfl⟩ rfl (Nat.le_of_ble_eq_true rfl) dX3_turnover_6 ⟨Nat.le_of_ble_eq_true rfl, Nat.le_of_ble_eq_true rfl⟩ (fun r H locs hq hM hS => ?_)
  cases hxr : xr v 20 with
  | none =>
    obtain rfl := isS0 hq hxr
    refine lv_if_eq (tgt := 20) hx hb dX3_turnover_9 (by decide) (fun d => ?_) (fun d => ?_)
    · refine lv_aload_n hx hb dX3_turnover_20 rfl (lh_at hl rfl) ?_
      refine n_const hx hb 1 dX3_turnover_21 (by decide +kernel) ?_
      refine m_calli (As := [.int (nI 1)]) hF hE hM hS hl (mk_fails l g A m0 ad _ (nI 1)) q1395 q1397 qs19 q1398 ⟨rfl, by decide +kernel, by decide +kernel, by show _ = some 1; decide +kernel⟩ rfl rfl ⟨Nat.le_of_ble_eq_true rfl, Nat.le_of_ble_eq_true rfl⟩ rfl (Nat.le_of_ble_eq_true rfl) dX3_turnover_22 ⟨Nat.le_of_ble_eq_true rfl, Nat.le_of_ble_eq_true rfl⟩ (fun r uf H locs hqf hM hS => ?_)
      obtain ⟨rfl, huf⟩ := hqf
      rw [huf] at hM
      exact hQ ▸ x_iret hx hb hr hlk hS _ ⟨by simp [opTurnover, hxr]; rfl, by simp [opTurnover, hxr], by simp only [opTurnover, hxr]; exact hR⟩ hM dX3_turnover_25
    · exact absurd rfl d
  | some q =>
    obtain rfl := isS1 hq hxr
    obtain ⟨hq20, rfl⟩ := xr_some (by decide) hxr
    refine lv_if_eq (tgt := 20) hx hb dX3_turnover_9 (by decide) (fun d => ?_) (fun d => ?_)
    · exact absurd d (by decide)
    · refine lv_aload_n hx hb dX3_turnover_12 rfl (lh_at hl rfl) ?_
      refine lv_iload_n hx hb dX3_turnover_13 rfl (lh_at hl rfl) ?_
      refine m_calli (As := [.int (nI q)]) hF hE hM hS hl (mk_turnoverOf l g A m0 ad _ ν hR q hq20) q1407 q1409 qs21 q1410 ⟨rfl, by decide +kernel, by decide +kernel, by show _ = some 1; decide +kernel⟩ rfl rfl ⟨Nat.le_of_ble_eq_true rfl, Nat.le_of_ble_eq_true rfl⟩ rfl (Nat.le_of_ble_eq_true rfl) dX3_turnover_14 ⟨Nat.le_of_ble_eq_true rfl, Nat.le_of_ble_eq_true rfl⟩ (fun r u2 H locs hq2 hM hS => ?_)
      obtain ⟨rfl, hu⟩ := hq2
      rw [hu] at hM
      refine lv_goto (tgt := 25) hx hb dX3_turnover_17 (by decide) ?_
      exact hQ ▸ x_iret hx hb hr hlk hS _ ⟨by simp [opTurnover, hxr]; rfl, by simp [opTurnover, hxr], by simp only [opTurnover, hxr]; exact hR⟩ hM dX3_turnover_25
theorem eP_ne {v : Nat} : eP v = -1 ↔ v = 0 ∨ nI v = -1 := by
  unfold eP
  split
  · next h => exact ⟨fun _ => Or.inl h, fun _ => rfl⟩
  · next h => exact ⟨fun q => Or.inr q, fun q => q.elim (fun z => absurd z h) id⟩
theorem eP_m1 {v : Nat} (hv : v < 2 ^ 31) : eP v = -1 ↔ v = 0 := by
  rw [eP_ne]
  exact ⟨fun q => q.elim id (fun z => absurd z (nI_m1 hv)), fun q => Or.inl q⟩
theorem mR.pl2 {ν : nS} {μ : mS} (h : mR ν μ) {q : Nat} (hq : q < 20) : vPl ν q < 600 ∧ vPl ν q % 100 ≤ vC ν 1 := by
  rcases h.plOk hq with e | e
  · rw [e]
    exact ⟨by decide, by omega⟩
  · exact e.lt2 h.A.2.2 h.P.2.2
set_option maxHeartbeats 4000000 in
theorem mk_distance (l : Launch) (g : xg) (A : Nat → Prop) (m0 : Nat) (ad : Nat → Nat) (μ : mS) (ν : nS) (hR : mR ν μ) (v w : Int32) :
    Met l yX3_distance (ws_ yX3_distance cX3_distance 3 (some .int)) (xrm 9 0 0) (mPc g A m0 ad μ [.int v, .int w]) (mQi g A m0 ad (mOp (opDistance ν v w))) 0 0 A := by
  refine x_start rfl (Nat.le_of_ble_eq_true rfl) ?_
  intro p e s m below meth c hx hb hr hlk hml hown hts hnm hE hM hS ls hl
  have hF : xFix p m c cX3_distance 3 s _ RX3 := ⟨hx, hb, hml, hown, hts⟩
  generalize hargs : List.toArray _ = args at hts hF ⊢
  generalize hQ : MQ below _ _ s _ _ A = Q
  refine lv_aload_n hx hb dX3_distance_0 rfl (lh_at hl rfl) ?_
  refine n_const hx hb 0 dX3_distance_1 (by decide +kernel) ?_
  refine m_putI hF hE hM hS 0 (by decide) q1314 rfl (by decide +kernel) rfl dX3_distance_2 (fun H locs hM hS => ?_)
  refine lv_iload_n hx hb dX3_distance_5 rfl (lh_at hl rfl) ?_
  have hR := mR_thrown (v := nI 0) hR
  have bad : ∀ (H : Heap) (locs : List Loc) (ls : Array Slot), opDistance ν v w = (1, 0, ν) → mW g A m0 ad (m_setI μ 0 (nI 0)) H → va_S A s.heap H locs → lh ls 3 (xl [(0, .ref m0)]) → W p l e (xrm 9 0 0) s m args below meth c H locs 0 0 Q (F0 m 19 ls []) := by
    intro H locs ls he hM hS hl
    refine lv_aload_n hx hb dX3_distance_19 rfl (lh_at hl rfl) ?_
    refine n_const hx hb 1 dX3_distance_20 (by decide +kernel) ?_
    refine m_calli (As := [.int (nI 1)]) hF hE hM hS hl (mk_fails l g A m0 ad _ (nI 1)) q1395 q1397 qs19 q1398 ⟨rfl, by decide +kernel, by decide +kernel, by show _ = some 1; decide +kernel⟩ rfl rfl ⟨Nat.le_of_ble_eq_true rfl, Nat.le_of_ble_eq_true rfl⟩ rfl (Nat.le_of_ble_eq_true rfl) dX3_distance_21 ⟨Nat.le_of_ble_eq_true rfl, Nat.le_of_ble_eq_true rfl⟩ (fun r uf H locs hqf hM hS => ?_)
    obtain ⟨rfl, huf⟩ := hqf
    rw [huf] at hM
    exact hQ ▸ x_iret hx hb hr hlk hS _ ⟨by rw [he]; rfl, by rw [he], by rw [he]; exact hR⟩ hM dX3_distance_24
  refine z_calli (P := mW g A m0 ad (m_setI μ 0 (nI 0))) (As := [.int v]) hF hE hM hS hl (zk_isProduct l g A _ v) q1389 q1390 q44 q1391 ⟨by decide +kernel, by decide +kernel, by show _ = some 1; decide +kernel⟩ rfl rfl ⟨Nat.le_of_ble_eq_true rfl, Nat.le_of_ble_eq_true rfl⟩ rfl (Nat.le_of_ble_eq_true rfl) dX3_distance_6 ⟨Nat.le_of_ble_eq_true rfl, Nat.le_of_ble_eq_true rfl⟩ (fun r H locs hq hM hS => ?_)
  cases hxr : xr v 20 with
  | none =>
    obtain rfl := isS0 hq hxr
    refine lv_if_eq (tgt := 19) hx hb dX3_distance_9 (by decide) (fun d => ?_) (fun d => ?_)
    · exact bad _ _ _ (by simp [opDistance, hxr]) hM hS (lh_sub hl _ ⟨rfl, trivial⟩)
    · exact absurd rfl d
  | some a =>
    obtain rfl := isS1 hq hxr
    obtain ⟨ha20, rfl⟩ := xr_some (by decide) hxr
    refine lv_if_eq (tgt := 19) hx hb dX3_distance_9 (by decide) (fun d => ?_) (fun d => ?_)
    · exact absurd d (by decide)
    · refine lv_iload_n hx hb dX3_distance_12 rfl (lh_at hl rfl) ?_
      refine z_calli (P := mW g A m0 ad (m_setI μ 0 (nI 0))) (As := [.int w]) hF hE hM hS hl (zk_isProduct l g A _ w) q1389 q1390 q44 q1391 ⟨by decide +kernel, by decide +kernel, by show _ = some 1; decide +kernel⟩ rfl rfl ⟨Nat.le_of_ble_eq_true rfl, Nat.le_of_ble_eq_true rfl⟩ rfl (Nat.le_of_ble_eq_true rfl) dX3_distance_13 ⟨Nat.le_of_ble_eq_true rfl, Nat.le_of_ble_eq_true rfl⟩ (fun r H locs hq hM hS => ?_)
      cases hxw : xr w 20 with
      | none =>
        obtain rfl := isS0 hq hxw
        refine lv_if_ne (tgt := 25) hx hb dX3_distance_16 (by decide) (fun d => ?_) (fun d => ?_)
        · exact absurd rfl d
        · exact bad _ _ _ (by simp [opDistance, hxr, hxw]) hM hS (lh_sub hl _ ⟨rfl, trivial⟩)
      | some b =>
        obtain rfl := isS1 hq hxw
        obtain ⟨hb20, rfl⟩ := xr_some (by decide) hxw
        have pa := hR.pl2 ha20
        have pb := hR.pl2 hb20
        have none2 : ∀ (H : Heap) (locs : List Loc) (ls : Array Slot), (vPl ν a = 0 ∨ vPl ν b = 0) → mW g A m0 ad (m_setI μ 0 (nI 0)) H → va_S A s.heap H locs → lh ls 3 (xl [(0, .ref m0)]) → W p l e (xrm 9 0 0) s m args below meth c H locs 0 0 Q (F0 m 45 ls []) := by
          intro H locs ls he hM hS hl
          refine lv_aload_n hx hb dX3_distance_45 rfl (lh_at hl rfl) ?_
          refine n_const hx hb 2 dX3_distance_46 (by decide +kernel) ?_
          refine m_calli (As := [.int (nI 2)]) hF hE hM hS hl (mk_fails l g A m0 ad _ (nI 2)) q1395 q1397 qs19 q1398 ⟨rfl, by decide +kernel, by decide +kernel, by show _ = some 1; decide +kernel⟩ rfl rfl ⟨Nat.le_of_ble_eq_true rfl, Nat.le_of_ble_eq_true rfl⟩ rfl (Nat.le_of_ble_eq_true rfl) dX3_distance_47 ⟨Nat.le_of_ble_eq_true rfl, Nat.le_of_ble_eq_true rfl⟩ (fun r uf H locs hqf hM hS => ?_)
          obtain ⟨rfl, huf⟩ := hqf
          rw [huf] at hM
          refine lv_goto (tgt := 69) hx hb dX3_distance_50 (by decide) ?_
          exact hQ ▸ x_iret hx hb hr hlk hS _ ⟨by simp [opDistance, hxr, hxw, he]; rfl, by simp [opDistance, hxr, hxw, he], by simp only [opDistance, hxr, hxw, if_pos he]; exact hR⟩ hM dX3_distance_69
        refine lv_if_ne (tgt := 25) hx hb dX3_distance_16 (by decide) (fun d => ?_) (fun d => ?_)
        · refine lv_aload_n hx hb dX3_distance_25 rfl (lh_at hl rfl) ?_
          refine m_getA hF hE hM 5 (by decide) q1319 rfl dX3_distance_26 ?_
          refine lv_iload_n hx hb dX3_distance_29 rfl (lh_at hl rfl) ?_
          refine m_ald hF hE hM (by decide) (by simp only [mLen]; omega) (by exact hR.pl ha20) dX3_distance_30 ?_
          refine lv_iconst (v := -1) hx hb dX3_distance_31 (by decide +kernel) ?_
          refine lv_icmp_eq (tgt := 45) hx hb dX3_distance_32 (by decide) (fun d1 => ?_) (fun d1 => ?_)
          · exact none2 _ _ _ (Or.inl ((eP_m1 (by omega)).mp d1)) hM hS (lh_sub hl _ ⟨rfl, trivial⟩)
          · refine lv_aload_n hx hb dX3_distance_35 rfl (lh_at hl rfl) ?_
            refine m_getA hF hE hM 5 (by decide) q1319 rfl dX3_distance_36 ?_
            refine lv_iload_n hx hb dX3_distance_39 rfl (lh_at hl rfl) ?_
            refine m_ald hF hE hM (by decide) (by simp only [mLen]; omega) (by exact hR.pl hb20) dX3_distance_40 ?_
            refine lv_iconst (v := -1) hx hb dX3_distance_41 (by decide +kernel) ?_
            refine lv_icmp_ne (tgt := 53) hx hb dX3_distance_42 (by decide) (fun d2 => ?_) (fun d2 => ?_)
            · have na : vPl ν a ≠ 0 := fun z => d1 ((eP_m1 (by omega)).mpr z)
              have nb : vPl ν b ≠ 0 := fun z => d2 ((eP_m1 (by omega)).mpr z)
              refine lv_aload_n hx hb dX3_distance_53 rfl (lh_at hl rfl) ?_
              refine lv_aload_n hx hb dX3_distance_54 rfl (lh_at hl rfl) ?_
              refine m_getA hF hE hM 5 (by decide) q1319 rfl dX3_distance_55 ?_
              refine lv_iload_n hx hb dX3_distance_58 rfl (lh_at hl rfl) ?_
              refine m_ald hF hE hM (by decide) (by simp only [mLen]; omega) (by exact (hR.pl ha20).trans (eP_pos na)) dX3_distance_59 ?_
              refine lv_aload_n hx hb dX3_distance_60 rfl (lh_at hl rfl) ?_
              refine m_getA hF hE hM 5 (by decide) q1319 rfl dX3_distance_61 ?_
              refine lv_iload_n hx hb dX3_distance_64 rfl (lh_at hl rfl) ?_
              refine m_ald hF hE hM (by decide) (by simp only [mLen]; omega) (by exact (hR.pl hb20).trans (eP_pos nb)) dX3_distance_65 ?_
              refine m_calli (As := [.int (nI (vPl ν a)), .int (nI (vPl ν b))]) hF hE hM hS hl (mk_way l g A m0 ad _ (vC ν 2) (vC ν 1) (vPl ν a) (vPl ν b) hR.G.1 hR.P.1 hR.G.2.2 hR.P.2.2 (by omega) (by omega) pa.2 pb.2) q1415 q1417 qs23 q1418 ⟨rfl, by decide +kernel, by decide +kernel, by show _ = some 2; decide +kernel⟩ rfl rfl ⟨Nat.le_of_ble_eq_true rfl, Nat.le_of_ble_eq_true rfl⟩ rfl (Nat.le_of_ble_eq_true rfl) dX3_distance_66 ⟨Nat.le_of_ble_eq_true rfl, Nat.le_of_ble_eq_true rfl⟩ (fun r u2 H locs hq2 hM hS => ?_)
              obtain ⟨rfl, hu⟩ := hq2
              rw [hu] at hM
              have hne : ¬ (vPl ν a = 0 ∨ vPl ν b = 0) := fun z => z.elim na nb
              exact hQ ▸ x_iret hx hb hr hlk hS _ ⟨by simp [opDistance, hxr, hxw, hne]; rfl, by simp [opDistance, hxr, hxw, hne], by simp only [opDistance, hxr, hxw, if_neg hne]; exact hR⟩ hM dX3_distance_69
            · exact none2 _ _ _ (Or.inr ((eP_m1 (by omega)).mp d2)) hM hS (lh_sub hl _ ⟨rfl, trivial⟩)
        · exact absurd d (by decide)
set_option maxHeartbeats 4000000 in
theorem mk_orders (l : Launch) (g : xg) (A : Nat → Prop) (m0 : Nat) (ad : Nat → Nat) (μ : mS) (ν : nS) (hR : mR ν μ) :
    Met l yX3_orders (ws_ yX3_orders cX3_orders 1 (some .int)) (xrm 9 0 0) (mPc g A m0 ad μ []) (mQi g A m0 ad (mOp (0, nI (vC ν 4), ν))) 0 0 A := by
  refine x_start rfl (Nat.le_of_ble_eq_true rfl) ?_
  intro p e s m below meth c hx hb hr hlk hml hown hts hnm hE hM hS ls hl
  have hF : xFix p m c cX3_orders 1 s _ RX3 := ⟨hx, hb, hml, hown, hts⟩
  generalize hargs : List.toArray _ = args at hts hF ⊢
  generalize hQ : MQ below _ _ s _ _ A = Q
  refine lv_aload_n hx hb dX3_orders_0 rfl (lh_at hl rfl) ?_
  refine n_const hx hb 0 dX3_orders_1 (by decide +kernel) ?_
  refine m_putI hF hE hM hS 0 (by decide) q1314 rfl (by decide +kernel) rfl dX3_orders_2 (fun H locs hM hS => ?_)
  have hR := mR_thrown (v := nI 0) hR
  refine lv_aload_n hx hb dX3_orders_5 rfl (lh_at hl rfl) ?_
  refine m_getI hF hE hM 6 (by decide) q1320 rfl (by exact hR.N.1) dX3_orders_6 ?_
  exact hQ ▸ x_iret hx hb hr hlk hS _ ⟨rfl, rfl, hR⟩ hM dX3_orders_9
set_option maxHeartbeats 4000000 in
theorem mk_batches (l : Launch) (g : xg) (A : Nat → Prop) (m0 : Nat) (ad : Nat → Nat) (μ : mS) (ν : nS) (hR : mR ν μ) :
    Met l yX3_batches (ws_ yX3_batches cX3_batches 1 (some .int)) (xrm 9 0 0) (mPc g A m0 ad μ []) (mQi g A m0 ad (mOp (0, nI (vC ν 5), ν))) 0 0 A := by
  refine x_start rfl (Nat.le_of_ble_eq_true rfl) ?_
  intro p e s m below meth c hx hb hr hlk hml hown hts hnm hE hM hS ls hl
  have hF : xFix p m c cX3_batches 1 s _ RX3 := ⟨hx, hb, hml, hown, hts⟩
  generalize hargs : List.toArray _ = args at hts hF ⊢
  generalize hQ : MQ below _ _ s _ _ A = Q
  refine lv_aload_n hx hb dX3_batches_0 rfl (lh_at hl rfl) ?_
  refine n_const hx hb 0 dX3_batches_1 (by decide +kernel) ?_
  refine m_putI hF hE hM hS 0 (by decide) q1314 rfl (by decide +kernel) rfl dX3_batches_2 (fun H locs hM hS => ?_)
  have hR := mR_thrown (v := nI 0) hR
  refine lv_aload_n hx hb dX3_batches_5 rfl (lh_at hl rfl) ?_
  refine m_getI hF hE hM 13 (by decide) q1327 rfl (by exact hR.B.1) dX3_batches_6 ?_
  exact hQ ▸ x_iret hx hb hr hlk hS _ ⟨rfl, rfl, hR⟩ hM dX3_batches_9
set_option maxHeartbeats 4000000 in
theorem mk_walked (l : Launch) (g : xg) (A : Nat → Prop) (m0 : Nat) (ad : Nat → Nat) (μ : mS) (ν : nS) (hR : mR ν μ) :
    Met l yX3_walked (ws_ yX3_walked cX3_walked 1 (some .int)) (xrm 9 0 0) (mPc g A m0 ad μ []) (mQi g A m0 ad (mOp (0, nI (vC ν 6), ν))) 0 0 A := by
  refine x_start rfl (Nat.le_of_ble_eq_true rfl) ?_
  intro p e s m below meth c hx hb hr hlk hml hown hts hnm hE hM hS ls hl
  have hF : xFix p m c cX3_walked 1 s _ RX3 := ⟨hx, hb, hml, hown, hts⟩
  generalize hargs : List.toArray _ = args at hts hF ⊢
  generalize hQ : MQ below _ _ s _ _ A = Q
  refine lv_aload_n hx hb dX3_walked_0 rfl (lh_at hl rfl) ?_
  refine n_const hx hb 0 dX3_walked_1 (by decide +kernel) ?_
  refine m_putI hF hE hM hS 0 (by decide) q1314 rfl (by decide +kernel) rfl dX3_walked_2 (fun H locs hM hS => ?_)
  have hR := mR_thrown (v := nI 0) hR
  refine lv_aload_n hx hb dX3_walked_5 rfl (lh_at hl rfl) ?_
  refine m_getI hF hE hM 14 (by decide) q1328 rfl (by exact hR.wk) dX3_walked_6 ?_
  exact hQ ▸ x_iret hx hb hr hlk hS _ ⟨rfl, rfl, hR⟩ hM dX3_walked_9
set_option maxHeartbeats 4000000 in
theorem mk_stateOf (l : Launch) (g : xg) (A : Nat → Prop) (m0 : Nat) (ad : Nat → Nat) (μ : mS) (ν : nS) (hR : mR ν μ) (v : Int32) :
    Met l yX3_stateOf (ws_ yX3_stateOf cX3_stateOf 2 (some .int)) (xrm 9 0 0) (mPc g A m0 ad μ [.int v]) (mQi g A m0 ad (mOp (opStateOf ν v))) 0 0 A := by
  refine x_start rfl (Nat.le_of_ble_eq_true rfl) ?_
  intro p e s m below meth c hx hb hr hlk hml hown hts hnm hE hM hS ls hl
  have hF : xFix p m c cX3_stateOf 2 s _ RX3 := ⟨hx, hb, hml, hown, hts⟩
  generalize hargs : List.toArray _ = args at hts hF ⊢
  generalize hQ : MQ below _ _ s _ _ A = Q
  refine lv_aload_n hx hb dX3_stateOf_0 rfl (lh_at hl rfl) ?_
  refine n_const hx hb 0 dX3_stateOf_1 (by decide +kernel) ?_
  refine m_putI hF hE hM hS 0 (by decide) q1314 rfl (by decide +kernel) rfl dX3_stateOf_2 (fun H locs hM hS => ?_)
  refine lv_aload_n hx hb dX3_stateOf_5 rfl (lh_at hl rfl) ?_
  refine lv_iload_n hx hb dX3_stateOf_6 rfl (lh_at hl rfl) ?_
  have hR := mR_thrown (v := nI 0) hR
  refine m_calli (As := [.int v]) hF hE hM hS hl (mk_isOrder l g A m0 ad _ v (vC ν 4) hR.N.1 hR.N.2) q1439 q1441 qs24 q1442 ⟨rfl, by decide +kernel, by decide +kernel, by show _ = some 1; decide +kernel⟩ rfl rfl ⟨Nat.le_of_ble_eq_true rfl, Nat.le_of_ble_eq_true rfl⟩ rfl (Nat.le_of_ble_eq_true rfl) dX3_stateOf_7 ⟨Nat.le_of_ble_eq_true rfl, Nat.le_of_ble_eq_true rfl⟩ (fun r u H locs hq hM hS => ?_)
  obtain ⟨hq, hu⟩ := hq
  rw [hu] at hM
  cases hxr : xr v (vC ν 4) with
  | none =>
    obtain rfl := isS0 hq hxr
    refine lv_if_eq (tgt := 22) hx hb dX3_stateOf_10 (by decide) (fun d => ?_) (fun d => ?_)
    · refine lv_aload_n hx hb dX3_stateOf_22 rfl (lh_at hl rfl) ?_
      refine n_const hx hb 1 dX3_stateOf_23 (by decide +kernel) ?_
      refine m_calli (As := [.int (nI 1)]) hF hE hM hS hl (mk_fails l g A m0 ad _ (nI 1)) q1395 q1397 qs19 q1398 ⟨rfl, by decide +kernel, by decide +kernel, by show _ = some 1; decide +kernel⟩ rfl rfl ⟨Nat.le_of_ble_eq_true rfl, Nat.le_of_ble_eq_true rfl⟩ rfl (Nat.le_of_ble_eq_true rfl) dX3_stateOf_24 ⟨Nat.le_of_ble_eq_true rfl, Nat.le_of_ble_eq_true rfl⟩ (fun r uf H locs hqf hM hS => ?_)
      obtain ⟨rfl, huf⟩ := hqf
      rw [huf] at hM
      exact hQ ▸ x_iret hx hb hr hlk hS _ ⟨by simp [opStateOf, hxr]; rfl, by simp [opStateOf, hxr], by simp only [opStateOf, hxr]; exact hR⟩ hM dX3_stateOf_27
    · exact absurd rfl d
  | some o =>
    obtain rfl := isS1 hq hxr
    obtain ⟨ho, rfl⟩ := xr_some (by have := hR.N.2; omega) hxr
    refine lv_if_eq (tgt := 22) hx hb dX3_stateOf_10 (by decide) (fun d => ?_) (fun d => ?_)
    · exact absurd d (by decide)
    · have hN := hR.N.2
      refine lv_aload_n hx hb dX3_stateOf_13 rfl (lh_at hl rfl) ?_
      refine m_getA hF hE hM 8 (by decide) q1322 rfl dX3_stateOf_14 ?_
      refine lv_iload_n hx hb dX3_stateOf_17 rfl (lh_at hl rfl) ?_
      refine m_ald hF hE hM (by decide) (by simp only [mLen]; omega) (by exact (hR.st ho).1) dX3_stateOf_18 ?_
      refine lv_goto (tgt := 27) hx hb dX3_stateOf_19 (by decide) ?_
      exact hQ ▸ x_iret hx hb hr hlk hS _ ⟨by simp [opStateOf, hxr]; rfl, by simp [opStateOf, hxr], by simp only [opStateOf, hxr]; exact hR⟩ hM dX3_stateOf_27
set_option maxHeartbeats 4000000 in
theorem mk_batchOf (l : Launch) (g : xg) (A : Nat → Prop) (m0 : Nat) (ad : Nat → Nat) (μ : mS) (ν : nS) (hR : mR ν μ) (v : Int32) :
    Met l yX3_batchOf (ws_ yX3_batchOf cX3_batchOf 2 (some .int)) (xrm 9 0 0) (mPc g A m0 ad μ [.int v]) (mQi g A m0 ad (mOp (opBatchOf ν v))) 0 0 A := by
  refine x_start rfl (Nat.le_of_ble_eq_true rfl) ?_
  intro p e s m below meth c hx hb hr hlk hml hown hts hnm hE hM hS ls hl
  have hF : xFix p m c cX3_batchOf 2 s _ RX3 := ⟨hx, hb, hml, hown, hts⟩
  generalize hargs : List.toArray _ = args at hts hF ⊢
  generalize hQ : MQ below _ _ s _ _ A = Q
  refine lv_aload_n hx hb dX3_batchOf_0 rfl (lh_at hl rfl) ?_
  refine n_const hx hb 0 dX3_batchOf_1 (by decide +kernel) ?_
  refine m_putI hF hE hM hS 0 (by decide) q1314 rfl (by decide +kernel) rfl dX3_batchOf_2 (fun H locs hM hS => ?_)
  refine lv_aload_n hx hb dX3_batchOf_5 rfl (lh_at hl rfl) ?_
  refine lv_iload_n hx hb dX3_batchOf_6 rfl (lh_at hl rfl) ?_
  have hR := mR_thrown (v := nI 0) hR
  refine m_calli (As := [.int v]) hF hE hM hS hl (mk_isOrder l g A m0 ad _ v (vC ν 4) hR.N.1 hR.N.2) q1439 q1441 qs24 q1442 ⟨rfl, by decide +kernel, by decide +kernel, by show _ = some 1; decide +kernel⟩ rfl rfl ⟨Nat.le_of_ble_eq_true rfl, Nat.le_of_ble_eq_true rfl⟩ rfl (Nat.le_of_ble_eq_true rfl) dX3_batchOf_7 ⟨Nat.le_of_ble_eq_true rfl, Nat.le_of_ble_eq_true rfl⟩ (fun r u H locs hq hM hS => ?_)
  obtain ⟨hq, hu⟩ := hq
  rw [hu] at hM
  cases hxr : xr v (vC ν 4) with
  | none =>
    obtain rfl := isS0 hq hxr
    refine lv_if_eq (tgt := 22) hx hb dX3_batchOf_10 (by decide) (fun d => ?_) (fun d => ?_)
    · refine lv_aload_n hx hb dX3_batchOf_22 rfl (lh_at hl rfl) ?_
      refine n_const hx hb 1 dX3_batchOf_23 (by decide +kernel) ?_
      refine m_calli (As := [.int (nI 1)]) hF hE hM hS hl (mk_fails l g A m0 ad _ (nI 1)) q1395 q1397 qs19 q1398 ⟨rfl, by decide +kernel, by decide +kernel, by show _ = some 1; decide +kernel⟩ rfl rfl ⟨Nat.le_of_ble_eq_true rfl, Nat.le_of_ble_eq_true rfl⟩ rfl (Nat.le_of_ble_eq_true rfl) dX3_batchOf_24 ⟨Nat.le_of_ble_eq_true rfl, Nat.le_of_ble_eq_true rfl⟩ (fun r uf H locs hqf hM hS => ?_)
      obtain ⟨rfl, huf⟩ := hqf
      rw [huf] at hM
      exact hQ ▸ x_iret hx hb hr hlk hS _ ⟨by simp [opBatchOf, hxr]; rfl, by simp [opBatchOf, hxr], by simp only [opBatchOf, hxr]; exact hR⟩ hM dX3_batchOf_27
    · exact absurd rfl d
  | some o =>
    obtain rfl := isS1 hq hxr
    obtain ⟨ho, rfl⟩ := xr_some (by have := hR.N.2; omega) hxr
    refine lv_if_eq (tgt := 22) hx hb dX3_batchOf_10 (by decide) (fun d => ?_) (fun d => ?_)
    · exact absurd d (by decide)
    · have hN := hR.N.2
      refine lv_aload_n hx hb dX3_batchOf_13 rfl (lh_at hl rfl) ?_
      refine m_getA hF hE hM 9 (by decide) q1323 rfl dX3_batchOf_14 ?_
      refine lv_iload_n hx hb dX3_batchOf_17 rfl (lh_at hl rfl) ?_
      refine m_ald hF hE hM (by decide) (by simp only [mLen]; omega) (by exact (hR.bt ho).1) dX3_batchOf_18 ?_
      refine lv_goto (tgt := 27) hx hb dX3_batchOf_19 (by decide) ?_
      exact hQ ▸ x_iret hx hb hr hlk hS _ ⟨by simp [opBatchOf, hxr]; rfl, by simp [opBatchOf, hxr], by simp only [opBatchOf, hxr]; exact hR⟩ hM dX3_batchOf_27
set_option maxHeartbeats 4000000 in
theorem mk_lengthAlone (l : Launch) (g : xg) (A : Nat → Prop) (m0 : Nat) (ad : Nat → Nat) (μ : mS) (ν : nS) (hR : mR ν μ) (v : Int32) :
    Met l yX3_lengthAlone (ws_ yX3_lengthAlone cX3_lengthAlone 2 (some .int)) (xrm 9 0 0) (mPc g A m0 ad μ [.int v]) (mQi g A m0 ad (mOp (opLengthAlone ν v))) 0 0 A := by
  refine x_start rfl (Nat.le_of_ble_eq_true rfl) ?_
  intro p e s m below meth c hx hb hr hlk hml hown hts hnm hE hM hS ls hl
  have hF : xFix p m c cX3_lengthAlone 2 s _ RX3 := ⟨hx, hb, hml, hown, hts⟩
  generalize hargs : List.toArray _ = args at hts hF ⊢
  generalize hQ : MQ below _ _ s _ _ A = Q
  refine lv_aload_n hx hb dX3_lengthAlone_0 rfl (lh_at hl rfl) ?_
  refine n_const hx hb 0 dX3_lengthAlone_1 (by decide +kernel) ?_
  refine m_putI hF hE hM hS 0 (by decide) q1314 rfl (by decide +kernel) rfl dX3_lengthAlone_2 (fun H locs hM hS => ?_)
  refine lv_aload_n hx hb dX3_lengthAlone_5 rfl (lh_at hl rfl) ?_
  refine lv_iload_n hx hb dX3_lengthAlone_6 rfl (lh_at hl rfl) ?_
  have hR := mR_thrown (v := nI 0) hR
  refine m_calli (As := [.int v]) hF hE hM hS hl (mk_isOrder l g A m0 ad _ v (vC ν 4) hR.N.1 hR.N.2) q1439 q1441 qs24 q1442 ⟨rfl, by decide +kernel, by decide +kernel, by show _ = some 1; decide +kernel⟩ rfl rfl ⟨Nat.le_of_ble_eq_true rfl, Nat.le_of_ble_eq_true rfl⟩ rfl (Nat.le_of_ble_eq_true rfl) dX3_lengthAlone_7 ⟨Nat.le_of_ble_eq_true rfl, Nat.le_of_ble_eq_true rfl⟩ (fun r u H locs hq hM hS => ?_)
  obtain ⟨hq, hu⟩ := hq
  rw [hu] at hM
  cases hxr : xr v (vC ν 4) with
  | none =>
    obtain rfl := isS0 hq hxr
    refine lv_if_eq (tgt := 25) hx hb dX3_lengthAlone_10 (by decide) (fun d => ?_) (fun d => ?_)
    · refine lv_aload_n hx hb dX3_lengthAlone_25 rfl (lh_at hl rfl) ?_
      refine n_const hx hb 1 dX3_lengthAlone_26 (by decide +kernel) ?_
      refine m_calli (As := [.int (nI 1)]) hF hE hM hS hl (mk_fails l g A m0 ad _ (nI 1)) q1395 q1397 qs19 q1398 ⟨rfl, by decide +kernel, by decide +kernel, by show _ = some 1; decide +kernel⟩ rfl rfl ⟨Nat.le_of_ble_eq_true rfl, Nat.le_of_ble_eq_true rfl⟩ rfl (Nat.le_of_ble_eq_true rfl) dX3_lengthAlone_27 ⟨Nat.le_of_ble_eq_true rfl, Nat.le_of_ble_eq_true rfl⟩ (fun r uf H locs hqf hM hS => ?_)
      obtain ⟨rfl, huf⟩ := hqf
      rw [huf] at hM
      exact hQ ▸ x_iret hx hb hr hlk hS _ ⟨by simp [opLengthAlone, hxr]; rfl, by simp [opLengthAlone, hxr], by simp only [opLengthAlone, hxr]; exact hR⟩ hM dX3_lengthAlone_30
    · exact absurd rfl d
  | some o =>
    obtain rfl := isS1 hq hxr
    obtain ⟨ho, rfl⟩ := xr_some (by have := hR.N.2; omega) hxr
    refine lv_if_eq (tgt := 25) hx hb dX3_lengthAlone_10 (by decide) (fun d => ?_) (fun d => ?_)
    · exact absurd d (by decide)
    · refine lv_aload_n hx hb dX3_lengthAlone_13 rfl (lh_at hl rfl) ?_
      refine lv_aload_n hx hb dX3_lengthAlone_14 rfl (lh_at hl rfl) ?_
      refine lv_iload_n hx hb dX3_lengthAlone_15 rfl (lh_at hl rfl) ?_
      refine m_calli (As := [.int (nI o)]) hF hE hM hS hl (mk_wanted l g A m0 ad _ ν hR o ho) q1443 q1445 qs25 q1446 ⟨rfl, by decide +kernel, by decide +kernel, by show _ = some 1; decide +kernel⟩ rfl rfl ⟨Nat.le_of_ble_eq_true rfl, Nat.le_of_ble_eq_true rfl⟩ rfl (Nat.le_of_ble_eq_true rfl) dX3_lengthAlone_16 ⟨Nat.le_of_ble_eq_true rfl, Nat.le_of_ble_eq_true rfl⟩ (fun r u2 H locs hq2 hM hS => ?_)
      obtain ⟨rfl, hu⟩ := hq2
      rw [hu] at hM
      refine m_calli (As := [.int (nI (wantN ν o))]) hF hE hM hS hl (mk_length l g A m0 ad _ ν _ hR (want_okSet hR.1 ho)) q1459 q1461 qs26 q1462 ⟨rfl, by decide +kernel, by decide +kernel, by show _ = some 1; decide +kernel⟩ rfl rfl ⟨Nat.le_of_ble_eq_true rfl, Nat.le_of_ble_eq_true rfl⟩ rfl (Nat.le_of_ble_eq_true rfl) dX3_lengthAlone_19 ⟨Nat.le_of_ble_eq_true rfl, Nat.le_of_ble_eq_true rfl⟩ (fun r u3 H locs hq3 hM hS => ?_)
      obtain ⟨rfl, hG, -⟩ := hq3
      refine lv_goto (tgt := 30) hx hb dX3_lengthAlone_22 (by decide) ?_
      exact hQ ▸ x_iret hx hb hr hlk hS _ ⟨by rw [hG.1 0 (by decide)]; simp [opLengthAlone, hxr]; rfl, by simp [opLengthAlone, hxr], by simp only [opLengthAlone, hxr]; exact hG.R hR⟩ hM dX3_lengthAlone_30
set_option maxHeartbeats 4000000 in
theorem mk_linesOf (l : Launch) (g : xg) (A : Nat → Prop) (m0 : Nat) (ad : Nat → Nat) (μ : mS) (ν : nS) (hR : mR ν μ) (v : Int32) :
    Met l yX3_linesOf (ws_ yX3_linesOf cX3_linesOf 2 (some .int)) (xrm 9 0 0) (mPc g A m0 ad μ [.int v]) (mQi g A m0 ad (mOp (opLinesOf ν v))) 0 0 A := by
  refine x_start rfl (Nat.le_of_ble_eq_true rfl) ?_
  intro p e s m below meth c hx hb hr hlk hml hown hts hnm hE hM hS ls hl
  have hF : xFix p m c cX3_linesOf 2 s _ RX3 := ⟨hx, hb, hml, hown, hts⟩
  generalize hargs : List.toArray _ = args at hts hF ⊢
  generalize hQ : MQ below _ _ s _ _ A = Q
  refine lv_aload_n hx hb dX3_linesOf_0 rfl (lh_at hl rfl) ?_
  refine n_const hx hb 0 dX3_linesOf_1 (by decide +kernel) ?_
  refine m_putI hF hE hM hS 0 (by decide) q1314 rfl (by decide +kernel) rfl dX3_linesOf_2 (fun H locs hM hS => ?_)
  refine lv_aload_n hx hb dX3_linesOf_5 rfl (lh_at hl rfl) ?_
  refine lv_iload_n hx hb dX3_linesOf_6 rfl (lh_at hl rfl) ?_
  have hR := mR_thrown (v := nI 0) hR
  refine m_calli (As := [.int v]) hF hE hM hS hl (mk_isBatch l g A m0 ad _ v (vC ν 5) hR.B.1 hR.B.2) q1504 q1506 qs34 q1507 ⟨rfl, by decide +kernel, by decide +kernel, by show _ = some 1; decide +kernel⟩ rfl rfl ⟨Nat.le_of_ble_eq_true rfl, Nat.le_of_ble_eq_true rfl⟩ rfl (Nat.le_of_ble_eq_true rfl) dX3_linesOf_7 ⟨Nat.le_of_ble_eq_true rfl, Nat.le_of_ble_eq_true rfl⟩ (fun r u H locs hq hM hS => ?_)
  obtain ⟨hq, hu⟩ := hq
  rw [hu] at hM
  cases hxr : xr v (vC ν 5) with
  | none =>
    obtain rfl := isS0 hq hxr
    refine lv_if_eq (tgt := 21) hx hb dX3_linesOf_10 (by decide) (fun d => ?_) (fun d => ?_)
    · refine lv_aload_n hx hb dX3_linesOf_21 rfl (lh_at hl rfl) ?_
      refine n_const hx hb 1 dX3_linesOf_22 (by decide +kernel) ?_
      refine m_calli (As := [.int (nI 1)]) hF hE hM hS hl (mk_fails l g A m0 ad _ (nI 1)) q1395 q1397 qs19 q1398 ⟨rfl, by decide +kernel, by decide +kernel, by show _ = some 1; decide +kernel⟩ rfl rfl ⟨Nat.le_of_ble_eq_true rfl, Nat.le_of_ble_eq_true rfl⟩ rfl (Nat.le_of_ble_eq_true rfl) dX3_linesOf_23 ⟨Nat.le_of_ble_eq_true rfl, Nat.le_of_ble_eq_true rfl⟩ (fun r uf H locs hqf hM hS => ?_)
      obtain ⟨rfl, huf⟩ := hqf
      rw [huf] at hM
      exact hQ ▸ x_iret hx hb hr hlk hS _ ⟨by simp [opLinesOf, hxr]; rfl, by simp [opLinesOf, hxr], by simp only [opLinesOf, hxr]; exact hR⟩ hM dX3_linesOf_26
    · exact absurd rfl d
  | some o =>
    obtain rfl := isS1 hq hxr
    obtain ⟨ho, rfl⟩ := xr_some (by have := hR.B.2; omega) hxr
    refine lv_if_eq (tgt := 21) hx hb dX3_linesOf_10 (by decide) (fun d => ?_) (fun d => ?_)
    · exact absurd d (by decide)
    · refine lv_aload_n hx hb dX3_linesOf_13 rfl (lh_at hl rfl) ?_
      refine lv_iload_n hx hb dX3_linesOf_14 rfl (lh_at hl rfl) ?_
      refine m_calli (As := [.int (nI o)]) hF hE hM hS hl (mk_countLines l g A m0 ad _ ν hR o (by have := hR.B.2; omega)) q1488 q1490 qs31 q1491 ⟨rfl, by decide +kernel, by decide +kernel, by show _ = some 1; decide +kernel⟩ rfl rfl ⟨Nat.le_of_ble_eq_true rfl, Nat.le_of_ble_eq_true rfl⟩ rfl (Nat.le_of_ble_eq_true rfl) dX3_linesOf_15 ⟨Nat.le_of_ble_eq_true rfl, Nat.le_of_ble_eq_true rfl⟩ (fun r u2 H locs hq2 hM hS => ?_)
      obtain ⟨rfl, hu⟩ := hq2
      rw [hu] at hM
      refine lv_goto (tgt := 26) hx hb dX3_linesOf_18 (by decide) ?_
      exact hQ ▸ x_iret hx hb hr hlk hS _ ⟨by simp [opLinesOf, hxr]; rfl, by simp [opLinesOf, hxr], by simp only [opLinesOf, hxr]; exact hR⟩ hM dX3_linesOf_26
set_option maxHeartbeats 4000000 in
theorem mk_lengthOf (l : Launch) (g : xg) (A : Nat → Prop) (m0 : Nat) (ad : Nat → Nat) (μ : mS) (ν : nS) (hR : mR ν μ) (hW : wvOk ν) (v : Int32) :
    Met l yX3_lengthOf (ws_ yX3_lengthOf cX3_lengthOf 2 (some .int)) (xrm 9 0 0) (mPc g A m0 ad μ [.int v]) (mQi g A m0 ad (mOp (opLengthOf ν v))) 0 0 A := by
  refine x_start rfl (Nat.le_of_ble_eq_true rfl) ?_
  intro p e s m below meth c hx hb hr hlk hml hown hts hnm hE hM hS ls hl
  have hF : xFix p m c cX3_lengthOf 2 s _ RX3 := ⟨hx, hb, hml, hown, hts⟩
  generalize hargs : List.toArray _ = args at hts hF ⊢
  generalize hQ : MQ below _ _ s _ _ A = Q
  refine lv_aload_n hx hb dX3_lengthOf_0 rfl (lh_at hl rfl) ?_
  refine n_const hx hb 0 dX3_lengthOf_1 (by decide +kernel) ?_
  refine m_putI hF hE hM hS 0 (by decide) q1314 rfl (by decide +kernel) rfl dX3_lengthOf_2 (fun H locs hM hS => ?_)
  refine lv_aload_n hx hb dX3_lengthOf_5 rfl (lh_at hl rfl) ?_
  refine lv_iload_n hx hb dX3_lengthOf_6 rfl (lh_at hl rfl) ?_
  have hR := mR_thrown (v := nI 0) hR
  refine m_calli (As := [.int v]) hF hE hM hS hl (mk_isBatch l g A m0 ad _ v (vC ν 5) hR.B.1 hR.B.2) q1504 q1506 qs34 q1507 ⟨rfl, by decide +kernel, by decide +kernel, by show _ = some 1; decide +kernel⟩ rfl rfl ⟨Nat.le_of_ble_eq_true rfl, Nat.le_of_ble_eq_true rfl⟩ rfl (Nat.le_of_ble_eq_true rfl) dX3_lengthOf_7 ⟨Nat.le_of_ble_eq_true rfl, Nat.le_of_ble_eq_true rfl⟩ (fun r u H locs hq hM hS => ?_)
  obtain ⟨hq, hu⟩ := hq
  rw [hu] at hM
  cases hxr : xr v (vC ν 5) with
  | none =>
    obtain rfl := isS0 hq hxr
    refine lv_if_eq (tgt := 25) hx hb dX3_lengthOf_10 (by decide) (fun d => ?_) (fun d => ?_)
    · refine lv_aload_n hx hb dX3_lengthOf_25 rfl (lh_at hl rfl) ?_
      refine n_const hx hb 1 dX3_lengthOf_26 (by decide +kernel) ?_
      refine m_calli (As := [.int (nI 1)]) hF hE hM hS hl (mk_fails l g A m0 ad _ (nI 1)) q1395 q1397 qs19 q1398 ⟨rfl, by decide +kernel, by decide +kernel, by show _ = some 1; decide +kernel⟩ rfl rfl ⟨Nat.le_of_ble_eq_true rfl, Nat.le_of_ble_eq_true rfl⟩ rfl (Nat.le_of_ble_eq_true rfl) dX3_lengthOf_27 ⟨Nat.le_of_ble_eq_true rfl, Nat.le_of_ble_eq_true rfl⟩ (fun r uf H locs hqf hM hS => ?_)
      obtain ⟨rfl, huf⟩ := hqf
      rw [huf] at hM
      exact hQ ▸ x_iret hx hb hr hlk hS _ ⟨by simp [opLengthOf, hxr]; rfl, by simp [opLengthOf, hxr], by simp only [opLengthOf, hxr]; exact hR⟩ hM dX3_lengthOf_30
    · exact absurd rfl d
  | some o =>
    obtain rfl := isS1 hq hxr
    obtain ⟨ho, rfl⟩ := xr_some (by have := hR.B.2; omega) hxr
    refine lv_if_eq (tgt := 25) hx hb dX3_lengthOf_10 (by decide) (fun d => ?_) (fun d => ?_)
    · exact absurd d (by decide)
    · refine lv_aload_n hx hb dX3_lengthOf_13 rfl (lh_at hl rfl) ?_
      refine lv_aload_n hx hb dX3_lengthOf_14 rfl (lh_at hl rfl) ?_
      refine lv_iload_n hx hb dX3_lengthOf_15 rfl (lh_at hl rfl) ?_
      refine m_calli (As := [.int (nI o)]) hF hE hM hS hl (mk_productsOf l g A m0 ad _ ν hR o (by have := hR.B.2; omega)) q1492 q1494 qs32 q1495 ⟨rfl, by decide +kernel, by decide +kernel, by show _ = some 1; decide +kernel⟩ rfl rfl ⟨Nat.le_of_ble_eq_true rfl, Nat.le_of_ble_eq_true rfl⟩ rfl (Nat.le_of_ble_eq_true rfl) dX3_lengthOf_16 ⟨Nat.le_of_ble_eq_true rfl, Nat.le_of_ble_eq_true rfl⟩ (fun r u2 H locs hq2 hM hS => ?_)
      obtain ⟨rfl, hu⟩ := hq2
      rw [hu] at hM
      refine m_calli (As := [.int (nI (pAll ν o))]) hF hE hM hS hl (mk_length l g A m0 ad _ ν _ hR (pAll_ok hR.1 hW ho)) q1459 q1461 qs26 q1462 ⟨rfl, by decide +kernel, by decide +kernel, by show _ = some 1; decide +kernel⟩ rfl rfl ⟨Nat.le_of_ble_eq_true rfl, Nat.le_of_ble_eq_true rfl⟩ rfl (Nat.le_of_ble_eq_true rfl) dX3_lengthOf_19 ⟨Nat.le_of_ble_eq_true rfl, Nat.le_of_ble_eq_true rfl⟩ (fun r u3 H locs hq3 hM hS => ?_)
      obtain ⟨rfl, hG, -⟩ := hq3
      refine lv_goto (tgt := 30) hx hb dX3_lengthOf_22 (by decide) ?_
      exact hQ ▸ x_iret hx hb hr hlk hS _ ⟨by rw [hG.1 0 (by decide)]; simp [opLengthOf, hxr]; rfl, by simp [opLengthOf, hxr], by simp only [opLengthOf, hxr]; exact hG.R hR⟩ hM dX3_lengthOf_30
set_option maxHeartbeats 4000000 in
theorem mk_lengthByTrying (l : Launch) (g : xg) (A : Nat → Prop) (m0 : Nat) (ad : Nat → Nat) (μ : mS) (ν : nS) (hR : mR ν μ) (hW : wvOk ν) (v : Int32) :
    Met l yX3_lengthByTrying (ws_ yX3_lengthByTrying cX3_lengthByTrying 3 (some .int)) (xrm 9 0 0) (mPc g A m0 ad μ [.int v]) (mQi g A m0 ad (mOp (opByTrying ν v))) 0 0 A := by
  refine x_start rfl (Nat.le_of_ble_eq_true rfl) ?_
  intro p e s m below meth c hx hb hr hlk hml hown hts hnm hE hM hS ls hl
  have hF : xFix p m c cX3_lengthByTrying 3 s _ RX3 := ⟨hx, hb, hml, hown, hts⟩
  generalize hargs : List.toArray _ = args at hts hF ⊢
  generalize hQ : MQ below _ _ s _ _ A = Q
  refine lv_aload_n hx hb dX3_lengthByTrying_0 rfl (lh_at hl rfl) ?_
  refine n_const hx hb 0 dX3_lengthByTrying_1 (by decide +kernel) ?_
  refine m_putI hF hE hM hS 0 (by decide) q1314 rfl (by decide +kernel) rfl dX3_lengthByTrying_2 (fun H locs hM hS => ?_)
  refine lv_aload_n hx hb dX3_lengthByTrying_5 rfl (lh_at hl rfl) ?_
  refine lv_iload_n hx hb dX3_lengthByTrying_6 rfl (lh_at hl rfl) ?_
  have hR := mR_thrown (v := nI 0) hR
  refine m_calli (As := [.int v]) hF hE hM hS hl (mk_isBatch l g A m0 ad _ v (vC ν 5) hR.B.1 hR.B.2) q1504 q1506 qs34 q1507 ⟨rfl, by decide +kernel, by decide +kernel, by show _ = some 1; decide +kernel⟩ rfl rfl ⟨Nat.le_of_ble_eq_true rfl, Nat.le_of_ble_eq_true rfl⟩ rfl (Nat.le_of_ble_eq_true rfl) dX3_lengthByTrying_7 ⟨Nat.le_of_ble_eq_true rfl, Nat.le_of_ble_eq_true rfl⟩ (fun r u H locs hq hM hS => ?_)
  obtain ⟨hq, hu⟩ := hq
  rw [hu] at hM
  cases hxr : xr v (vC ν 5) with
  | none =>
    obtain rfl := isS0 hq hxr
    refine lv_if_ne (tgt := 19) hx hb dX3_lengthByTrying_10 (by decide) (fun d => ?_) (fun d => ?_)
    · exact absurd rfl d
    · refine lv_aload_n hx hb dX3_lengthByTrying_13 rfl (lh_at hl rfl) ?_
      refine n_const hx hb 1 dX3_lengthByTrying_14 (by decide +kernel) ?_
      refine m_calli (As := [.int (nI 1)]) hF hE hM hS hl (mk_fails l g A m0 ad _ (nI 1)) q1395 q1397 qs19 q1398 ⟨rfl, by decide +kernel, by decide +kernel, by show _ = some 1; decide +kernel⟩ rfl rfl ⟨Nat.le_of_ble_eq_true rfl, Nat.le_of_ble_eq_true rfl⟩ rfl (Nat.le_of_ble_eq_true rfl) dX3_lengthByTrying_15 ⟨Nat.le_of_ble_eq_true rfl, Nat.le_of_ble_eq_true rfl⟩ (fun r uf H locs hqf hM hS => ?_)
      obtain ⟨rfl, huf⟩ := hqf
      rw [huf] at hM
      exact hQ ▸ x_iret hx hb hr hlk hS _ ⟨by simp [opByTrying, hxr]; rfl, by simp [opByTrying, hxr], by simp only [opByTrying, hxr]; exact hR⟩ hM dX3_lengthByTrying_18
  | some o =>
    obtain rfl := isS1 hq hxr
    obtain ⟨ho, rfl⟩ := xr_some (by have := hR.B.2; omega) hxr
    refine lv_if_ne (tgt := 19) hx hb dX3_lengthByTrying_10 (by decide) (fun d => ?_) (fun d => ?_)
    · have hO := pAll_ok hR.1 hW ho
      have h9 := hO.2.2
      refine lv_aload_n hx hb dX3_lengthByTrying_19 rfl (lh_at hl rfl) ?_
      refine lv_aload_n hx hb dX3_lengthByTrying_20 rfl (lh_at hl rfl) ?_
      refine lv_iload_n hx hb dX3_lengthByTrying_21 rfl (lh_at hl rfl) ?_
      refine m_calli (As := [.int (nI o)]) hF hE hM hS hl (mk_productsOf l g A m0 ad _ ν hR o (by have := hR.B.2; omega)) q1492 q1494 qs32 q1495 ⟨rfl, by decide +kernel, by decide +kernel, by show _ = some 1; decide +kernel⟩ rfl rfl ⟨Nat.le_of_ble_eq_true rfl, Nat.le_of_ble_eq_true rfl⟩ rfl (Nat.le_of_ble_eq_true rfl) dX3_lengthByTrying_22 ⟨Nat.le_of_ble_eq_true rfl, Nat.le_of_ble_eq_true rfl⟩ (fun r u2 H locs hq2 hM hS => ?_)
      obtain ⟨rfl, hu⟩ := hq2
      rw [hu] at hM
      refine m_calli (As := [.int (nI (pAll ν o))]) hF hE hM hS hl (mk_length l g A m0 ad _ ν _ hR hO) q1459 q1461 qs26 q1462 ⟨rfl, by decide +kernel, by decide +kernel, by show _ = some 1; decide +kernel⟩ rfl rfl ⟨Nat.le_of_ble_eq_true rfl, Nat.le_of_ble_eq_true rfl⟩ rfl (Nat.le_of_ble_eq_true rfl) dX3_lengthByTrying_25 ⟨Nat.le_of_ble_eq_true rfl, Nat.le_of_ble_eq_true rfl⟩ (fun r u3 H locs hq3 hM hS => ?_)
      obtain ⟨rfl, hG, h16⟩ := hq3
      have h0 : u3.1 0 = nI 0 := by rw [hG.1 0 (by decide)]; rfl
      have hR3 := hG.R hR
      refine x_istore_n hx hb dX3_lengthByTrying_28 rfl hl (by decide) (fun ls hl => ?_)
      refine lv_aload_n hx hb dX3_lengthByTrying_29 rfl (lh_at hl rfl) ?_
      refine m_getI hF hE hM 16 (by decide) q1330 rfl (by exact h16) dX3_lengthByTrying_30 ?_
      refine n_bipush hx hb 7 dX3_lengthByTrying_33 (by decide +kernel) ?_
      refine n_icmp_le (tgt := 46) hx hb dX3_lengthByTrying_35 (by decide) (by omega) (by omega) (fun d2 => ?_) (fun d2 => ?_)
      · refine lv_iload_n hx hb dX3_lengthByTrying_46 rfl (lh_at hl rfl) ?_
        have hno : ¬ 7 < cntN ν (pAll ν o) := by omega
        exact hQ ▸ x_iret hx hb hr hlk hS _ ⟨by simp [opByTrying, hxr, hno]; exact h0, by simp [opByTrying, hxr, hno], by simp only [opByTrying, hxr, if_neg hno]; exact hR3⟩ hM dX3_lengthByTrying_47
      · refine lv_aload_n hx hb dX3_lengthByTrying_38 rfl (lh_at hl rfl) ?_
        refine n_const hx hb 2 dX3_lengthByTrying_39 (by decide +kernel) ?_
        refine m_calli (As := [.int (nI 2)]) hF hE hM hS hl (mk_fails l g A m0 ad _ (nI 2)) q1395 q1397 qs19 q1398 ⟨rfl, by decide +kernel, by decide +kernel, by show _ = some 1; decide +kernel⟩ rfl rfl ⟨Nat.le_of_ble_eq_true rfl, Nat.le_of_ble_eq_true rfl⟩ rfl (Nat.le_of_ble_eq_true rfl) dX3_lengthByTrying_40 ⟨Nat.le_of_ble_eq_true rfl, Nat.le_of_ble_eq_true rfl⟩ (fun r uf H locs hqf hM hS => ?_)
        obtain ⟨rfl, huf⟩ := hqf
        rw [huf] at hM
        refine lv_goto (tgt := 47) hx hb dX3_lengthByTrying_43 (by decide) ?_
        have hyes : 7 < cntN ν (pAll ν o) := by omega
        exact hQ ▸ x_iret hx hb hr hlk hS _ ⟨by simp [opByTrying, hxr, hyes]; rfl, by simp [opByTrying, hxr, hyes], by simp only [opByTrying, hxr, if_pos hyes]; exact hR3⟩ hM dX3_lengthByTrying_47
    · exact absurd d (by decide)
set_option maxHeartbeats 4000000 in
theorem mk_stops (l : Launch) (g : xg) (A : Nat → Prop) (m0 : Nat) (ad : Nat → Nat) (μ : mS) (ν : nS) (hR : mR ν μ) (hW : wvOk ν) (v : Int32) :
    Met l yX3_stops (ws_ yX3_stops cX3_stops 2 (some .int)) (xrm 9 0 0) (mPc g A m0 ad μ [.int v]) (mQi g A m0 ad (mOp (opStops ν v))) 0 0 A := by
  refine x_start rfl (Nat.le_of_ble_eq_true rfl) ?_
  intro p e s m below meth c hx hb hr hlk hml hown hts hnm hE hM hS ls hl
  have hF : xFix p m c cX3_stops 2 s _ RX3 := ⟨hx, hb, hml, hown, hts⟩
  generalize hargs : List.toArray _ = args at hts hF ⊢
  generalize hQ : MQ below _ _ s _ _ A = Q
  refine lv_aload_n hx hb dX3_stops_0 rfl (lh_at hl rfl) ?_
  refine n_const hx hb 0 dX3_stops_1 (by decide +kernel) ?_
  refine m_putI hF hE hM hS 0 (by decide) q1314 rfl (by decide +kernel) rfl dX3_stops_2 (fun H locs hM hS => ?_)
  refine lv_aload_n hx hb dX3_stops_5 rfl (lh_at hl rfl) ?_
  refine lv_iload_n hx hb dX3_stops_6 rfl (lh_at hl rfl) ?_
  have hR := mR_thrown (v := nI 0) hR
  refine m_calli (As := [.int v]) hF hE hM hS hl (mk_isBatch l g A m0 ad _ v (vC ν 5) hR.B.1 hR.B.2) q1504 q1506 qs34 q1507 ⟨rfl, by decide +kernel, by decide +kernel, by show _ = some 1; decide +kernel⟩ rfl rfl ⟨Nat.le_of_ble_eq_true rfl, Nat.le_of_ble_eq_true rfl⟩ rfl (Nat.le_of_ble_eq_true rfl) dX3_stops_7 ⟨Nat.le_of_ble_eq_true rfl, Nat.le_of_ble_eq_true rfl⟩ (fun r u H locs hq hM hS => ?_)
  obtain ⟨hq, hu⟩ := hq
  rw [hu] at hM
  cases hxr : xr v (vC ν 5) with
  | none =>
    obtain rfl := isS0 hq hxr
    refine lv_if_ne (tgt := 19) hx hb dX3_stops_10 (by decide) (fun d => ?_) (fun d => ?_)
    · exact absurd rfl d
    · refine lv_aload_n hx hb dX3_stops_13 rfl (lh_at hl rfl) ?_
      refine n_const hx hb 1 dX3_stops_14 (by decide +kernel) ?_
      refine m_calli (As := [.int (nI 1)]) hF hE hM hS hl (mk_fails l g A m0 ad _ (nI 1)) q1395 q1397 qs19 q1398 ⟨rfl, by decide +kernel, by decide +kernel, by show _ = some 1; decide +kernel⟩ rfl rfl ⟨Nat.le_of_ble_eq_true rfl, Nat.le_of_ble_eq_true rfl⟩ rfl (Nat.le_of_ble_eq_true rfl) dX3_stops_15 ⟨Nat.le_of_ble_eq_true rfl, Nat.le_of_ble_eq_true rfl⟩ (fun r uf H locs hqf hM hS => ?_)
      obtain ⟨rfl, huf⟩ := hqf
      rw [huf] at hM
      exact hQ ▸ x_iret hx hb hr hlk hS _ ⟨by simp [opStops, hxr]; rfl, by simp [opStops, hxr], by simp only [opStops, hxr]; exact hR⟩ hM dX3_stops_18
  | some o =>
    obtain rfl := isS1 hq hxr
    obtain ⟨ho, rfl⟩ := xr_some (by have := hR.B.2; omega) hxr
    refine lv_if_ne (tgt := 19) hx hb dX3_stops_10 (by decide) (fun d => ?_) (fun d => ?_)
    · have hO := pAll_ok hR.1 hW ho
      refine lv_aload_n hx hb dX3_stops_19 rfl (lh_at hl rfl) ?_
      refine lv_aload_n hx hb dX3_stops_20 rfl (lh_at hl rfl) ?_
      refine lv_iload_n hx hb dX3_stops_21 rfl (lh_at hl rfl) ?_
      refine m_calli (As := [.int (nI o)]) hF hE hM hS hl (mk_productsOf l g A m0 ad _ ν hR o (by have := hR.B.2; omega)) q1492 q1494 qs32 q1495 ⟨rfl, by decide +kernel, by decide +kernel, by show _ = some 1; decide +kernel⟩ rfl rfl ⟨Nat.le_of_ble_eq_true rfl, Nat.le_of_ble_eq_true rfl⟩ rfl (Nat.le_of_ble_eq_true rfl) dX3_stops_22 ⟨Nat.le_of_ble_eq_true rfl, Nat.le_of_ble_eq_true rfl⟩ (fun r u2 H locs hq2 hM hS => ?_)
      obtain ⟨rfl, hu⟩ := hq2
      rw [hu] at hM
      refine m_callv (As := [.int (nI (pAll ν o))]) hF hE hM hS hl (mk_layRoute l g A m0 ad _ ν _ hR hO) q1463 q1465 qs27 q1466 ⟨rfl, by decide +kernel, by decide +kernel, by show _ = some 1; decide +kernel⟩ rfl rfl ⟨Nat.le_of_ble_eq_true rfl, Nat.le_of_ble_eq_true rfl⟩ rfl (Nat.le_of_ble_eq_true rfl) dX3_stops_25 ⟨Nat.le_of_ble_eq_true rfl, Nat.le_of_ble_eq_true rfl⟩ (fun u3 H locs hq3 hM hS => ?_)
      obtain ⟨hG, hT, -⟩ := hq3
      refine lv_aload_n hx hb dX3_stops_28 rfl (lh_at hl rfl) ?_
      refine m_getI hF hE hM 16 (by decide) q1330 rfl (by exact hT.1) dX3_stops_29 ?_
      exact hQ ▸ x_iret hx hb hr hlk hS _ ⟨by rw [hG.1 0 (by decide)]; simp [opStops, hxr]; rfl, by simp [opStops, hxr], by simp only [opStops, hxr]; exact hG.R hR⟩ hM dX3_stops_32
    · exact absurd d (by decide)
set_option maxHeartbeats 4000000 in
theorem mk_stopAt (l : Launch) (g : xg) (A : Nat → Prop) (m0 : Nat) (ad : Nat → Nat) (μ : mS) (ν : nS) (hR : mR ν μ) (hW : wvOk ν) (v w : Int32) :
    Met l yX3_stopAt (ws_ yX3_stopAt cX3_stopAt 3 (some .int)) (xrm 9 0 0) (mPc g A m0 ad μ [.int v, .int w]) (mQi g A m0 ad (mOp (opStopAt ν v w))) 0 0 A := by
  refine x_start rfl (Nat.le_of_ble_eq_true rfl) ?_
  intro p e s m below meth c hx hb hr hlk hml hown hts hnm hE hM hS ls hl
  have hF : xFix p m c cX3_stopAt 3 s _ RX3 := ⟨hx, hb, hml, hown, hts⟩
  generalize hargs : List.toArray _ = args at hts hF ⊢
  generalize hQ : MQ below _ _ s _ _ A = Q
  refine lv_aload_n hx hb dX3_stopAt_0 rfl (lh_at hl rfl) ?_
  refine n_const hx hb 0 dX3_stopAt_1 (by decide +kernel) ?_
  refine m_putI hF hE hM hS 0 (by decide) q1314 rfl (by decide +kernel) rfl dX3_stopAt_2 (fun H locs hM hS => ?_)
  refine lv_aload_n hx hb dX3_stopAt_5 rfl (lh_at hl rfl) ?_
  refine lv_iload_n hx hb dX3_stopAt_6 rfl (lh_at hl rfl) ?_
  have hR := mR_thrown (v := nI 0) hR
  refine m_calli (As := [.int v]) hF hE hM hS hl (mk_isBatch l g A m0 ad _ v (vC ν 5) hR.B.1 hR.B.2) q1504 q1506 qs34 q1507 ⟨rfl, by decide +kernel, by decide +kernel, by show _ = some 1; decide +kernel⟩ rfl rfl ⟨Nat.le_of_ble_eq_true rfl, Nat.le_of_ble_eq_true rfl⟩ rfl (Nat.le_of_ble_eq_true rfl) dX3_stopAt_7 ⟨Nat.le_of_ble_eq_true rfl, Nat.le_of_ble_eq_true rfl⟩ (fun r u H locs hq hM hS => ?_)
  obtain ⟨hq, hu⟩ := hq
  rw [hu] at hM
  cases hxr : xr v (vC ν 5) with
  | none =>
    obtain rfl := isS0 hq hxr
    refine lv_if_ne (tgt := 19) hx hb dX3_stopAt_10 (by decide) (fun d => ?_) (fun d => ?_)
    · exact absurd rfl d
    · refine lv_aload_n hx hb dX3_stopAt_13 rfl (lh_at hl rfl) ?_
      refine n_const hx hb 1 dX3_stopAt_14 (by decide +kernel) ?_
      refine m_calli (As := [.int (nI 1)]) hF hE hM hS hl (mk_fails l g A m0 ad _ (nI 1)) q1395 q1397 qs19 q1398 ⟨rfl, by decide +kernel, by decide +kernel, by show _ = some 1; decide +kernel⟩ rfl rfl ⟨Nat.le_of_ble_eq_true rfl, Nat.le_of_ble_eq_true rfl⟩ rfl (Nat.le_of_ble_eq_true rfl) dX3_stopAt_15 ⟨Nat.le_of_ble_eq_true rfl, Nat.le_of_ble_eq_true rfl⟩ (fun r uf H locs hqf hM hS => ?_)
      obtain ⟨rfl, huf⟩ := hqf
      rw [huf] at hM
      exact hQ ▸ x_iret hx hb hr hlk hS _ ⟨by simp [opStopAt, hxr]; rfl, by simp [opStopAt, hxr], by simp only [opStopAt, hxr]; exact hR⟩ hM dX3_stopAt_18
  | some o =>
    obtain rfl := isS1 hq hxr
    obtain ⟨ho, rfl⟩ := xr_some (by have := hR.B.2; omega) hxr
    refine lv_if_ne (tgt := 19) hx hb dX3_stopAt_10 (by decide) (fun d => ?_) (fun d => ?_)
    · have hO := pAll_ok hR.1 hW ho
      have h9 := hO.2.2
      refine lv_aload_n hx hb dX3_stopAt_19 rfl (lh_at hl rfl) ?_
      refine lv_aload_n hx hb dX3_stopAt_20 rfl (lh_at hl rfl) ?_
      refine lv_iload_n hx hb dX3_stopAt_21 rfl (lh_at hl rfl) ?_
      refine m_calli (As := [.int (nI o)]) hF hE hM hS hl (mk_productsOf l g A m0 ad _ ν hR o (by have := hR.B.2; omega)) q1492 q1494 qs32 q1495 ⟨rfl, by decide +kernel, by decide +kernel, by show _ = some 1; decide +kernel⟩ rfl rfl ⟨Nat.le_of_ble_eq_true rfl, Nat.le_of_ble_eq_true rfl⟩ rfl (Nat.le_of_ble_eq_true rfl) dX3_stopAt_22 ⟨Nat.le_of_ble_eq_true rfl, Nat.le_of_ble_eq_true rfl⟩ (fun r u2 H locs hq2 hM hS => ?_)
      obtain ⟨rfl, hu⟩ := hq2
      rw [hu] at hM
      refine m_callv (As := [.int (nI (pAll ν o))]) hF hE hM hS hl (mk_layPath l g A m0 ad _ ν _ hR hO) q1544 q1546 qs36 q1547 ⟨rfl, by decide +kernel, by decide +kernel, by show _ = some 1; decide +kernel⟩ rfl rfl ⟨Nat.le_of_ble_eq_true rfl, Nat.le_of_ble_eq_true rfl⟩ rfl (Nat.le_of_ble_eq_true rfl) dX3_stopAt_25 ⟨Nat.le_of_ble_eq_true rfl, Nat.le_of_ble_eq_true rfl⟩ (fun u3 H locs hq3 hM hS => ?_)
      obtain ⟨hG, hT, hpa⟩ := hq3
      have h0 : u3.1 0 = nI 0 := by rw [hG.1 0 (by decide)]; rfl
      have hR3 := hG.R hR
      generalize hSe : pAll ν o = S at hT hpa hO h9
      refine lv_iload_n hx hb dX3_stopAt_28 rfl (lh_at hl rfl) ?_
      refine lv_iconst (v := 0) hx hb dX3_stopAt_29 (by decide +kernel) ?_
      refine lv_aload_n hx hb dX3_stopAt_30 rfl (lh_at hl rfl) ?_
      refine m_getI hF hE hM 16 (by decide) q1330 rfl (by exact hT.1) dX3_stopAt_31 ?_
      refine lv_iconst (v := 1) hx hb dX3_stopAt_34 (by decide +kernel) ?_
      refine lv_isub hx hb dX3_stopAt_35 ?_
      refine z_calli (P := mW g A m0 ad u3) (As := [.int w, .int 0, .int (nI (cntN ν S) - 1)]) hF hE hM hS hl (zk_in l g A _ w 0 (nI (cntN ν S) - 1)) q1392 q1393 q44 q1394 ⟨by decide +kernel, by decide +kernel, by show _ = some 3; decide +kernel⟩ rfl rfl ⟨Nat.le_of_ble_eq_true rfl, Nat.le_of_ble_eq_true rfl⟩ rfl (Nat.le_of_ble_eq_true rfl) dX3_stopAt_36 ⟨Nat.le_of_ble_eq_true rfl, Nat.le_of_ble_eq_true rfl⟩ (fun r H locs hqz hM hS => ?_)
      have hqz := hqz.trans (in_xr (by omega))
      cases hxw : xr w (cntN ν S) with
      | none =>
        obtain rfl := isS0 hqz hxw
        refine lv_if_eq (tgt := 61) hx hb dX3_stopAt_39 (by decide) (fun d2 => ?_) (fun d2 => ?_)
        · refine lv_aload_n hx hb dX3_stopAt_61 rfl (lh_at hl rfl) ?_
          refine n_const hx hb 1 dX3_stopAt_62 (by decide +kernel) ?_
          refine m_calli (As := [.int (nI 1)]) hF hE hM hS hl (mk_fails l g A m0 ad _ (nI 1)) q1395 q1397 qs19 q1398 ⟨rfl, by decide +kernel, by decide +kernel, by show _ = some 1; decide +kernel⟩ rfl rfl ⟨Nat.le_of_ble_eq_true rfl, Nat.le_of_ble_eq_true rfl⟩ rfl (Nat.le_of_ble_eq_true rfl) dX3_stopAt_63 ⟨Nat.le_of_ble_eq_true rfl, Nat.le_of_ble_eq_true rfl⟩ (fun r uf H locs hqf hM hS => ?_)
          obtain ⟨rfl, huf⟩ := hqf
          rw [huf] at hM
          exact hQ ▸ x_iret hx hb hr hlk hS _ ⟨by simp [opStopAt, hxr, hSe, hxw]; rfl, by simp [opStopAt, hxr, hSe, hxw], by simp only [opStopAt, hxr, hSe, hxw]; exact hR3⟩ hM dX3_stopAt_66
        · exact absurd rfl d2
      | some i =>
        obtain rfl := isS1 hqz hxw
        obtain ⟨hi, rfl⟩ := xr_some (by omega) hxw
        refine lv_if_eq (tgt := 61) hx hb dX3_stopAt_39 (by decide) (fun d2 => ?_) (fun d2 => ?_)
        · exact absurd d2 (by decide)
        · have hp := pathN_ok hR.1 hO (i + 1) (by omega)
          have hpl : (pathN ν S (i + 1)).2 < cntN ν S := by
            rcases pathN_last hR.1 hO (i + 1) (by omega) with q | q
            · have h1 := nextN_ok hR.1 hO (pathN_ok hR.1 hO i (by omega)).1 (pathN_ok hR.1 hO i (by omega)).2.1 (pathN_left hR.1 hO hi)
              exact h1.2.1
            · exact q.1
          have hst := hT.stp hR3 hO hpl
          refine lv_aload_n hx hb dX3_stopAt_42 rfl (lh_at hl rfl) ?_
          refine m_getA hF hE hM 5 (by decide) q1319 rfl dX3_stopAt_43 ?_
          refine lv_aload_n hx hb dX3_stopAt_46 rfl (lh_at hl rfl) ?_
          refine m_getA hF hE hM 17 (by decide) q1331 rfl dX3_stopAt_47 ?_
          refine lv_aload_n hx hb dX3_stopAt_50 rfl (lh_at hl rfl) ?_
          refine m_getA hF hE hM 19 (by decide) q1333 rfl dX3_stopAt_51 ?_
          refine lv_iload_n hx hb dX3_stopAt_54 rfl (lh_at hl rfl) ?_
          refine m_ald hF hE hM (by decide) (by simp only [mLen]; omega) (by exact hpa i hi) dX3_stopAt_55 ?_
          refine m_ald hF hE hM (by decide) (by simp only [mLen]; omega) (by exact hst.1) dX3_stopAt_56 ?_
          refine m_ald hF hE hM (by decide) (by simp only [mLen]; omega) (by exact hst.2.2.1) dX3_stopAt_57 ?_
          refine lv_goto (tgt := 66) hx hb dX3_stopAt_58 (by decide) ?_
          exact hQ ▸ x_iret hx hb hr hlk hS _ ⟨by simp [opStopAt, hxr, hSe, hxw]; exact h0, by simp [opStopAt, hxr, hSe, hxw], by simp only [opStopAt, hxr, hSe, hxw]; exact hR3⟩ hM dX3_stopAt_66
    · exact absurd d (by decide)
