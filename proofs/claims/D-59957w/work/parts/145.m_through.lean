/-! THE REFERENCE: routes through aisles -/
set_option maxRecDepth 100000
set_option maxHeartbeats 4000000 in
theorem mk_farthest (l : Launch) (g : xg) (A : Nat → Prop) (m0 : Nat) (ad : Nat → Nat) (μ : mS) (ν : nS) (hR : mR ν μ) (b a : Nat) (hb9 : b < 1000) (ha9 : a < 1000) :
    Met l yX3_farthest (ws_ yX3_farthest cX3_farthest 7 (some .int)) (xrm 2 0 0) (mPc g A m0 ad μ [.int (nI b), .int (nI a)]) (mQi g A m0 ad (fun r u => r = nI (farN ν (pAll ν b) a 20) ∧ u = μ)) 0 0 A := by
  refine x_start rfl (Nat.le_of_ble_eq_true rfl) ?_
  intro p e s m below meth c hx hb hr hlk hml hown hts hnm hE hM hS ls hl
  have hF : xFix p m c cX3_farthest 7 s _ RX3 := ⟨hx, hb, hml, hown, hts⟩
  generalize hargs : List.toArray _ = args at hts hF ⊢
  generalize hQ : MQ below _ _ s _ _ A = Q
  have hSO := (prods_ok hR.1 (b := b) (vC ν 4) (Nat.le_refl _)).1
  obtain ⟨S, hS0⟩ : ∃ S, S = pAll ν b := ⟨_, rfl⟩
  have hSe : prodsN ν b (vC ν 4) = S := hS0.symm
  rw [hSe] at hSO
  have hS20 : S < 2 ^ 31 := by have := hSO.1; omega
  have loop : ∀ (n i : Nat), i ≤ 20 → 20 < i + n → ∀ (H : Heap) (locs : List Loc) (ls : Array Slot), mW g A m0 ad μ H → va_S A s.heap H locs → lh ls 7 (xl [(0, .ref m0), (2, .int (nI a)), (3, .int (nI S)), (4, .int (nI (farN ν S a i))), (5, .int (nI i))]) → W p l e (xrm 2 0 0) s m args below meth c H locs 0 0 Q (F0 m 12 ls []) := by
    intro n
    induction n with
    | zero => intro i h1 h2; exact absurd h2 (by omega)
    | succ n ih =>
      intro i h1 h2 H locs ls hM hS hl
      have hfl := farN_le (ν := ν) (S := S) (a := a) i
      refine lv_iload hx hb dX3_farthest_12 (lh_at hl rfl) ?_
      refine n_bipush hx hb 20 dX3_farthest_14 (by decide +kernel) ?_
      refine n_icmp_ge (tgt := 93) hx hb dX3_farthest_16 (by decide) (by omega) (by omega) (fun c1 => ?_) (fun c1 => ?_)
      · refine lv_iload hx hb dX3_farthest_93 (lh_at hl rfl) ?_
        have e : i = 20 := by omega
        subst e
        exact hQ ▸ x_iret hx hb hr hlk hS _ ⟨by rw [hS0], rfl⟩ hM dX3_farthest_95
      · have hi : i < 20 := by omega
        have hpl := hR.pl2 hi
        have no : ∀ (ls : Array Slot), ¬ (S.testBit i = true ∧ vPl ν i / 100 = a) → lh ls 7 (xl [(0, .ref m0), (2, .int (nI a)), (3, .int (nI S)), (4, .int (nI (farN ν S a i))), (5, .int (nI i))]) → W p l e (xrm 2 0 0) s m args below meth c H locs 0 0 Q (F0 m 47 ls []) := by
          intro ls hc hl
          have e : farN ν S a (i + 1) = farN ν S a i := by
            rw [farN, if_neg (fun z => hc z.1)]
          refine n_const hx hb 0 dX3_farthest_47 (by decide +kernel) ?_
          refine x_istore hx hb dX3_farthest_48 hl (by decide) (fun ls hl => ?_)
          refine lv_iload hx hb dX3_farthest_50 (lh_at hl rfl) ?_
          refine n_if_eq (tgt := 83) hx hb dX3_farthest_52 (by decide) (by decide) (fun d => ?_) (fun d => ?_)
          · refine lv_iload hx hb dX3_farthest_83 (lh_at hl rfl) ?_
            refine x_istore hx hb dX3_farthest_85 hl (by decide) (fun ls hl => ?_)
            refine n_iinc hx hb 1 dX3_farthest_87 hl rfl (by decide +kernel) (by decide) (fun ls hl => ?_)
            refine lv_goto (tgt := 12) hx hb dX3_farthest_90 (by decide) ?_
            exact ih (i + 1) (by omega) (by omega) _ _ _ hM hS (lh_sub hl _ ⟨rfl, rfl, rfl, xl_v (by rw [e]), rfl, trivial⟩)
          · omega
        refine lv_iload_n hx hb dX3_farthest_19 rfl (lh_at hl rfl) ?_
        refine lv_iload hx hb dX3_farthest_20 (lh_at hl rfl) ?_
        refine n_ishr hx hb (by omega) (by omega) dX3_farthest_22 ?_
        refine n_const hx hb 1 dX3_farthest_23 (by decide +kernel) ?_
        refine n_iand hx hb dX3_farthest_24 ?_
        refine n_const hx hb 1 dX3_farthest_25 (by decide +kernel) ?_
        refine n_icmp_ne (tgt := 47) hx hb dX3_farthest_26 (by decide) (by have := and1_lt S i; omega) (by omega) (fun c2 => ?_) (fun c2 => ?_)
        · exact no _ (fun z => c2 (bit_and.mpr z.1)) (lh_sub hl _ ⟨rfl, rfl, rfl, rfl, rfl, trivial⟩)
        · have hb1 : S.testBit i = true := bit_and.mp c2
          have hp0 := hSO.2 i hi hb1
          have hpe : μ.2.1 5 i = nI (vPl ν i) := (hR.pl hi).trans (eP_pos hp0)
          refine lv_aload_n hx hb dX3_farthest_29 rfl (lh_at hl rfl) ?_
          refine m_getA hF hE hM 5 (by decide) q1319 rfl dX3_farthest_30 ?_
          refine lv_iload hx hb dX3_farthest_33 (lh_at hl rfl) ?_
          refine m_ald hF hE hM (by decide) (by simp only [mLen]; omega) (by exact hpe) dX3_farthest_35 ?_
          refine n_bipush hx hb 100 dX3_farthest_36 (by decide +kernel) ?_
          refine n_idiv hx hb (by omega) (by decide) (by decide) dX3_farthest_38 ?_
          refine lv_iload_n hx hb dX3_farthest_39 rfl (lh_at hl rfl) ?_
          refine n_icmp_ne (tgt := 47) hx hb dX3_farthest_40 (by decide) (by omega) (by omega) (fun c3 => ?_) (fun c3 => ?_)
          · exact no _ (fun z => c3 z.2) (lh_sub hl _ ⟨rfl, rfl, rfl, rfl, rfl, trivial⟩)
          · have hc : S.testBit i = true ∧ vPl ν i / 100 = a := ⟨hb1, c3⟩
            refine n_const hx hb 1 dX3_farthest_43 (by decide +kernel) ?_
            refine lv_goto (tgt := 48) hx hb dX3_farthest_44 (by decide) ?_
            refine x_istore hx hb dX3_farthest_48 hl (by decide) (fun ls hl => ?_)
            refine lv_iload hx hb dX3_farthest_50 (lh_at hl rfl) ?_
            refine n_if_eq (tgt := 83) hx hb dX3_farthest_52 (by decide) (by decide) (fun d => ?_) (fun d => ?_)
            · omega
            · refine lv_aload_n hx hb dX3_farthest_55 rfl (lh_at hl rfl) ?_
              refine m_getA hF hE hM 5 (by decide) q1319 rfl dX3_farthest_56 ?_
              refine lv_iload hx hb dX3_farthest_59 (lh_at hl rfl) ?_
              refine m_ald hF hE hM (by decide) (by simp only [mLen]; omega) (by exact hpe) dX3_farthest_61 ?_
              refine n_bipush hx hb 100 dX3_farthest_62 (by decide +kernel) ?_
              refine n_irem hx hb (by omega) (by decide) (by decide) dX3_farthest_64 ?_
              refine lv_iload hx hb dX3_farthest_65 (lh_at hl rfl) ?_
              refine n_icmp_le (tgt := 83) hx hb dX3_farthest_67 (by decide) (by omega) (by omega) (fun c4 => ?_) (fun c4 => ?_)
              · have e : farN ν S a (i + 1) = farN ν S a i := by
                  rw [farN, if_neg (fun z => by have := z.2; omega)]
                refine lv_iload hx hb dX3_farthest_83 (lh_at hl rfl) ?_
                refine x_istore hx hb dX3_farthest_85 hl (by decide) (fun ls hl => ?_)
                refine n_iinc hx hb 1 dX3_farthest_87 hl rfl (by decide +kernel) (by decide) (fun ls hl => ?_)
                refine lv_goto (tgt := 12) hx hb dX3_farthest_90 (by decide) ?_
                exact ih (i + 1) (by omega) (by omega) _ _ _ hM hS (lh_sub hl _ ⟨rfl, rfl, rfl, xl_v (by rw [e]), rfl, trivial⟩)
              · have e : farN ν S a (i + 1) = vPl ν i % 100 := by
                  rw [farN, if_pos ⟨hc, by omega⟩]
                refine lv_aload_n hx hb dX3_farthest_70 rfl (lh_at hl rfl) ?_
                refine m_getA hF hE hM 5 (by decide) q1319 rfl dX3_farthest_71 ?_
                refine lv_iload hx hb dX3_farthest_74 (lh_at hl rfl) ?_
                refine m_ald hF hE hM (by decide) (by simp only [mLen]; omega) (by exact hpe) dX3_farthest_76 ?_
                refine n_bipush hx hb 100 dX3_farthest_77 (by decide +kernel) ?_
                refine n_irem hx hb (by omega) (by decide) (by decide) dX3_farthest_79 ?_
                refine lv_goto (tgt := 85) hx hb dX3_farthest_80 (by decide) ?_
                refine x_istore hx hb dX3_farthest_85 hl (by decide) (fun ls hl => ?_)
                refine n_iinc hx hb 1 dX3_farthest_87 hl rfl (by decide +kernel) (by decide) (fun ls hl => ?_)
                refine lv_goto (tgt := 12) hx hb dX3_farthest_90 (by decide) ?_
                exact ih (i + 1) (by omega) (by omega) _ _ _ hM hS (lh_sub hl _ ⟨rfl, rfl, rfl, xl_v (by rw [e]), rfl, trivial⟩)
  refine lv_aload_n hx hb dX3_farthest_0 rfl (lh_at hl rfl) ?_
  refine lv_iload_n hx hb dX3_farthest_1 rfl (lh_at hl rfl) ?_
  refine m_calli (As := [.int (nI b)]) hF hE hM hS hl (mk_productsOf l g A m0 ad μ ν hR b hb9) q1492 q1494 qs32 q1495 ⟨rfl, by decide +kernel, by decide +kernel, by show _ = some 1; decide +kernel⟩ rfl rfl ⟨Nat.le_of_ble_eq_true rfl, Nat.le_of_ble_eq_true rfl⟩ rfl (Nat.le_of_ble_eq_true rfl) dX3_farthest_2 ⟨Nat.le_of_ble_eq_true rfl, Nat.le_of_ble_eq_true rfl⟩ (fun r u H locs hq hM hS => ?_)
  obtain ⟨rfl, hu⟩ := hq
  rw [hu] at hM
  rw [hSe]
  refine x_istore_n hx hb dX3_farthest_5 rfl hl (by decide) (fun ls hl => ?_)
  refine n_const hx hb 0 dX3_farthest_6 (by decide +kernel) ?_
  refine x_istore hx hb dX3_farthest_7 hl (by decide) (fun ls hl => ?_)
  refine n_const hx hb 0 dX3_farthest_9 (by decide +kernel) ?_
  refine x_istore hx hb dX3_farthest_10 hl (by decide) (fun ls hl => ?_)
  exact loop 21 0 (by omega) (by omega) _ _ _ hM hS (lh_sub hl _ ⟨rfl, rfl, rfl, rfl, rfl, trivial⟩)
set_option maxHeartbeats 4000000 in
theorem mk_inAisle (l : Launch) (g : xg) (A : Nat → Prop) (m0 : Nat) (ad : Nat → Nat) (μ : mS) (ν : nS) (hR : mR ν μ) (v : Int32) :
    Met l yX3_inAisle (ws_ yX3_inAisle cX3_inAisle 4 (some .int)) (xrm 9 0 0) (mPc g A m0 ad μ [.int v]) (mQi g A m0 ad (mOp (opInAisle ν v))) 0 0 A := by
  refine x_start rfl (Nat.le_of_ble_eq_true rfl) ?_
  intro p e s m below meth c hx hb hr hlk hml hown hts hnm hE hM hS ls hl
  have hF : xFix p m c cX3_inAisle 4 s _ RX3 := ⟨hx, hb, hml, hown, hts⟩
  generalize hargs : List.toArray _ = args at hts hF ⊢
  generalize hQ : MQ below _ _ s _ _ A = Q
  refine lv_aload_n hx hb dX3_inAisle_0 rfl (lh_at hl rfl) ?_
  refine n_const hx hb 0 dX3_inAisle_1 (by decide +kernel) ?_
  refine m_putI hF hE hM hS 0 (by decide) q1314 rfl (by decide +kernel) rfl dX3_inAisle_2 (fun H locs hM hS => ?_)
  refine lv_iload_n hx hb dX3_inAisle_5 rfl (lh_at hl rfl) ?_
  have hR := mR_thrown (v := nI 0) hR
  have hA := hR.A
  have hB := hR.B
  generalize hμ : m_setI μ 0 (nI 0) = μ1 at hM hR hA hB
  have h0 : μ1.1 0 = nI 0 := by rw [← hμ]; rfl
  refine lv_iconst (v := 0) hx hb dX3_inAisle_6 (by decide +kernel) ?_
  refine lv_aload_n hx hb dX3_inAisle_7 rfl (lh_at hl rfl) ?_
  refine m_getI hF hE hM 1 (by decide) q1315 rfl (by exact hA.1) dX3_inAisle_8 ?_
  refine lv_iconst (v := 1) hx hb dX3_inAisle_11 (by decide +kernel) ?_
  refine lv_isub hx hb dX3_inAisle_12 ?_
  refine z_calli (P := mW g A m0 ad μ1) (As := [.int v, .int 0, .int (nI (vC ν 0) - 1)]) hF hE hM hS hl (zk_in l g A _ v 0 (nI (vC ν 0) - 1)) q1392 q1393 q44 q1394 ⟨by decide +kernel, by decide +kernel, by show _ = some 3; decide +kernel⟩ rfl rfl ⟨Nat.le_of_ble_eq_true rfl, Nat.le_of_ble_eq_true rfl⟩ rfl (Nat.le_of_ble_eq_true rfl) dX3_inAisle_13 ⟨Nat.le_of_ble_eq_true rfl, Nat.le_of_ble_eq_true rfl⟩ (fun r H locs hq hM hS => ?_)
  have hq := hq.trans (in_xr (by omega))
  cases hxr : xr v (vC ν 0) with
  | none =>
    obtain rfl := isS0 hq hxr
    refine lv_if_ne (tgt := 25) hx hb dX3_inAisle_16 (by decide) (fun d => ?_) (fun d => ?_)
    · exact absurd rfl d
    · refine lv_aload_n hx hb dX3_inAisle_19 rfl (lh_at hl rfl) ?_
      refine n_const hx hb 1 dX3_inAisle_20 (by decide +kernel) ?_
      refine m_calli (As := [.int (nI 1)]) hF hE hM hS hl (mk_fails l g A m0 ad _ (nI 1)) q1395 q1397 qs19 q1398 ⟨rfl, by decide +kernel, by decide +kernel, by show _ = some 1; decide +kernel⟩ rfl rfl ⟨Nat.le_of_ble_eq_true rfl, Nat.le_of_ble_eq_true rfl⟩ rfl (Nat.le_of_ble_eq_true rfl) dX3_inAisle_21 ⟨Nat.le_of_ble_eq_true rfl, Nat.le_of_ble_eq_true rfl⟩ (fun r uf H locs hqf hM hS => ?_)
      obtain ⟨rfl, huf⟩ := hqf
      rw [huf] at hM
      exact hQ ▸ x_iret hx hb hr hlk hS _ ⟨by simp [opInAisle, hxr]; rfl, by simp [opInAisle, hxr], by simp only [opInAisle, hxr]; exact hR⟩ hM dX3_inAisle_24
  | some a =>
    obtain rfl := isS1 hq hxr
    obtain ⟨ha, rfl⟩ := xr_some (by omega) hxr
    have loop : ∀ (n i : Nat), i ≤ vC ν 5 → vC ν 5 < i + n → ∀ (H : Heap) (locs : List Loc) (ls : Array Slot), mW g A m0 ad μ1 H → va_S A s.heap H locs → lh ls 4 (xl [(0, .ref m0), (1, .int (nI a)), (2, .int (nI (inAN ν a i))), (3, .int (nI i))]) → W p l e (xrm 9 0 0) s m args below meth c H locs 0 0 Q (F0 m 29 ls []) := by
      intro n
      induction n with
      | zero => intro i h1 h2; exact absurd h2 (by omega)
      | succ n ih =>
        intro i h1 h2 H locs ls hM hS hl
        refine lv_iload_n hx hb dX3_inAisle_29 rfl (lh_at hl rfl) ?_
        refine lv_aload_n hx hb dX3_inAisle_30 rfl (lh_at hl rfl) ?_
        refine m_getI hF hE hM 13 (by decide) q1327 rfl (by exact hB.1) dX3_inAisle_31 ?_
        refine n_icmp_ge (tgt := 60) hx hb dX3_inAisle_34 (by decide) (by omega) (by omega) (fun c1 => ?_) (fun c1 => ?_)
        · refine lv_iload_n hx hb dX3_inAisle_60 rfl (lh_at hl rfl) ?_
          have e : i = vC ν 5 := by omega
          subst e
          exact hQ ▸ x_iret hx hb hr hlk hS _ ⟨by simp [opInAisle, hxr]; exact h0, by simp [opInAisle, hxr], by simp only [opInAisle, hxr]; exact hR⟩ hM dX3_inAisle_61
        · have hi : i < vC ν 5 := by omega
          have hfl := farN_le (ν := ν) (S := pAll ν i) (a := a) 20
          refine lv_iload_n hx hb dX3_inAisle_37 rfl (lh_at hl rfl) ?_
          refine lv_aload_n hx hb dX3_inAisle_38 rfl (lh_at hl rfl) ?_
          refine lv_iload_n hx hb dX3_inAisle_39 rfl (lh_at hl rfl) ?_
          refine lv_iload_n hx hb dX3_inAisle_40 rfl (lh_at hl rfl) ?_
          refine m_calli (As := [.int (nI i), .int (nI a)]) hF hE hM hS hl (mk_farthest l g A m0 ad μ1 ν hR i a (by omega) (by omega)) q1532 q1534 qs35 q1535 ⟨rfl, by decide +kernel, by decide +kernel, by show _ = some 2; decide +kernel⟩ rfl rfl ⟨Nat.le_of_ble_eq_true rfl, Nat.le_of_ble_eq_true rfl⟩ rfl (Nat.le_of_ble_eq_true rfl) dX3_inAisle_41 ⟨Nat.le_of_ble_eq_true rfl, Nat.le_of_ble_eq_true rfl⟩ (fun r u H locs hq hM hS => ?_)
          obtain ⟨rfl, hu⟩ := hq
          rw [hu] at hM
          refine n_if_le (tgt := 51) hx hb dX3_inAisle_44 (by decide) (by omega) (fun c2 => ?_) (fun c2 => ?_)
          · have e : inAN ν a (i + 1) = inAN ν a i := by rw [inAN, if_neg (by omega)]
            refine n_const hx hb 0 dX3_inAisle_51 (by decide +kernel) ?_
            refine n_iadd hx hb dX3_inAisle_52 ?_
            refine x_istore_n hx hb dX3_inAisle_53 rfl hl (by decide) (fun ls hl => ?_)
            refine n_iinc hx hb 1 dX3_inAisle_54 hl rfl (by decide +kernel) (by decide) (fun ls hl => ?_)
            refine lv_goto (tgt := 29) hx hb dX3_inAisle_57 (by decide) ?_
            exact ih (i + 1) (by omega) (by omega) _ _ _ hM hS (lh_sub hl _ ⟨rfl, rfl, xl_v (by rw [e]; rfl), rfl, trivial⟩)
          · have e : inAN ν a (i + 1) = inAN ν a i + 1 := by rw [inAN, if_pos (by omega)]
            refine n_const hx hb 1 dX3_inAisle_47 (by decide +kernel) ?_
            refine lv_goto (tgt := 52) hx hb dX3_inAisle_48 (by decide) ?_
            refine n_iadd hx hb dX3_inAisle_52 ?_
            refine x_istore_n hx hb dX3_inAisle_53 rfl hl (by decide) (fun ls hl => ?_)
            refine n_iinc hx hb 1 dX3_inAisle_54 hl rfl (by decide +kernel) (by decide) (fun ls hl => ?_)
            refine lv_goto (tgt := 29) hx hb dX3_inAisle_57 (by decide) ?_
            exact ih (i + 1) (by omega) (by omega) _ _ _ hM hS (lh_sub hl _ ⟨rfl, rfl, xl_v (by rw [e]), rfl, trivial⟩)
    refine lv_if_ne (tgt := 25) hx hb dX3_inAisle_16 (by decide) (fun d => ?_) (fun d => ?_)
    · refine n_const hx hb 0 dX3_inAisle_25 (by decide +kernel) ?_
      refine x_istore_n hx hb dX3_inAisle_26 rfl hl (by decide) (fun ls hl => ?_)
      refine n_const hx hb 0 dX3_inAisle_27 (by decide +kernel) ?_
      refine x_istore_n hx hb dX3_inAisle_28 rfl hl (by decide) (fun ls hl => ?_)
      exact loop (vC ν 5 + 1) 0 (by omega) (by omega) _ _ _ hM hS (lh_sub hl _ ⟨rfl, rfl, rfl, rfl, trivial⟩)
    · exact absurd d (by decide)
set_option maxHeartbeats 4000000 in
theorem mk_lengthThrough (l : Launch) (g : xg) (A : Nat → Prop) (m0 : Nat) (ad : Nat → Nat) (μ : mS) (ν : nS) (hR : mR ν μ) (v : Int32) :
    Met l yX3_lengthThrough (ws_ yX3_lengthThrough cX3_lengthThrough 5 (some .int)) (xrm 9 0 0) (mPc g A m0 ad μ [.int v]) (mQi g A m0 ad (mOp (opThrough ν v))) 0 0 A := by
  refine x_start rfl (Nat.le_of_ble_eq_true rfl) ?_
  intro p e s m below meth c hx hb hr hlk hml hown hts hnm hE hM hS ls hl
  have hF : xFix p m c cX3_lengthThrough 5 s _ RX3 := ⟨hx, hb, hml, hown, hts⟩
  generalize hargs : List.toArray _ = args at hts hF ⊢
  generalize hQ : MQ below _ _ s _ _ A = Q
  refine lv_aload_n hx hb dX3_lengthThrough_0 rfl (lh_at hl rfl) ?_
  refine n_const hx hb 0 dX3_lengthThrough_1 (by decide +kernel) ?_
  refine m_putI hF hE hM hS 0 (by decide) q1314 rfl (by decide +kernel) rfl dX3_lengthThrough_2 (fun H locs hM hS => ?_)
  refine lv_aload_n hx hb dX3_lengthThrough_5 rfl (lh_at hl rfl) ?_
  refine lv_iload_n hx hb dX3_lengthThrough_6 rfl (lh_at hl rfl) ?_
  have hR := mR_thrown (v := nI 0) hR
  have hA := hR.A
  have hP := hR.P
  have hG := hR.G
  have hB := hR.B
  generalize hμ : m_setI μ 0 (nI 0) = μ1 at hM hR hA hB hP hG
  have h0 : μ1.1 0 = nI 0 := by rw [← hμ]; rfl
  refine m_calli (As := [.int v]) hF hE hM hS hl (mk_isBatch l g A m0 ad _ v (vC ν 5) hB.1 hB.2) q1504 q1506 qs34 q1507 ⟨rfl, by decide +kernel, by decide +kernel, by show _ = some 1; decide +kernel⟩ rfl rfl ⟨Nat.le_of_ble_eq_true rfl, Nat.le_of_ble_eq_true rfl⟩ rfl (Nat.le_of_ble_eq_true rfl) dX3_lengthThrough_7 ⟨Nat.le_of_ble_eq_true rfl, Nat.le_of_ble_eq_true rfl⟩ (fun r u H locs hq hM hS => ?_)
  obtain ⟨hq, hu⟩ := hq
  rw [hu] at hM
  cases hxr : xr v (vC ν 5) with
  | none =>
    obtain rfl := isS0 hq hxr
    refine lv_if_ne (tgt := 19) hx hb dX3_lengthThrough_10 (by decide) (fun d => ?_) (fun d => ?_)
    · exact absurd rfl d
    · refine lv_aload_n hx hb dX3_lengthThrough_13 rfl (lh_at hl rfl) ?_
      refine n_const hx hb 1 dX3_lengthThrough_14 (by decide +kernel) ?_
      refine m_calli (As := [.int (nI 1)]) hF hE hM hS hl (mk_fails l g A m0 ad _ (nI 1)) q1395 q1397 qs19 q1398 ⟨rfl, by decide +kernel, by decide +kernel, by show _ = some 1; decide +kernel⟩ rfl rfl ⟨Nat.le_of_ble_eq_true rfl, Nat.le_of_ble_eq_true rfl⟩ rfl (Nat.le_of_ble_eq_true rfl) dX3_lengthThrough_15 ⟨Nat.le_of_ble_eq_true rfl, Nat.le_of_ble_eq_true rfl⟩ (fun r uf H locs hqf hM hS => ?_)
      obtain ⟨rfl, huf⟩ := hqf
      rw [huf] at hM
      rw [← hμ] at hR
      exact hQ ▸ x_iret hx hb hr hlk hS _ ⟨by simp [opThrough, hxr]; rfl, by simp [opThrough, hxr], by simp only [opThrough, hxr]; rw [← hμ]; exact hR⟩ hM dX3_lengthThrough_18
  | some b =>
    obtain rfl := isS1 hq hxr
    obtain ⟨hb5, rfl⟩ := xr_some (by omega) hxr
    generalize hSe : pAll ν b = S
    have loop : ∀ (n i : Nat), i ≤ vC ν 0 → vC ν 0 < i + n → ∀ (H : Heap) (locs : List Loc) (ls : Array Slot), mW g A m0 ad μ1 H → va_S A s.heap H locs → lh ls 5 (xl [(0, .ref m0), (1, .int (nI b)), (2, .int (nI (lastN ν S i))), (3, .int (nI (withN ν S i))), (4, .int (nI i))]) → W p l e (xrm 9 0 0) s m args below meth c H locs 0 0 Q (F0 m 26 ls []) := by
      intro n
      induction n with
      | zero => intro i h1 h2; exact absurd h2 (by omega)
      | succ n ih =>
        intro i h1 h2 H locs ls hM hS hl
        refine lv_iload hx hb dX3_lengthThrough_26 (lh_at hl rfl) ?_
        refine lv_aload_n hx hb dX3_lengthThrough_28 rfl (lh_at hl rfl) ?_
        refine m_getI hF hE hM 1 (by decide) q1315 rfl (by exact hA.1) dX3_lengthThrough_29 ?_
        have hwl := withN_le (ν := ν) (S := S) i
        have hll := lastN_lt (ν := ν) (S := S) i
        refine n_icmp_ge (tgt := 76) hx hb dX3_lengthThrough_32 (by decide) (by omega) (by omega) (fun c1 => ?_) (fun c1 => ?_)
        · have e : i = vC ν 0 := by omega
          subst e
          have fin : ∀ (H : Heap) (locs : List Loc) (ls : Array Slot), mW g A m0 ad μ1 H → va_S A s.heap H locs → lh ls 5 (xl [(0, .ref m0), (2, .int (nI (lastN ν S (vC ν 0)))), (3, .int (nI (withN ν S (vC ν 0))))]) → W p l e (xrm 9 0 0) s m args below meth c H locs 0 0 Q (F0 m 100 ls [.int (nI (if withN ν S (vC ν 0) % 2 = 1 then 2 * farN ν S (lastN ν S (vC ν 0)) 20 else vC ν 1 + 1))]) := by
            intro H locs ls hM hS hl
            refine x_istore hx hb dX3_lengthThrough_100 hl (by decide) (fun ls hl => ?_)
            refine n_const hx hb 2 dX3_lengthThrough_102 (by decide +kernel) ?_
            refine lv_iload_n hx hb dX3_lengthThrough_103 rfl (lh_at hl rfl) ?_
            refine n_imul hx hb dX3_lengthThrough_104 ?_
            refine lv_aload_n hx hb dX3_lengthThrough_105 rfl (lh_at hl rfl) ?_
            refine m_getI hF hE hM 3 (by decide) q1317 rfl (by exact hG.1) dX3_lengthThrough_106 ?_
            refine n_imul hx hb dX3_lengthThrough_109 ?_
            refine lv_iload_n hx hb dX3_lengthThrough_110 rfl (lh_at hl rfl) ?_
            refine n_const hx hb 1 dX3_lengthThrough_111 (by decide +kernel) ?_
            refine lv_isub hx hb dX3_lengthThrough_112 ?_
            refine lv_aload_n hx hb dX3_lengthThrough_113 rfl (lh_at hl rfl) ?_
            refine m_getI hF hE hM 2 (by decide) q1316 rfl (by exact hP.1) dX3_lengthThrough_114 ?_
            refine n_const hx hb 1 dX3_lengthThrough_117 (by decide +kernel) ?_
            refine n_iadd hx hb dX3_lengthThrough_118 ?_
            refine lv_imul hx hb dX3_lengthThrough_119 ?_
            refine lv_iadd hx hb dX3_lengthThrough_120 ?_
            refine lv_iload hx hb dX3_lengthThrough_121 (lh_at hl rfl) ?_
            refine lv_iadd hx hb dX3_lengthThrough_123 ?_
            exact hQ ▸ x_iret hx hb hr hlk hS _ ⟨by simp [opThrough, hxr]; exact h0, by simp [opThrough, hxr, hSe, thruI], by simp only [opThrough, hxr]; exact hR⟩ hM dX3_lengthThrough_124
          refine lv_iload_n hx hb dX3_lengthThrough_76 rfl (lh_at hl rfl) ?_
          refine n_const hx hb 2 dX3_lengthThrough_77 (by decide +kernel) ?_
          refine n_irem hx hb (by omega) (by decide) (by decide) dX3_lengthThrough_78 ?_
          refine n_const hx hb 1 dX3_lengthThrough_79 (by decide +kernel) ?_
          refine n_icmp_ne (tgt := 94) hx hb dX3_lengthThrough_80 (by decide) (by omega) (by omega) (fun c2 => ?_) (fun c2 => ?_)
          · refine lv_aload_n hx hb dX3_lengthThrough_94 rfl (lh_at hl rfl) ?_
            refine m_getI hF hE hM 2 (by decide) q1316 rfl (by exact hP.1) dX3_lengthThrough_95 ?_
            refine n_const hx hb 1 dX3_lengthThrough_98 (by decide +kernel) ?_
            refine n_iadd hx hb dX3_lengthThrough_99 ?_
            have e : (if withN ν S (vC ν 0) % 2 = 1 then 2 * farN ν S (lastN ν S (vC ν 0)) 20 else vC ν 1 + 1) = vC ν 1 + 1 := if_neg c2
            rw [e] at fin
            exact fin _ _ _ hM hS (lh_sub hl _ ⟨rfl, rfl, rfl, trivial⟩)
          · refine n_const hx hb 2 dX3_lengthThrough_83 (by decide +kernel) ?_
            refine lv_aload_n hx hb dX3_lengthThrough_84 rfl (lh_at hl rfl) ?_
            refine lv_iload_n hx hb dX3_lengthThrough_85 rfl (lh_at hl rfl) ?_
            refine lv_iload_n hx hb dX3_lengthThrough_86 rfl (lh_at hl rfl) ?_
            refine m_calli (As := [.int (nI b), .int (nI (lastN ν S (vC ν 0)))]) hF hE hM hS hl (mk_farthest l g A m0 ad μ1 ν hR b (lastN ν S (vC ν 0)) (by omega) (by omega)) q1532 q1534 qs35 q1535 ⟨rfl, by decide +kernel, by decide +kernel, by show _ = some 2; decide +kernel⟩ rfl rfl ⟨Nat.le_of_ble_eq_true rfl, Nat.le_of_ble_eq_true rfl⟩ rfl (Nat.le_of_ble_eq_true rfl) dX3_lengthThrough_87 ⟨Nat.le_of_ble_eq_true rfl, Nat.le_of_ble_eq_true rfl⟩ (fun r u H locs hq hM hS => ?_)
            obtain ⟨rfl, hu⟩ := hq
            rw [hu] at hM
            rw [hSe]
            refine n_imul hx hb dX3_lengthThrough_90 ?_
            refine lv_goto (tgt := 100) hx hb dX3_lengthThrough_91 (by decide) ?_
            have e : (if withN ν S (vC ν 0) % 2 = 1 then 2 * farN ν S (lastN ν S (vC ν 0)) 20 else vC ν 1 + 1) = 2 * farN ν S (lastN ν S (vC ν 0)) 20 := if_pos c2
            rw [e] at fin
            exact fin _ _ _ hM hS (lh_sub hl _ ⟨rfl, rfl, rfl, trivial⟩)
        · have hi : i < vC ν 0 := by omega
          have hfl := farN_le (ν := ν) (S := S) (a := i) 20
          refine lv_aload_n hx hb dX3_lengthThrough_35 rfl (lh_at hl rfl) ?_
          refine lv_iload_n hx hb dX3_lengthThrough_36 rfl (lh_at hl rfl) ?_
          refine lv_iload hx hb dX3_lengthThrough_37 (lh_at hl rfl) ?_
          refine m_calli (As := [.int (nI b), .int (nI i)]) hF hE hM hS hl (mk_farthest l g A m0 ad μ1 ν hR b i (by omega) (by omega)) q1532 q1534 qs35 q1535 ⟨rfl, by decide +kernel, by decide +kernel, by show _ = some 2; decide +kernel⟩ rfl rfl ⟨Nat.le_of_ble_eq_true rfl, Nat.le_of_ble_eq_true rfl⟩ rfl (Nat.le_of_ble_eq_true rfl) dX3_lengthThrough_39 ⟨Nat.le_of_ble_eq_true rfl, Nat.le_of_ble_eq_true rfl⟩ (fun r u H locs hq hM hS => ?_)
          obtain ⟨rfl, hu⟩ := hq
          rw [hu] at hM
          rw [hSe]
          refine n_if_le (tgt := 50) hx hb dX3_lengthThrough_42 (by decide) (by omega) (fun c2 => ?_) (fun c2 => ?_)
          · have e1 : lastN ν S (i + 1) = lastN ν S i := by rw [lastN, if_neg (by omega)]
            have e2 : withN ν S (i + 1) = withN ν S i := by rw [withN, if_neg (by omega)]
            refine lv_iload_n hx hb dX3_lengthThrough_50 rfl (lh_at hl rfl) ?_
            refine x_istore_n hx hb dX3_lengthThrough_51 rfl hl (by decide) (fun ls hl => ?_)
            refine lv_iload_n hx hb dX3_lengthThrough_52 rfl (lh_at hl rfl) ?_
            refine lv_aload_n hx hb dX3_lengthThrough_53 rfl (lh_at hl rfl) ?_
            refine lv_iload_n hx hb dX3_lengthThrough_54 rfl (lh_at hl rfl) ?_
            refine lv_iload hx hb dX3_lengthThrough_55 (lh_at hl rfl) ?_
            refine m_calli (As := [.int (nI b), .int (nI i)]) hF hE hM hS hl (mk_farthest l g A m0 ad μ1 ν hR b i (by omega) (by omega)) q1532 q1534 qs35 q1535 ⟨rfl, by decide +kernel, by decide +kernel, by show _ = some 2; decide +kernel⟩ rfl rfl ⟨Nat.le_of_ble_eq_true rfl, Nat.le_of_ble_eq_true rfl⟩ rfl (Nat.le_of_ble_eq_true rfl) dX3_lengthThrough_57 ⟨Nat.le_of_ble_eq_true rfl, Nat.le_of_ble_eq_true rfl⟩ (fun r u H locs hq hM hS => ?_)
            obtain ⟨rfl, hu⟩ := hq
            rw [hu] at hM
            rw [hSe]
            refine n_if_le (tgt := 67) hx hb dX3_lengthThrough_60 (by decide) (by omega) (fun c3 => ?_) (fun c3 => ?_)
            · refine n_const hx hb 0 dX3_lengthThrough_67 (by decide +kernel) ?_
              refine n_iadd hx hb dX3_lengthThrough_68 ?_
              refine x_istore_n hx hb dX3_lengthThrough_69 rfl hl (by decide) (fun ls hl => ?_)
              refine n_iinc hx hb 1 dX3_lengthThrough_70 hl rfl (by decide +kernel) (by decide) (fun ls hl => ?_)
              refine lv_goto (tgt := 26) hx hb dX3_lengthThrough_73 (by decide) ?_
              exact ih (i + 1) (by omega) (by omega) _ _ _ hM hS (lh_sub hl _ ⟨rfl, rfl, xl_v (by rw [e1]), xl_v (by rw [e2]; rfl), rfl, trivial⟩)
            · omega
          · have e1 : lastN ν S (i + 1) = i := by rw [lastN, if_pos (by omega)]
            have e2 : withN ν S (i + 1) = withN ν S i + 1 := by rw [withN, if_pos (by omega)]
            refine lv_iload hx hb dX3_lengthThrough_45 (lh_at hl rfl) ?_
            refine lv_goto (tgt := 51) hx hb dX3_lengthThrough_47 (by decide) ?_
            refine x_istore_n hx hb dX3_lengthThrough_51 rfl hl (by decide) (fun ls hl => ?_)
            refine lv_iload_n hx hb dX3_lengthThrough_52 rfl (lh_at hl rfl) ?_
            refine lv_aload_n hx hb dX3_lengthThrough_53 rfl (lh_at hl rfl) ?_
            refine lv_iload_n hx hb dX3_lengthThrough_54 rfl (lh_at hl rfl) ?_
            refine lv_iload hx hb dX3_lengthThrough_55 (lh_at hl rfl) ?_
            refine m_calli (As := [.int (nI b), .int (nI i)]) hF hE hM hS hl (mk_farthest l g A m0 ad μ1 ν hR b i (by omega) (by omega)) q1532 q1534 qs35 q1535 ⟨rfl, by decide +kernel, by decide +kernel, by show _ = some 2; decide +kernel⟩ rfl rfl ⟨Nat.le_of_ble_eq_true rfl, Nat.le_of_ble_eq_true rfl⟩ rfl (Nat.le_of_ble_eq_true rfl) dX3_lengthThrough_57 ⟨Nat.le_of_ble_eq_true rfl, Nat.le_of_ble_eq_true rfl⟩ (fun r u H locs hq hM hS => ?_)
            obtain ⟨rfl, hu⟩ := hq
            rw [hu] at hM
            rw [hSe]
            refine n_if_le (tgt := 67) hx hb dX3_lengthThrough_60 (by decide) (by omega) (fun c3 => ?_) (fun c3 => ?_)
            · omega
            · refine n_const hx hb 1 dX3_lengthThrough_63 (by decide +kernel) ?_
              refine lv_goto (tgt := 68) hx hb dX3_lengthThrough_64 (by decide) ?_
              refine n_iadd hx hb dX3_lengthThrough_68 ?_
              refine x_istore_n hx hb dX3_lengthThrough_69 rfl hl (by decide) (fun ls hl => ?_)
              refine n_iinc hx hb 1 dX3_lengthThrough_70 hl rfl (by decide +kernel) (by decide) (fun ls hl => ?_)
              refine lv_goto (tgt := 26) hx hb dX3_lengthThrough_73 (by decide) ?_
              exact ih (i + 1) (by omega) (by omega) _ _ _ hM hS (lh_sub hl _ ⟨rfl, rfl, xl_v (by rw [e1]), xl_v (by rw [e2]), rfl, trivial⟩)
    refine lv_if_ne (tgt := 19) hx hb dX3_lengthThrough_10 (by decide) (fun d => ?_) (fun d => ?_)
    · refine n_const hx hb 0 dX3_lengthThrough_19 (by decide +kernel) ?_
      refine x_istore_n hx hb dX3_lengthThrough_20 rfl hl (by decide) (fun ls hl => ?_)
      refine n_const hx hb 0 dX3_lengthThrough_21 (by decide +kernel) ?_
      refine x_istore_n hx hb dX3_lengthThrough_22 rfl hl (by decide) (fun ls hl => ?_)
      refine n_const hx hb 0 dX3_lengthThrough_23 (by decide +kernel) ?_
      refine x_istore hx hb dX3_lengthThrough_24 hl (by decide) (fun ls hl => ?_)
      exact loop (vC ν 0 + 1) 0 (by omega) (by omega) _ _ _ hM hS (lh_sub hl _ ⟨rfl, rfl, rfl, rfl, rfl, trivial⟩)
    · exact absurd d (by decide)
