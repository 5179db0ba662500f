/-! THE REFERENCE: its loops that only read, and closeUp -/
set_option maxRecDepth 100000
theorem xl_v {x y : Int32} (h : x = y) : some (Value.int x) = some (Value.int y) := by rw [h]
set_option maxHeartbeats 4000000 in
theorem mk_wanted (l : Launch) (g : xg) (A : Nat → Prop) (m0 : Nat) (ad : Nat → Nat) (μ : mS) (ν : nS) (hR : mR ν μ) (o : Nat) (ho : o < vC ν 4) :
    Met l yX3_wanted (ws_ yX3_wanted cX3_wanted 4 (some .int)) (xrm 0 0 0) (mPc g A m0 ad μ [.int (nI o)]) (mQi g A m0 ad (fun r u => r = nI (wantN ν o) ∧ u = μ)) 0 0 A := by
  refine x_start rfl (Nat.le_of_ble_eq_true rfl) ?_
  intro p e s m below meth c hx hb hr hlk hml hown hts hnm hE hM hS ls hl
  have hF : xFix p m c cX3_wanted 4 s _ RX3 := ⟨hx, hb, hml, hown, hts⟩
  generalize hargs : List.toArray _ = args at hts hF ⊢
  generalize hQ : MQ below _ _ s _ _ A = Q
  have hN := hR.N
  have hn := hR.mn ho
  have loop : ∀ (n i : Nat), i ≤ vMn ν o → vMn ν o < i + n → ∀ (H : Heap) (locs : List Loc) (ls : Array Slot), mW g A m0 ad μ H → va_S A s.heap H locs → lh ls 4 (xl [(0, .ref m0), (1, .int (nI o)), (2, .int (nI (orM (vPr ν o) i))), (3, .int (nI i))]) → W p l e (xrm 0 0 0) s m args below meth c H locs 0 0 Q (F0 m 4 ls []) := by
    intro n
    induction n with
    | zero => intro i h1 h2; exact absurd h2 (by omega)
    | succ n ih =>
      intro i h1 h2 H locs ls hM hS hl
      refine lv_iload_n hx hb dX3_wanted_4 rfl (lh_at hl rfl) ?_
      refine lv_aload_n hx hb dX3_wanted_5 rfl (lh_at hl rfl) ?_
      refine m_getA hF hE hM 10 (by decide) q1324 rfl dX3_wanted_6 ?_
      refine lv_iload_n hx hb dX3_wanted_9 rfl (lh_at hl rfl) ?_
      refine m_ald hF hE hM (by decide) (by simp only [mLen]; omega) (by exact hn.1) dX3_wanted_10 ?_
      refine n_icmp_ge (tgt := 35) hx hb dX3_wanted_11 (by decide) (by omega) (by omega) (fun c1 => ?_) (fun c1 => ?_)
      · refine lv_iload_n hx hb dX3_wanted_35 rfl (lh_at hl rfl) ?_
        have e : i = vMn ν o := by omega
        subst e
        exact hQ ▸ x_iret hx hb hr hlk hS _ ⟨rfl, rfl⟩ hM dX3_wanted_36
      · have hi : i < vMn ν o := by omega
        have hp := hR.pr ho hi
        refine lv_iload_n hx hb dX3_wanted_14 rfl (lh_at hl rfl) ?_
        refine n_const hx hb 1 dX3_wanted_15 (by decide +kernel) ?_
        refine lv_aload_n hx hb dX3_wanted_16 rfl (lh_at hl rfl) ?_
        refine m_getA hF hE hM 11 (by decide) q1325 rfl dX3_wanted_17 ?_
        refine n_const hx hb 5 dX3_wanted_20 (by decide +kernel) ?_
        refine lv_iload_n hx hb dX3_wanted_21 rfl (lh_at hl rfl) ?_
        refine n_imul hx hb dX3_wanted_22 ?_
        refine lv_iload_n hx hb dX3_wanted_23 rfl (lh_at hl rfl) ?_
        refine n_iadd hx hb dX3_wanted_24 ?_
        refine m_ald hF hE hM (by decide) (by simp only [mLen]; omega) (by exact hp.1) dX3_wanted_25 ?_
        refine n_ishl hx hb (by omega) (by exact pw32 (by omega)) dX3_wanted_26 ?_
        refine n_ior hx hb dX3_wanted_27 ?_
        refine x_istore_n hx hb dX3_wanted_28 rfl hl (by decide) (fun ls hl => ?_)
        refine n_iinc hx hb 1 dX3_wanted_29 hl rfl (by decide +kernel) (by decide) (fun ls hl => ?_)
        refine lv_goto (tgt := 4) hx hb dX3_wanted_32 (by decide) ?_
        exact ih (i + 1) (by omega) (by omega) _ _ _ hM hS (lh_sub hl _ ⟨rfl, rfl, rfl, rfl, trivial⟩)
  refine n_const hx hb 0 dX3_wanted_0 (by decide +kernel) ?_
  refine x_istore_n hx hb dX3_wanted_1 rfl hl (by decide) (fun ls hl => ?_)
  refine n_const hx hb 0 dX3_wanted_2 (by decide +kernel) ?_
  refine x_istore_n hx hb dX3_wanted_3 rfl hl (by decide) (fun ls hl => ?_)
  exact loop (vMn ν o + 1) 0 (by omega) (by omega) _ _ _ hM hS (lh_sub hl _ ⟨rfl, rfl, rfl, rfl, trivial⟩)
set_option maxHeartbeats 4000000 in
theorem mk_productsOf (l : Launch) (g : xg) (A : Nat → Prop) (m0 : Nat) (ad : Nat → Nat) (μ : mS) (ν : nS) (hR : mR ν μ) (b : Nat) (hb9 : b < 1000) :
    Met l yX3_productsOf (ws_ yX3_productsOf cX3_productsOf 4 (some .int)) (xrm 1 0 0) (mPc g A m0 ad μ [.int (nI b)]) (mQi g A m0 ad (fun r u => r = nI (prodsN ν b (vC ν 4)) ∧ u = μ)) 0 0 A := by
  refine x_start rfl (Nat.le_of_ble_eq_true rfl) ?_
  intro p e s m below meth c hx hb hr hlk hml hown hts hnm hE hM hS ls hl
  have hF : xFix p m c cX3_productsOf 4 s _ RX3 := ⟨hx, hb, hml, hown, hts⟩
  generalize hargs : List.toArray _ = args at hts hF ⊢
  generalize hQ : MQ below _ _ s _ _ A = Q
  have hN := hR.N
  have hB := hR.B
  have loop : ∀ (n i : Nat), i ≤ vC ν 4 → vC ν 4 < i + n → ∀ (H : Heap) (locs : List Loc) (ls : Array Slot), mW g A m0 ad μ H → va_S A s.heap H locs → lh ls 4 (xl [(0, .ref m0), (1, .int (nI b)), (2, .int (nI (prodsN ν b i))), (3, .int (nI i))]) → W p l e (xrm 1 0 0) s m args below meth c H locs 0 0 Q (F0 m 4 ls []) := by
    intro n
    induction n with
    | zero => intro i h1 h2; exact absurd h2 (by omega)
    | succ n ih =>
      intro i h1 h2 H locs ls hM hS hl
      refine lv_iload_n hx hb dX3_productsOf_4 rfl (lh_at hl rfl) ?_
      refine lv_aload_n hx hb dX3_productsOf_5 rfl (lh_at hl rfl) ?_
      refine m_getI hF hE hM 6 (by decide) q1320 rfl (by exact hN.1) dX3_productsOf_6 ?_
      refine n_icmp_ge (tgt := 40) hx hb dX3_productsOf_9 (by decide) (by omega) (by omega) (fun c1 => ?_) (fun c1 => ?_)
      · refine lv_iload_n hx hb dX3_productsOf_40 rfl (lh_at hl rfl) ?_
        have e : i = vC ν 4 := by omega
        subst e
        exact hQ ▸ x_iret hx hb hr hlk hS _ ⟨rfl, rfl⟩ hM dX3_productsOf_41
      · have hi : i < vC ν 4 := by omega
        have hp := hR.bt hi
        refine lv_iload_n hx hb dX3_productsOf_12 rfl (lh_at hl rfl) ?_
        refine lv_aload_n hx hb dX3_productsOf_13 rfl (lh_at hl rfl) ?_
        refine m_getA hF hE hM 9 (by decide) q1323 rfl dX3_productsOf_14 ?_
        refine lv_iload_n hx hb dX3_productsOf_17 rfl (lh_at hl rfl) ?_
        refine m_ald hF hE hM (by decide) (by simp only [mLen]; omega) (by exact hp.1) dX3_productsOf_18 ?_
        refine lv_iload_n hx hb dX3_productsOf_19 rfl (lh_at hl rfl) ?_
        refine lv_icmp_ne (tgt := 31) hx hb dX3_productsOf_20 (by decide) (fun c2 => ?_) (fun c2 => ?_)
        · have e : ¬ vBt ν i = b + 1 := fun z => c2 ((eB_nI (by omega) (by omega)).mpr z)
          refine n_const hx hb 0 dX3_productsOf_31 (by decide +kernel) ?_
          refine n_ior hx hb dX3_productsOf_32 ?_
          refine x_istore_n hx hb dX3_productsOf_33 rfl hl (by decide) (fun ls hl => ?_)
          refine n_iinc hx hb 1 dX3_productsOf_34 hl rfl (by decide +kernel) (by decide) (fun ls hl => ?_)
          refine lv_goto (tgt := 4) hx hb dX3_productsOf_37 (by decide) ?_
          exact ih (i + 1) (by omega) (by omega) _ _ _ hM hS (lh_sub hl _ ⟨rfl, rfl, xl_v (by simp [prodsN, e]), rfl, trivial⟩)
        · have e : vBt ν i = b + 1 := (eB_nI (by omega) (by omega)).mp c2
          refine lv_aload_n hx hb dX3_productsOf_23 rfl (lh_at hl rfl) ?_
          refine lv_iload_n hx hb dX3_productsOf_24 rfl (lh_at hl rfl) ?_
          refine m_calli (As := [.int (nI i)]) hF hE hM hS hl (mk_wanted l g A m0 ad μ ν hR i hi) q1443 q1445 qs25 q1446 ⟨rfl, by decide +kernel, by decide +kernel, by show _ = some 1; decide +kernel⟩ rfl rfl ⟨Nat.le_of_ble_eq_true rfl, Nat.le_of_ble_eq_true rfl⟩ rfl (Nat.le_of_ble_eq_true rfl) dX3_productsOf_25 ⟨Nat.le_of_ble_eq_true rfl, Nat.le_of_ble_eq_true rfl⟩ (fun r u H locs hq hM hS => ?_)
          obtain ⟨rfl, hu⟩ := hq
          rw [hu] at hM
          refine lv_goto (tgt := 32) hx hb dX3_productsOf_28 (by decide) ?_
          refine n_ior hx hb dX3_productsOf_32 ?_
          refine x_istore_n hx hb dX3_productsOf_33 rfl hl (by decide) (fun ls hl => ?_)
          refine n_iinc hx hb 1 dX3_productsOf_34 hl rfl (by decide +kernel) (by decide) (fun ls hl => ?_)
          refine lv_goto (tgt := 4) hx hb dX3_productsOf_37 (by decide) ?_
          exact ih (i + 1) (by omega) (by omega) _ _ _ hM hS (lh_sub hl _ ⟨rfl, rfl, xl_v (by simp [prodsN, e]), rfl, trivial⟩)
  refine n_const hx hb 0 dX3_productsOf_0 (by decide +kernel) ?_
  refine x_istore_n hx hb dX3_productsOf_1 rfl hl (by decide) (fun ls hl => ?_)
  refine n_const hx hb 0 dX3_productsOf_2 (by decide +kernel) ?_
  refine x_istore_n hx hb dX3_productsOf_3 rfl hl (by decide) (fun ls hl => ?_)
  exact loop (vC ν 4 + 1) 0 (by omega) (by omega) _ _ _ hM hS (lh_sub hl _ ⟨rfl, rfl, rfl, rfl, trivial⟩)
set_option maxHeartbeats 4000000 in
theorem mk_countLines (l : Launch) (g : xg) (A : Nat → Prop) (m0 : Nat) (ad : Nat → Nat) (μ : mS) (ν : nS) (hR : mR ν μ) (b : Nat) (hb9 : b < 1000) :
    Met l yX3_countLines (ws_ yX3_countLines cX3_countLines 4 (some .int)) (xrm 0 0 0) (mPc g A m0 ad μ [.int (nI b)]) (mQi g A m0 ad (fun r u => r = nI (linesN ν b (vC ν 4)) ∧ u = μ)) 0 0 A := by
  refine x_start rfl (Nat.le_of_ble_eq_true rfl) ?_
  intro p e s m below meth c hx hb hr hlk hml hown hts hnm hE hM hS ls hl
  have hF : xFix p m c cX3_countLines 4 s _ RX3 := ⟨hx, hb, hml, hown, hts⟩
  generalize hargs : List.toArray _ = args at hts hF ⊢
  generalize hQ : MQ below _ _ s _ _ A = Q
  have hN := hR.N
  have hB := hR.B
  have loop : ∀ (n i : Nat), i ≤ vC ν 4 → vC ν 4 < i + n → ∀ (ls : Array Slot), lh ls 4 (xl [(0, .ref m0), (1, .int (nI b)), (2, .int (nI (linesN ν b i))), (3, .int (nI i))]) → W p l e (xrm 0 0 0) s m args below meth c s.heap [] 0 0 Q (F0 m 4 ls []) := by
    intro n
    induction n with
    | zero => intro i h1 h2; exact absurd h2 (by omega)
    | succ n ih =>
      intro i h1 h2 ls hl
      refine lv_iload_n hx hb dX3_countLines_4 rfl (lh_at hl rfl) ?_
      refine lv_aload_n hx hb dX3_countLines_5 rfl (lh_at hl rfl) ?_
      refine m_getI hF hE hM 6 (by decide) q1320 rfl (by exact hN.1) dX3_countLines_6 ?_
      refine n_icmp_ge (tgt := 41) hx hb dX3_countLines_9 (by decide) (by omega) (by omega) (fun c1 => ?_) (fun c1 => ?_)
      · refine lv_iload_n hx hb dX3_countLines_41 rfl (lh_at hl rfl) ?_
        have e : i = vC ν 4 := by omega
        subst e
        exact hQ ▸ x_iret hx hb hr hlk hS _ ⟨rfl, rfl⟩ hM dX3_countLines_42
      · have hi : i < vC ν 4 := by omega
        have hp := hR.bt hi
        have hn := hR.mn hi
        refine lv_iload_n hx hb dX3_countLines_12 rfl (lh_at hl rfl) ?_
        refine lv_aload_n hx hb dX3_countLines_13 rfl (lh_at hl rfl) ?_
        refine m_getA hF hE hM 9 (by decide) q1323 rfl dX3_countLines_14 ?_
        refine lv_iload_n hx hb dX3_countLines_17 rfl (lh_at hl rfl) ?_
        refine m_ald hF hE hM (by decide) (by simp only [mLen]; omega) (by exact hp.1) dX3_countLines_18 ?_
        refine lv_iload_n hx hb dX3_countLines_19 rfl (lh_at hl rfl) ?_
        refine lv_icmp_ne (tgt := 32) hx hb dX3_countLines_20 (by decide) (fun c2 => ?_) (fun c2 => ?_)
        · have e : ¬ vBt ν i = b + 1 := fun z => c2 ((eB_nI (by omega) (by omega)).mpr z)
          refine n_const hx hb 0 dX3_countLines_32 (by decide +kernel) ?_
          refine n_iadd hx hb dX3_countLines_33 ?_
          refine x_istore_n hx hb dX3_countLines_34 rfl hl (by decide) (fun ls hl => ?_)
          refine n_iinc hx hb 1 dX3_countLines_35 hl rfl (by decide +kernel) (by decide) (fun ls hl => ?_)
          refine lv_goto (tgt := 4) hx hb dX3_countLines_38 (by decide) ?_
          exact ih (i + 1) (by omega) (by omega) _ (lh_sub hl _ ⟨rfl, rfl, xl_v (by simp [linesN, e]), rfl, trivial⟩)
        · have e : vBt ν i = b + 1 := (eB_nI (by omega) (by omega)).mp c2
          refine lv_aload_n hx hb dX3_countLines_23 rfl (lh_at hl rfl) ?_
          refine m_getA hF hE hM 10 (by decide) q1324 rfl dX3_countLines_24 ?_
          refine lv_iload_n hx hb dX3_countLines_27 rfl (lh_at hl rfl) ?_
          refine m_ald hF hE hM (by decide) (by simp only [mLen]; omega) (by exact hn.1) dX3_countLines_28 ?_
          refine lv_goto (tgt := 33) hx hb dX3_countLines_29 (by decide) ?_
          refine n_iadd hx hb dX3_countLines_33 ?_
          refine x_istore_n hx hb dX3_countLines_34 rfl hl (by decide) (fun ls hl => ?_)
          refine n_iinc hx hb 1 dX3_countLines_35 hl rfl (by decide +kernel) (by decide) (fun ls hl => ?_)
          refine lv_goto (tgt := 4) hx hb dX3_countLines_38 (by decide) ?_
          exact ih (i + 1) (by omega) (by omega) _ (lh_sub hl _ ⟨rfl, rfl, xl_v (by simp [linesN, e]), rfl, trivial⟩)
  refine n_const hx hb 0 dX3_countLines_0 (by decide +kernel) ?_
  refine x_istore_n hx hb dX3_countLines_1 rfl hl (by decide) (fun ls hl => ?_)
  refine n_const hx hb 0 dX3_countLines_2 (by decide +kernel) ?_
  refine x_istore_n hx hb dX3_countLines_3 rfl hl (by decide) (fun ls hl => ?_)
  exact loop (vC ν 4 + 1) 0 (by omega) (by omega) _ (lh_sub hl _ ⟨rfl, rfl, rfl, rfl, trivial⟩)
set_option maxHeartbeats 4000000 in
theorem mk_turnoverOf (l : Launch) (g : xg) (A : Nat → Prop) (m0 : Nat) (ad : Nat → Nat) (μ : mS) (ν : nS) (hR : mR ν μ) (q : Nat) (hq20 : q < 20) :
    Met l yX3_turnoverOf (ws_ yX3_turnoverOf cX3_turnoverOf 5 (some .int)) (xrm 0 0 0) (mPc g A m0 ad μ [.int (nI q)]) (mQi g A m0 ad (fun r u => r = nI (turnN ν q (vC ν 4)) ∧ u = μ)) 0 0 A := by
  refine x_start rfl (Nat.le_of_ble_eq_true rfl) ?_
  intro p e s m below meth c hx hb hr hlk hml hown hts hnm hE hM hS ls hl
  have hF : xFix p m c cX3_turnoverOf 5 s _ RX3 := ⟨hx, hb, hml, hown, hts⟩
  generalize hargs : List.toArray _ = args at hts hF ⊢
  generalize hQ : MQ below _ _ s _ _ A = Q
  have hN := hR.N
  have loop : ∀ (n i : Nat), i ≤ vC ν 4 → vC ν 4 < i + n → ∀ (ls : Array Slot), lh ls 5 (xl [(0, .ref m0), (1, .int (nI q)), (2, .int (nI (turnN ν q i))), (3, .int (nI i))]) → W p l e (xrm 0 0 0) s m args below meth c s.heap [] 0 0 Q (F0 m 4 ls []) := by
    intro n
    induction n with
    | zero => intro i h1 h2; exact absurd h2 (by omega)
    | succ n ih =>
      intro i h1 h2 ls hl
      refine lv_iload_n hx hb dX3_turnoverOf_4 rfl (lh_at hl rfl) ?_
      refine lv_aload_n hx hb dX3_turnoverOf_5 rfl (lh_at hl rfl) ?_
      refine m_getI hF hE hM 6 (by decide) q1320 rfl (by exact hN.1) dX3_turnoverOf_6 ?_
      refine n_icmp_ge (tgt := 81) hx hb dX3_turnoverOf_9 (by decide) (by omega) (by omega) (fun c1 => ?_) (fun c1 => ?_)
      · refine lv_iload_n hx hb dX3_turnoverOf_81 rfl (lh_at hl rfl) ?_
        have e : i = vC ν 4 := by omega
        subst e
        exact hQ ▸ x_iret hx hb hr hlk hS _ ⟨rfl, rfl⟩ hM dX3_turnoverOf_82
      · have hi : i < vC ν 4 := by omega
        have hs := hR.st hi
        have hn := hR.mn hi
        have inner : ∀ (n2 k : Nat), k ≤ vMn ν i → vMn ν i < k + n2 → ∀ (ls : Array Slot), lh ls 5 (xl [(0, .ref m0), (1, .int (nI q)), (2, .int (nI (if vSt ν i = 2 then turnN ν q i + hasN ν i q k else turnN ν q i))), (3, .int (nI i)), (4, .int (nI k))]) → W p l e (xrm 0 0 0) s m args below meth c s.heap [] 0 0 Q (F0 m 15 ls []) := by
          intro n2
          induction n2 with
          | zero => intro k h1 h2; exact absurd h2 (by omega)
          | succ n2 ih2 =>
            intro k h3 h4 ls hl
            refine lv_iload hx hb dX3_turnoverOf_15 (lh_at hl rfl) ?_
            refine lv_aload_n hx hb dX3_turnoverOf_17 rfl (lh_at hl rfl) ?_
            refine m_getA hF hE hM 10 (by decide) q1324 rfl dX3_turnoverOf_18 ?_
            refine lv_iload_n hx hb dX3_turnoverOf_21 rfl (lh_at hl rfl) ?_
            refine m_ald hF hE hM (by decide) (by simp only [mLen]; omega) (by exact hn.1) dX3_turnoverOf_22 ?_
            refine n_icmp_ge (tgt := 75) hx hb dX3_turnoverOf_23 (by decide) (by omega) (by omega) (fun c2 => ?_) (fun c2 => ?_)
            · refine n_iinc hx hb 1 dX3_turnoverOf_75 hl rfl (by decide +kernel) (by decide) (fun ls hl => ?_)
              refine lv_goto (tgt := 4) hx hb dX3_turnoverOf_78 (by decide) ?_
              have e : k = vMn ν i := by omega
              subst e
              exact ih (i + 1) (by omega) (by omega) _ (lh_sub hl _ ⟨rfl, rfl, rfl, rfl, trivial⟩)
            · have hk : k < vMn ν i := by omega
              have hp := hR.pr hi hk
              have ht := hR.qt hi hk
              refine lv_iload_n hx hb dX3_turnoverOf_26 rfl (lh_at hl rfl) ?_
              refine lv_aload_n hx hb dX3_turnoverOf_27 rfl (lh_at hl rfl) ?_
              refine m_getA hF hE hM 8 (by decide) q1322 rfl dX3_turnoverOf_28 ?_
              refine lv_iload_n hx hb dX3_turnoverOf_31 rfl (lh_at hl rfl) ?_
              refine m_ald hF hE hM (by decide) (by simp only [mLen]; omega) (by exact hs.1) dX3_turnoverOf_32 ?_
              refine n_const hx hb 2 dX3_turnoverOf_33 (by decide +kernel) ?_
              refine n_icmp_ne (tgt := 66) hx hb dX3_turnoverOf_34 (by decide) (by omega) (by omega) (fun c3 => ?_) (fun c3 => ?_)
              · refine n_const hx hb 0 dX3_turnoverOf_66 (by decide +kernel) ?_
                refine n_iadd hx hb dX3_turnoverOf_67 ?_
                refine x_istore_n hx hb dX3_turnoverOf_68 rfl hl (by decide) (fun ls hl => ?_)
                refine n_iinc hx hb 1 dX3_turnoverOf_69 hl rfl (by decide +kernel) (by decide) (fun ls hl => ?_)
                refine lv_goto (tgt := 15) hx hb dX3_turnoverOf_72 (by decide) ?_
                exact ih2 (k + 1) (by omega) (by omega) _ (lh_sub hl _ ⟨rfl, rfl, xl_v (by simp [c3]), rfl, rfl, trivial⟩)
              · refine lv_aload_n hx hb dX3_turnoverOf_37 rfl (lh_at hl rfl) ?_
                refine m_getA hF hE hM 11 (by decide) q1325 rfl dX3_turnoverOf_38 ?_
                refine n_const hx hb 5 dX3_turnoverOf_41 (by decide +kernel) ?_
                refine lv_iload_n hx hb dX3_turnoverOf_42 rfl (lh_at hl rfl) ?_
                refine n_imul hx hb dX3_turnoverOf_43 ?_
                refine lv_iload hx hb dX3_turnoverOf_44 (lh_at hl rfl) ?_
                refine n_iadd hx hb dX3_turnoverOf_46 ?_
                refine m_ald hF hE hM (by decide) (by simp only [mLen]; omega) (by exact hp.1) dX3_turnoverOf_47 ?_
                refine lv_iload_n hx hb dX3_turnoverOf_48 rfl (lh_at hl rfl) ?_
                refine n_icmp_ne (tgt := 66) hx hb dX3_turnoverOf_49 (by decide) (by omega) (by omega) (fun c4 => ?_) (fun c4 => ?_)
                · refine n_const hx hb 0 dX3_turnoverOf_66 (by decide +kernel) ?_
                  refine n_iadd hx hb dX3_turnoverOf_67 ?_
                  refine x_istore_n hx hb dX3_turnoverOf_68 rfl hl (by decide) (fun ls hl => ?_)
                  refine n_iinc hx hb 1 dX3_turnoverOf_69 hl rfl (by decide +kernel) (by decide) (fun ls hl => ?_)
                  refine lv_goto (tgt := 15) hx hb dX3_turnoverOf_72 (by decide) ?_
                  exact ih2 (k + 1) (by omega) (by omega) _ (lh_sub hl _ ⟨rfl, rfl, xl_v (by simp [hasN, c4]), rfl, rfl, trivial⟩)
                · refine lv_aload_n hx hb dX3_turnoverOf_52 rfl (lh_at hl rfl) ?_
                  refine m_getA hF hE hM 12 (by decide) q1326 rfl dX3_turnoverOf_53 ?_
                  refine n_const hx hb 5 dX3_turnoverOf_56 (by decide +kernel) ?_
                  refine lv_iload_n hx hb dX3_turnoverOf_57 rfl (lh_at hl rfl) ?_
                  refine n_imul hx hb dX3_turnoverOf_58 ?_
                  refine lv_iload hx hb dX3_turnoverOf_59 (lh_at hl rfl) ?_
                  refine n_iadd hx hb dX3_turnoverOf_61 ?_
                  refine m_ald hF hE hM (by decide) (by simp only [mLen]; omega) (by exact ht.1) dX3_turnoverOf_62 ?_
                  refine lv_goto (tgt := 67) hx hb dX3_turnoverOf_63 (by decide) ?_
                  refine n_iadd hx hb dX3_turnoverOf_67 ?_
                  refine x_istore_n hx hb dX3_turnoverOf_68 rfl hl (by decide) (fun ls hl => ?_)
                  refine n_iinc hx hb 1 dX3_turnoverOf_69 hl rfl (by decide +kernel) (by decide) (fun ls hl => ?_)
                  refine lv_goto (tgt := 15) hx hb dX3_turnoverOf_72 (by decide) ?_
                  exact ih2 (k + 1) (by omega) (by omega) _ (lh_sub hl _ ⟨rfl, rfl, xl_v (by simp [c3, hasN, c4, Nat.add_assoc]), rfl, rfl, trivial⟩)
        refine n_const hx hb 0 dX3_turnoverOf_12 (by decide +kernel) ?_
        refine x_istore hx hb dX3_turnoverOf_13 hl (by decide) (fun ls hl => ?_)
        exact inner (vMn ν i + 1) 0 (by omega) (by omega) _ (lh_sub hl _ ⟨rfl, rfl, xl_v (by simp [hasN]), rfl, rfl, trivial⟩)
  refine n_const hx hb 0 dX3_turnoverOf_0 (by decide +kernel) ?_
  refine x_istore_n hx hb dX3_turnoverOf_1 rfl hl (by decide) (fun ls hl => ?_)
  refine n_const hx hb 0 dX3_turnoverOf_2 (by decide +kernel) ?_
  refine x_istore_n hx hb dX3_turnoverOf_3 rfl hl (by decide) (fun ls hl => ?_)
  exact loop (vC ν 4 + 1) 0 (by omega) (by omega) _ (lh_sub hl _ ⟨rfl, rfl, rfl, rfl, trivial⟩)
theorem eB_gt {v b : Nat} (hv : v < 2 ^ 31) (hb : b < 2 ^ 31) : eB v ≤ nI b ↔ v ≤ b + 1 := by
  unfold eB
  by_cases h : v = 0
  · rw [if_pos h]
    refine ⟨fun _ => by omega, fun _ => ?_⟩
    rw [Int32.le_iff_toInt_le, nI_toInt hb]
    have h2 : (-1 : Int32).toInt = -1 := by decide
    omega
  · rw [if_neg h, nI_leI (by omega) hb]
    omega
theorem eB_dec {v : Nat} (h : 1 < v) : eB v - nI 1 = eB (v - 1) := by
  unfold eB
  rw [if_neg (by omega), if_neg (by omega), pk_sub (by omega)]
theorem eB_dec0 (v : Nat) : eB v - nI 0 = eB v := by
  rw [nI_0]
  exact Int32.sub_zero _
theorem mR_setB {ν : nS} {nb : Nat} {bt bt' : Nat → Nat} {μ : mS} {f : Nat → Int32} (hR : mR (vSetB ν nb bt) μ) (hf : ∀ o, o < vC ν 4 → f o = eB (bt' o)) (hb : ∀ o, o < vC ν 4 → bt' o ≤ nb) : mR (vSetB ν nb bt') (m_setA μ 9 f) := by
  obtain ⟨⟨a1, a2, a3, a4, a5, a6, a7, a8⟩, r2, r3, r4, r5⟩ := hR
  refine ⟨⟨a1, a2, a3, a4, a5, a6, a7, fun o ho => ?_⟩, r2, r3, fun o ho => ?_, r5⟩
  · obtain ⟨b1, b2, b3, b4⟩ := a8 o ho
    exact ⟨b1, b2, hb o ho, b4⟩
  · obtain ⟨b1, b2, b3, b4⟩ := r4 o ho
    exact ⟨b1, b2, hf o ho, b4⟩
theorem mR_setN {ν : nS} {nb nb' : Nat} {bt : Nat → Nat} {μ : mS} (hR : mR (vSetB ν nb bt) μ) (h40 : nb' ≤ 40) (hb : ∀ o, o < vC ν 4 → bt o ≤ nb') : mR (vSetB ν nb' bt) (m_setI μ 13 (nI nb')) := by
  obtain ⟨⟨a1, a2, a3, a4, a5, a6, a7, a8⟩, ⟨c1, c2, c3, c4, c5, c6, c7⟩, r3, r4, r5⟩ := hR
  refine ⟨⟨a1, a2, a3, a4, a5, h40, a7, fun o ho => ?_⟩, ⟨c1, c2, c3, c4, c5, rfl, c7⟩, r3, r4, r5⟩
  obtain ⟨b1, b2, b3, b4⟩ := a8 o ho
  exact ⟨b1, b2, hb o ho, b4⟩
set_option maxHeartbeats 4000000 in
theorem mk_closeUp (l : Launch) (g : xg) (A : Nat → Prop) (m0 : Nat) (ad : Nat → Nat) (μ : mS) (ν : nS) (hR : mR ν μ) (b : Nat) (hbB : b < vC ν 5) (hno : ∀ o, o < vC ν 4 → vBt ν o ≠ b + 1) :
    Met l yX3_closeUp (ws_ yX3_closeUp cX3_closeUp 3 none) (xrm 0 0 0) (mPc g A m0 ad μ [.int (nI b)]) (mQv g A m0 ad (fun u => mR (vSetB ν (vC ν 5 - 1) (closeN ν b (vC ν 4))) u ∧ u.1 0 = μ.1 0)) 0 0 A := by
  refine x_start rfl (Nat.le_of_ble_eq_true rfl) ?_
  intro p e s m below meth c hx hb hr hlk hml hown hts hnm hE hM hS ls hl
  have hF : xFix p m c cX3_closeUp 3 s _ RX3 := ⟨hx, hb, hml, hown, hts⟩
  generalize hargs : List.toArray _ = args at hts hF ⊢
  generalize hQ : MQ below _ _ s _ _ A = Q
  have hN := hR.N
  have hB := hR.B
  have loop : ∀ (n i : Nat), i ≤ vC ν 4 → vC ν 4 < i + n → ∀ (u : mS) (H : Heap) (locs : List Loc) (ls : Array Slot), mR (vSetB ν (vC ν 5) (closeN ν b i)) u → u.1 0 = μ.1 0 → mW g A m0 ad u H → va_S A s.heap H locs → lh ls 3 (xl [(0, .ref m0), (1, .int (nI b)), (2, .int (nI i))]) → W p l e (xrm 0 0 0) s m args below meth c H locs 0 0 Q (F0 m 2 ls []) := by
    intro n
    induction n with
    | zero => intro i h1 h2; exact absurd h2 (by omega)
    | succ n ih =>
      intro i h1 h2 u H locs ls hRi h0 hM hS hl
      have hNi : u.1 6 = nI (vC ν 4) := hRi.N.1
      have hBi : u.1 13 = nI (vC ν 5) := hRi.B.1
      refine lv_iload_n hx hb dX3_closeUp_2 rfl (lh_at hl rfl) ?_
      refine lv_aload_n hx hb dX3_closeUp_3 rfl (lh_at hl rfl) ?_
      refine m_getI hF hE hM 6 (by decide) q1320 rfl (by exact hNi) dX3_closeUp_4 ?_
      refine n_icmp_ge (tgt := 40) hx hb dX3_closeUp_7 (by decide) (by omega) (by omega) (fun c1 => ?_) (fun c1 => ?_)
      · refine lv_aload_n hx hb dX3_closeUp_40 rfl (lh_at hl rfl) ?_
        refine lv_dup hx hb dX3_closeUp_41 rfl ?_
        refine m_getI hF hE hM 13 (by decide) q1327 rfl (by exact hBi) dX3_closeUp_42 ?_
        refine n_const hx hb 1 dX3_closeUp_45 (by decide +kernel) ?_
        refine n_isub hx hb (by omega) dX3_closeUp_46 ?_
        refine m_putI hF hE hM hS 13 (by decide) q1327 rfl (by decide +kernel) rfl dX3_closeUp_47 (fun H locs hM hS => ?_)
        have e : i = vC ν 4 := by omega
        subst e
        have hle : ∀ o, o < vC ν 4 → closeN ν b (vC ν 4) o ≤ vC ν 5 - 1 := by
          intro o ho
          have h3 := (hR.bt ho).2
          have h4 := hno o ho
          unfold closeN
          split <;> omega
        exact hQ ▸ x_vret hx hb hr hlk hS _ ⟨mR_setN hRi (by omega) hle, h0⟩ hM dX3_closeUp_50
      · have hi : i < vC ν 4 := by omega
        have hv : u.2.1 9 i = eB (vBt ν i) := by
          have := (hRi.bt (o := i) hi).1
          rw [this]
          show eB (closeN ν b i i) = _
          simp [closeN]
        have hv2 := (hR.bt hi).2
        refine lv_aload_n hx hb dX3_closeUp_10 rfl (lh_at hl rfl) ?_
        refine m_getA hF hE hM 9 (by decide) q1323 rfl dX3_closeUp_11 ?_
        refine lv_iload_n hx hb dX3_closeUp_14 rfl (lh_at hl rfl) ?_
        refine lv_dup2_11 hx hb dX3_closeUp_15 rfl rfl ?_
        refine m_ald hF hE hM (by decide) (by simp only [mLen]; omega) (by exact hv) dX3_closeUp_16 ?_
        refine lv_aload_n hx hb dX3_closeUp_17 rfl (lh_at hl rfl) ?_
        refine m_getA hF hE hM 9 (by decide) q1323 rfl dX3_closeUp_18 ?_
        refine lv_iload_n hx hb dX3_closeUp_21 rfl (lh_at hl rfl) ?_
        refine m_ald hF hE hM (by decide) (by simp only [mLen]; omega) (by exact hv) dX3_closeUp_22 ?_
        refine lv_iload_n hx hb dX3_closeUp_23 rfl (lh_at hl rfl) ?_
        refine lv_icmp_le (tgt := 31) hx hb dX3_closeUp_24 (by decide) (fun c2 => ?_) (fun c2 => ?_)
        · have h3 := (eB_gt (by omega) (by omega)).mp c2
          refine n_const hx hb 0 dX3_closeUp_31 (by decide +kernel) ?_
          refine lv_isub hx hb dX3_closeUp_32 ?_
          refine x_top (eB_dec0 _) ?_
          refine m_ast hF hE hM hS (by decide) (by simp only [mLen]; omega) dX3_closeUp_33 (fun H locs hM hS => ?_)
          refine n_iinc hx hb 1 dX3_closeUp_34 hl rfl (by decide +kernel) (by decide) (fun ls hl => ?_)
          refine lv_goto (tgt := 2) hx hb dX3_closeUp_37 (by decide) ?_
          refine ih (i + 1) (by omega) (by omega) _ _ _ _ (mR_setB hRi (fun o ho => ?_) (fun o ho => ?_)) h0 hM hS (lh_sub hl _ ⟨rfl, rfl, rfl, trivial⟩)
          · by_cases e : o = i
            · subst e
              rw [pk_us]
              unfold closeN
              rw [if_neg (by omega)]
            · rw [pk_un e, (hRi.bt (o := o) ho).1]
              show eB (closeN ν b i o) = _
              unfold closeN
              have : (o < i ∧ b + 1 < vBt ν o) ↔ (o < i + 1 ∧ b + 1 < vBt ν o) := by omega
              simp only [this]
          · have := (hR.bt ho).2
            unfold closeN
            split <;> omega
        · have h3 : ¬ vBt ν i ≤ b + 1 := fun z => c2 ((eB_gt (by omega) (by omega)).mpr z)
          refine n_const hx hb 1 dX3_closeUp_27 (by decide +kernel) ?_
          refine lv_goto (tgt := 32) hx hb dX3_closeUp_28 (by decide) ?_
          refine lv_isub hx hb dX3_closeUp_32 ?_
          refine x_top (eB_dec (by omega)) ?_
          refine m_ast hF hE hM hS (by decide) (by simp only [mLen]; omega) dX3_closeUp_33 (fun H locs hM hS => ?_)
          refine n_iinc hx hb 1 dX3_closeUp_34 hl rfl (by decide +kernel) (by decide) (fun ls hl => ?_)
          refine lv_goto (tgt := 2) hx hb dX3_closeUp_37 (by decide) ?_
          refine ih (i + 1) (by omega) (by omega) _ _ _ _ (mR_setB hRi (fun o ho => ?_) (fun o ho => ?_)) h0 hM hS (lh_sub hl _ ⟨rfl, rfl, rfl, trivial⟩)
          · by_cases e : o = i
            · subst e
              rw [pk_us]
              unfold closeN
              rw [if_pos (by omega)]
            · rw [pk_un e, (hRi.bt (o := o) ho).1]
              show eB (closeN ν b i o) = _
              unfold closeN
              have : (o < i ∧ b + 1 < vBt ν o) ↔ (o < i + 1 ∧ b + 1 < vBt ν o) := by omega
              simp only [this]
          · have := (hR.bt ho).2
            unfold closeN
            split <;> omega
  refine n_const hx hb 0 dX3_closeUp_0 (by decide +kernel) ?_
  refine x_istore_n hx hb dX3_closeUp_1 rfl hl (by decide) (fun ls hl => ?_)
  have h00 : closeN ν b 0 = vBt ν := by
    funext o
    simp [closeN]
  exact loop (vC ν 4 + 1) 0 (by omega) (by omega) _ _ _ _ (by rw [h00, vSetB_self]; exact hR) rfl hM hS (lh_sub hl _ ⟨rfl, rfl, rfl, trivial⟩)
