/-! THE REFERENCE: laying out -/
set_option maxRecDepth 100000
set_option maxHeartbeats 4000000 in
theorem mk_ranks (l : Launch) (g : xg) (A : Nat → Prop) (m0 : Nat) (ad : Nat → Nat) (μ : mS) (ν : nS) (hR : mR ν μ) (q n : Nat) (r : Nat → Nat) (hq : q < 20) (hn : n < 20) (hr20 : ∀ k, k < n → r k < 20) (hra : ∀ k, k < n → μ.2.1 20 k = nI (r k)) :
    Met l yX3_ranks (ws_ yX3_ranks cX3_ranks 4 none) (xrm 1 0 0) (mPc g A m0 ad μ [.int (nI q), .int (nI n)]) (mQv g A m0 ad (fun u => mAg μ u ∧ u.2.1 21 = μ.2.1 21 ∧ ∀ k, k < n + 1 → u.2.1 20 k = nI (insF r q (posG (fun k => rankB ν q (r k)) n) k))) 0 0 A := by
  refine x_start rfl (Nat.le_of_ble_eq_true rfl) ?_
  intro p e s m below meth c hx hb hr hlk hml hown hts hnm hE hM hS ls hl
  have hF : xFix p m c cX3_ranks 4 s _ RX3 := ⟨hx, hb, hml, hown, hts⟩
  generalize hargs : List.toArray _ = args at hts hF ⊢
  generalize hQ : MQ below _ _ s _ _ A = Q
  have hV := hR.1
  have hN40 := hR.N.2
  have shift : ∀ (n2 k : Nat), k ≤ n → k < n2 → ∀ (u : mS) (H : Heap) (locs : List Loc) (ls : Array Slot), mAg μ u → u.2.1 21 = μ.2.1 21 → posG (fun k => rankB ν q (r k)) k = posG (fun k => rankB ν q (r k)) n → (∀ x, x < k → u.2.1 20 x = nI (r x)) → (∀ x, k < x → x ≤ n → u.2.1 20 x = nI (r (x - 1))) → mW g A m0 ad u H → va_S A s.heap H locs → lh ls 4 (xl [(0, .ref m0), (1, .int (nI q)), (3, .int (nI k))]) → W p l e (xrm 1 0 0) s m args below meth c H locs 0 0 Q (F0 m 2 ls []) := by
    intro n2
    induction n2 with
    | zero => intro k h1 h2; exact absurd h2 (by omega)
    | succ n2 ih2 =>
      intro k hk hkn u H locs ls hG h21 hpos hlo hhi hM hS hl
      have hRu := hG.R hR
      have stop : k = posG (fun k => rankB ν q (r k)) n → ∀ (H : Heap) (locs : List Loc) (ls : Array Slot), mW g A m0 ad u H → va_S A s.heap H locs → lh ls 4 (xl [(0, .ref m0), (1, .int (nI q)), (3, .int (nI k))]) → W p l e (xrm 1 0 0) s m args below meth c H locs 0 0 Q (F0 m 46 ls []) := by
        intro hkJ H locs ls hM hS hl
        refine lv_aload_n hx hb dX3_ranks_46 rfl (lh_at hl rfl) ?_
        refine m_getA hF hE hM 20 (by decide) q1334 rfl dX3_ranks_47 ?_
        refine lv_iload_n hx hb dX3_ranks_50 rfl (lh_at hl rfl) ?_
        refine lv_iload_n hx hb dX3_ranks_51 rfl (lh_at hl rfl) ?_
        refine m_ast hF hE hM hS (by decide) (by show _ < 20; omega) dX3_ranks_52 (fun H locs hM hS => ?_)
        refine hQ ▸ x_vret hx hb hr hlk hS (m_setA u 20 (upd (u.2.1 20) k (nI q))) ⟨hG.a (by decide), h21, fun x hx2 => ?_⟩ hM dX3_ranks_53
        show upd (u.2.1 20) k (nI q) x = nI (insF r q (posG (fun k => rankB ν q (r k)) n) x)
        rw [← hkJ]
        unfold insF
        by_cases e1 : x = k
        · subst e1
          rw [pk_us, if_neg (by omega), if_pos rfl]
        · rw [pk_un e1]
          by_cases e2 : x < k
          · rw [if_pos e2, hlo x e2]
          · rw [if_neg e2, if_neg e1, hhi x (by omega) (by omega)]
      refine lv_iload_n hx hb dX3_ranks_2 rfl (lh_at hl rfl) ?_
      refine n_if_le (tgt := 46) hx hb dX3_ranks_3 (by decide) (by omega) (fun c3 => ?_) (fun c3 => ?_)
      · have e : k = 0 := by omega
        subst e
        exact stop (by rw [← hpos]; rfl) _ _ _ hM hS (lh_sub hl _ ⟨rfl, rfl, rfl, trivial⟩)
      · have hk0 : k - 1 < n := by omega
        have h4 := hr20 (k - 1) hk0
        have t1 := turnN_le hV (q := r (k - 1)) (vC ν 4) (Nat.le_refl _)
        have t2 := turnN_le hV (q := q) (vC ν 4) (Nat.le_refl _)
        have hk1 : k - 1 + 1 = k := by omega
        have hpk : posG (fun k => rankB ν q (r k)) k = if rankB ν q (r (k - 1)) = true then posG (fun k => rankB ν q (r k)) (k - 1) else k := by
          rw [← hk1]
          rfl
        refine lv_aload_n hx hb dX3_ranks_6 rfl (lh_at hl rfl) ?_
        refine lv_aload_n hx hb dX3_ranks_7 rfl (lh_at hl rfl) ?_
        refine m_getA hF hE hM 20 (by decide) q1334 rfl dX3_ranks_8 ?_
        refine lv_iload_n hx hb dX3_ranks_11 rfl (lh_at hl rfl) ?_
        refine n_const hx hb 1 dX3_ranks_12 (by decide +kernel) ?_
        refine n_isub hx hb (by omega) dX3_ranks_13 ?_
        refine m_ald hF hE hM (by decide) (by show _ < 20; omega) (by exact hlo (k - 1) (by omega)) dX3_ranks_14 ?_
        refine m_calli (As := [.int (nI (r (k - 1)))]) hF hE hM hS hl (mk_turnoverOf l g A m0 ad u ν hRu (r (k - 1)) h4) q1407 q1409 qs21 q1410 ⟨rfl, by decide +kernel, by decide +kernel, by show _ = some 1; decide +kernel⟩ rfl rfl ⟨Nat.le_of_ble_eq_true rfl, Nat.le_of_ble_eq_true rfl⟩ rfl (Nat.le_of_ble_eq_true rfl) dX3_ranks_15 ⟨Nat.le_of_ble_eq_true rfl, Nat.le_of_ble_eq_true rfl⟩ (fun rr u2 H locs hqq hM hS => ?_)
        obtain ⟨rfl, hu⟩ := hqq
        rw [hu] at hM
        refine lv_aload_n hx hb dX3_ranks_18 rfl (lh_at hl rfl) ?_
        refine lv_iload_n hx hb dX3_ranks_19 rfl (lh_at hl rfl) ?_
        refine m_calli (As := [.int (nI q)]) hF hE hM hS hl (mk_turnoverOf l g A m0 ad u ν hRu q hq) q1407 q1409 qs21 q1410 ⟨rfl, by decide +kernel, by decide +kernel, by show _ = some 1; decide +kernel⟩ rfl rfl ⟨Nat.le_of_ble_eq_true rfl, Nat.le_of_ble_eq_true rfl⟩ rfl (Nat.le_of_ble_eq_true rfl) dX3_ranks_20 ⟨Nat.le_of_ble_eq_true rfl, Nat.le_of_ble_eq_true rfl⟩ (fun rr u2 H locs hqq hM hS => ?_)
        obtain ⟨rfl, hu⟩ := hqq
        rw [hu] at hM
        refine n_icmp_ge (tgt := 46) hx hb dX3_ranks_23 (by decide) (by omega) (by omega) (fun c4 => ?_) (fun c4 => ?_)
        · have hno : ¬ rankB ν q (r (k - 1)) = true := by
            unfold rankB tvN
            simp only [decide_eq_true_eq]
            omega
          exact stop (by rw [← hpos, hpk, if_neg hno]) _ _ _ hM hS (lh_sub hl _ ⟨rfl, rfl, rfl, trivial⟩)
        · have hyes : rankB ν q (r (k - 1)) = true := by
            unfold rankB tvN
            simp only [decide_eq_true_eq]
            omega
          rw [if_pos hyes] at hpk
          refine lv_aload_n hx hb dX3_ranks_26 rfl (lh_at hl rfl) ?_
          refine m_getA hF hE hM 20 (by decide) q1334 rfl dX3_ranks_27 ?_
          refine lv_iload_n hx hb dX3_ranks_30 rfl (lh_at hl rfl) ?_
          refine lv_aload_n hx hb dX3_ranks_31 rfl (lh_at hl rfl) ?_
          refine m_getA hF hE hM 20 (by decide) q1334 rfl dX3_ranks_32 ?_
          refine lv_iload_n hx hb dX3_ranks_35 rfl (lh_at hl rfl) ?_
          refine n_const hx hb 1 dX3_ranks_36 (by decide +kernel) ?_
          refine n_isub hx hb (by omega) dX3_ranks_37 ?_
          refine m_ald hF hE hM (by decide) (by show _ < 20; omega) (by exact hlo (k - 1) (by omega)) dX3_ranks_38 ?_
          refine m_ast hF hE hM hS (by decide) (by show _ < 20; omega) dX3_ranks_39 (fun H locs hM hS => ?_)
          refine n_idec hx hb dX3_ranks_40 hl rfl (by omega) (by decide) (fun ls hl => ?_)
          refine lv_goto (tgt := 2) hx hb dX3_ranks_43 (by decide) ?_
          refine ih2 (k - 1) (by omega) (by omega) (m_setA u 20 (upd (u.2.1 20) k (nI (r (k - 1))))) _ _ _ (hG.a (by decide)) h21 (by rw [← hpk]; exact hpos) ?_ ?_ hM hS (lh_sub hl _ ⟨rfl, rfl, rfl, trivial⟩)
          · intro x hx
            show upd (u.2.1 20) k _ x = _
            rw [pk_un (by omega)]
            exact hlo x (by omega)
          · intro x hx hx2
            show upd (u.2.1 20) k _ x = _
            by_cases e : x = k
            · subst e
              rw [pk_us]
            · rw [pk_un e]
              exact hhi x (by omega) hx2
  refine lv_iload_n hx hb dX3_ranks_0 rfl (lh_at hl rfl) ?_
  refine x_istore_n hx hb dX3_ranks_1 rfl hl (by decide) (fun ls hl => ?_)
  exact shift (n + 1) n (Nat.le_refl _) (Nat.lt_succ_self _) _ _ _ _ mAg.rf rfl rfl hra (fun x h3 h4 => by omega) hM hS (lh_sub hl _ ⟨rfl, rfl, rfl, trivial⟩)
set_option maxHeartbeats 8000000 in
theorem mk_spreads (l : Launch) (g : xg) (A : Nat → Prop) (m0 : Nat) (ad : Nat → Nat) (μ : mS) (ν : nS) (hR : mR ν μ) (z n : Nat) (r : Nat → Nat) (hz : okPl (vC ν 0) (vC ν 1) z) (hn : n < 20) (hrk : ∀ k, k < n → okPl (vC ν 0) (vC ν 1) (r k)) (hra : ∀ k, k < n → μ.2.1 21 k = nI (r k)) :
    Met l yX3_spreads (ws_ yX3_spreads cX3_spreads 4 none) (xrm 1 0 0) (mPc g A m0 ad μ [.int (nI z), .int (nI n)]) (mQv g A m0 ad (fun u => mAg μ u ∧ u.2.1 20 = μ.2.1 20 ∧ ∀ k, k < n + 1 → u.2.1 21 k = nI (insF r z (posG (fun k => spotB ν z (r k)) n) k))) 0 0 A := by
  refine x_start rfl (Nat.le_of_ble_eq_true rfl) ?_
  intro p e s m below meth c hx hb hr hlk hml hown hts hnm hE hM hS ls hl
  have hF : xFix p m c cX3_spreads 4 s _ RX3 := ⟨hx, hb, hml, hown, hts⟩
  generalize hargs : List.toArray _ = args at hts hF ⊢
  generalize hQ : MQ below _ _ s _ _ A = Q
  have hV := hR.1
  have hz2 := hz.lt2 hR.A.2.2 hR.P.2.2
  have shift : ∀ (n2 k : Nat), k ≤ n → k < n2 → ∀ (u : mS) (H : Heap) (locs : List Loc) (ls : Array Slot), mAg μ u → u.2.1 20 = μ.2.1 20 → posG (fun k => spotB ν z (r k)) k = posG (fun k => spotB ν z (r k)) n → (∀ x, x < k → u.2.1 21 x = nI (r x)) → (∀ x, k < x → x ≤ n → u.2.1 21 x = nI (r (x - 1))) → mW g A m0 ad u H → va_S A s.heap H locs → lh ls 4 (xl [(0, .ref m0), (1, .int (nI z)), (3, .int (nI k))]) → W p l e (xrm 1 0 0) s m args below meth c H locs 0 0 Q (F0 m 2 ls []) := by
    intro n2
    induction n2 with
    | zero => intro k h1 h2; exact absurd h2 (by omega)
    | succ n2 ih2 =>
      intro k hk hkn u H locs ls hG h20 hpos hlo hhi hM hS hl
      have hRu := hG.R hR
      have hGn := hRu.G
      have hPn := hRu.P
      have stop : k = posG (fun k => spotB ν z (r k)) n → ∀ (H : Heap) (locs : List Loc) (ls : Array Slot), mW g A m0 ad u H → va_S A s.heap H locs → lh ls 4 (xl [(0, .ref m0), (1, .int (nI z)), (3, .int (nI k))]) → W p l e (xrm 1 0 0) s m args below meth c H locs 0 0 Q (F0 m 82 ls []) := by
        intro hkJ H locs ls hM hS hl
        refine lv_aload_n hx hb dX3_spreads_82 rfl (lh_at hl rfl) ?_
        refine m_getA hF hE hM 21 (by decide) q1335 rfl dX3_spreads_83 ?_
        refine lv_iload_n hx hb dX3_spreads_86 rfl (lh_at hl rfl) ?_
        refine lv_iload_n hx hb dX3_spreads_87 rfl (lh_at hl rfl) ?_
        refine m_ast hF hE hM hS (by decide) (by show _ < 20; omega) dX3_spreads_88 (fun H locs hM hS => ?_)
        refine hQ ▸ x_vret hx hb hr hlk hS (m_setA u 21 (upd (u.2.1 21) k (nI z))) ⟨hG.a (by decide), h20, fun x hx2 => ?_⟩ hM dX3_spreads_89
        show upd (u.2.1 21) k (nI z) x = nI (insF r z (posG (fun k => spotB ν z (r k)) n) x)
        rw [← hkJ]
        unfold insF
        by_cases e1 : x = k
        · subst e1
          rw [pk_us, if_neg (by omega), if_pos rfl]
        · rw [pk_un e1]
          by_cases e2 : x < k
          · rw [if_pos e2, hlo x e2]
          · rw [if_neg e2, if_neg e1, hhi x (by omega) (by omega)]
      refine lv_iload_n hx hb dX3_spreads_2 rfl (lh_at hl rfl) ?_
      refine n_if_le (tgt := 82) hx hb dX3_spreads_3 (by decide) (by omega) (fun c3 => ?_) (fun c3 => ?_)
      · have e : k = 0 := by omega
        subst e
        exact stop (by rw [← hpos]; rfl) _ _ _ hM hS (lh_sub hl _ ⟨rfl, rfl, rfl, trivial⟩)
      · have hk0 : k - 1 < n := by omega
        have hx0 := hrk (k - 1) hk0
        have hx2 := hx0.lt2 hR.A.2.2 hR.P.2.2
        have hlk1 := hlo (k - 1) (by omega)
        generalize hxe : r (k - 1) = x at hx0 hx2 hlk1
        have hk1 : k - 1 + 1 = k := by omega
        have hpk : posG (fun k => spotB ν z (r k)) k = if spotB ν z x = true then posG (fun k => spotB ν z (r k)) (k - 1) else k := by
          rw [← hk1, ← hxe]
          rfl
        have wx := wayN_le (G := vC ν 2) (P := vC ν 1) (a := 0) (b := x) hR.G.2.2 (by decide) hx2.1 hR.P.2.2 (by omega) hx2.2
        have wz := wayN_le (G := vC ν 2) (P := vC ν 1) (a := 0) (b := z) hR.G.2.2 (by decide) hz2.1 hR.P.2.2 (by omega) hz2.2
        have move : spotB ν z x = true → ∀ (H : Heap) (locs : List Loc) (ls : Array Slot), mW g A m0 ad u H → va_S A s.heap H locs → lh ls 4 (xl [(0, .ref m0), (1, .int (nI z)), (3, .int (nI k))]) → W p l e (xrm 1 0 0) s m args below meth c H locs 0 0 Q (F0 m 62 ls []) := by
          intro hyes H locs ls hM hS hl
          rw [if_pos hyes] at hpk
          refine lv_aload_n hx hb dX3_spreads_62 rfl (lh_at hl rfl) ?_
          refine m_getA hF hE hM 21 (by decide) q1335 rfl dX3_spreads_63 ?_
          refine lv_iload_n hx hb dX3_spreads_66 rfl (lh_at hl rfl) ?_
          refine lv_aload_n hx hb dX3_spreads_67 rfl (lh_at hl rfl) ?_
          refine m_getA hF hE hM 21 (by decide) q1335 rfl dX3_spreads_68 ?_
          refine lv_iload_n hx hb dX3_spreads_71 rfl (lh_at hl rfl) ?_
          refine n_const hx hb 1 dX3_spreads_72 (by decide +kernel) ?_
          refine n_isub hx hb (by omega) dX3_spreads_73 ?_
          refine m_ald hF hE hM (by decide) (by show _ < 20; omega) (by exact hlk1) dX3_spreads_74 ?_
          refine m_ast hF hE hM hS (by decide) (by show _ < 20; omega) dX3_spreads_75 (fun H locs hM hS => ?_)
          refine n_idec hx hb dX3_spreads_76 hl rfl (by omega) (by decide) (fun ls hl => ?_)
          refine lv_goto (tgt := 2) hx hb dX3_spreads_79 (by decide) ?_
          refine ih2 (k - 1) (by omega) (by omega) (m_setA u 21 (upd (u.2.1 21) k (nI x))) _ _ _ (hG.a (by decide)) h20 (by rw [← hpk]; exact hpos) ?_ ?_ hM hS (lh_sub hl _ ⟨rfl, rfl, rfl, trivial⟩)
          · intro y hy
            show upd (u.2.1 21) k _ y = _
            rw [pk_un (by omega)]
            exact hlo y (by omega)
          · intro y hy hy2
            show upd (u.2.1 21) k _ y = _
            by_cases e : y = k
            · subst e
              rw [pk_us, hxe]
            · rw [pk_un e]
              exact hhi y (by omega) hy2
        refine lv_aload_n hx hb dX3_spreads_6 rfl (lh_at hl rfl) ?_
        refine n_const hx hb 0 dX3_spreads_7 (by decide +kernel) ?_
        refine lv_aload_n hx hb dX3_spreads_8 rfl (lh_at hl rfl) ?_
        refine m_getA hF hE hM 21 (by decide) q1335 rfl dX3_spreads_9 ?_
        refine lv_iload_n hx hb dX3_spreads_12 rfl (lh_at hl rfl) ?_
        refine n_const hx hb 1 dX3_spreads_13 (by decide +kernel) ?_
        refine n_isub hx hb (by omega) dX3_spreads_14 ?_
        refine m_ald hF hE hM (by decide) (by show _ < 20; omega) (by exact hlk1) dX3_spreads_15 ?_
        refine m_calli (As := [.int (nI 0), .int (nI x)]) hF hE hM hS hl (mk_way l g A m0 ad u (vC ν 2) (vC ν 1) 0 x hGn.1 hPn.1 hGn.2.2 hPn.2.2 (by omega) (by omega) (by omega) hx2.2) q1415 q1417 qs23 q1418 ⟨rfl, by decide +kernel, by decide +kernel, by show _ = some 2; decide +kernel⟩ rfl rfl ⟨Nat.le_of_ble_eq_true rfl, Nat.le_of_ble_eq_true rfl⟩ rfl (Nat.le_of_ble_eq_true rfl) dX3_spreads_16 ⟨Nat.le_of_ble_eq_true rfl, Nat.le_of_ble_eq_true rfl⟩ (fun rr u2 H locs hqq hM hS => ?_)
        obtain ⟨rfl, hu⟩ := hqq
        rw [hu] at hM
        refine lv_aload_n hx hb dX3_spreads_19 rfl (lh_at hl rfl) ?_
        refine n_const hx hb 0 dX3_spreads_20 (by decide +kernel) ?_
        refine lv_iload_n hx hb dX3_spreads_21 rfl (lh_at hl rfl) ?_
        refine m_calli (As := [.int (nI 0), .int (nI z)]) hF hE hM hS hl (mk_way l g A m0 ad u (vC ν 2) (vC ν 1) 0 z hGn.1 hPn.1 hGn.2.2 hPn.2.2 (by omega) (by omega) (by omega) hz2.2) q1415 q1417 qs23 q1418 ⟨rfl, by decide +kernel, by decide +kernel, by show _ = some 2; decide +kernel⟩ rfl rfl ⟨Nat.le_of_ble_eq_true rfl, Nat.le_of_ble_eq_true rfl⟩ rfl (Nat.le_of_ble_eq_true rfl) dX3_spreads_22 ⟨Nat.le_of_ble_eq_true rfl, Nat.le_of_ble_eq_true rfl⟩ (fun rr u2 H locs hqq hM hS => ?_)
        obtain ⟨rfl, hu⟩ := hqq
        rw [hu] at hM
        refine n_icmp_gt (tgt := 62) hx hb dX3_spreads_25 (by decide) (by omega) (by omega) (fun c4 => ?_) (fun c4 => ?_)
        · exact move (by unfold spotB; simp [c4]) _ _ _ hM hS (lh_sub hl _ ⟨rfl, rfl, rfl, trivial⟩)
        · refine lv_aload_n hx hb dX3_spreads_28 rfl (lh_at hl rfl) ?_
          refine n_const hx hb 0 dX3_spreads_29 (by decide +kernel) ?_
          refine lv_aload_n hx hb dX3_spreads_30 rfl (lh_at hl rfl) ?_
          refine m_getA hF hE hM 21 (by decide) q1335 rfl dX3_spreads_31 ?_
          refine lv_iload_n hx hb dX3_spreads_34 rfl (lh_at hl rfl) ?_
          refine n_const hx hb 1 dX3_spreads_35 (by decide +kernel) ?_
          refine n_isub hx hb (by omega) dX3_spreads_36 ?_
          refine m_ald hF hE hM (by decide) (by show _ < 20; omega) (by exact hlk1) dX3_spreads_37 ?_
          refine m_calli (As := [.int (nI 0), .int (nI x)]) hF hE hM hS hl (mk_way l g A m0 ad u (vC ν 2) (vC ν 1) 0 x hGn.1 hPn.1 hGn.2.2 hPn.2.2 (by omega) (by omega) (by omega) hx2.2) q1415 q1417 qs23 q1418 ⟨rfl, by decide +kernel, by decide +kernel, by show _ = some 2; decide +kernel⟩ rfl rfl ⟨Nat.le_of_ble_eq_true rfl, Nat.le_of_ble_eq_true rfl⟩ rfl (Nat.le_of_ble_eq_true rfl) dX3_spreads_38 ⟨Nat.le_of_ble_eq_true rfl, Nat.le_of_ble_eq_true rfl⟩ (fun rr u2 H locs hqq hM hS => ?_)
          obtain ⟨rfl, hu⟩ := hqq
          rw [hu] at hM
          refine lv_aload_n hx hb dX3_spreads_41 rfl (lh_at hl rfl) ?_
          refine n_const hx hb 0 dX3_spreads_42 (by decide +kernel) ?_
          refine lv_iload_n hx hb dX3_spreads_43 rfl (lh_at hl rfl) ?_
          refine m_calli (As := [.int (nI 0), .int (nI z)]) hF hE hM hS hl (mk_way l g A m0 ad u (vC ν 2) (vC ν 1) 0 z hGn.1 hPn.1 hGn.2.2 hPn.2.2 (by omega) (by omega) (by omega) hz2.2) q1415 q1417 qs23 q1418 ⟨rfl, by decide +kernel, by decide +kernel, by show _ = some 2; decide +kernel⟩ rfl rfl ⟨Nat.le_of_ble_eq_true rfl, Nat.le_of_ble_eq_true rfl⟩ rfl (Nat.le_of_ble_eq_true rfl) dX3_spreads_44 ⟨Nat.le_of_ble_eq_true rfl, Nat.le_of_ble_eq_true rfl⟩ (fun rr u2 H locs hqq hM hS => ?_)
          obtain ⟨rfl, hu⟩ := hqq
          rw [hu] at hM
          refine n_icmp_ne (tgt := 82) hx hb dX3_spreads_47 (by decide) (by omega) (by omega) (fun c5 => ?_) (fun c5 => ?_)
          · have hno : ¬ spotB ν z x = true := by
              unfold spotB w0N
              simp only [Bool.or_eq_true, Bool.and_eq_true, decide_eq_true_eq]
              omega
            exact stop (by rw [← hpos, hpk, if_neg hno]) _ _ _ hM hS (lh_sub hl _ ⟨rfl, rfl, rfl, trivial⟩)
          · refine lv_aload_n hx hb dX3_spreads_50 rfl (lh_at hl rfl) ?_
            refine m_getA hF hE hM 21 (by decide) q1335 rfl dX3_spreads_51 ?_
            refine lv_iload_n hx hb dX3_spreads_54 rfl (lh_at hl rfl) ?_
            refine n_const hx hb 1 dX3_spreads_55 (by decide +kernel) ?_
            refine n_isub hx hb (by omega) dX3_spreads_56 ?_
            refine m_ald hF hE hM (by decide) (by show _ < 20; omega) (by exact hlk1) dX3_spreads_57 ?_
            refine lv_iload_n hx hb dX3_spreads_58 rfl (lh_at hl rfl) ?_
            refine n_icmp_le (tgt := 82) hx hb dX3_spreads_59 (by decide) (by omega) (by omega) (fun c6 => ?_) (fun c6 => ?_)
            · have hno : ¬ spotB ν z x = true := by
                unfold spotB w0N
                simp only [Bool.or_eq_true, Bool.and_eq_true, decide_eq_true_eq]
                omega
              exact stop (by rw [← hpos, hpk, if_neg hno]) _ _ _ hM hS (lh_sub hl _ ⟨rfl, rfl, rfl, trivial⟩)
            · have hyes : spotB ν z x = true := by
                unfold spotB w0N
                simp only [Bool.or_eq_true, Bool.and_eq_true, decide_eq_true_eq]
                omega
              exact move hyes _ _ _ hM hS (lh_sub hl _ ⟨rfl, rfl, rfl, trivial⟩)
  refine lv_iload_n hx hb dX3_spreads_0 rfl (lh_at hl rfl) ?_
  refine x_istore_n hx hb dX3_spreads_1 rfl hl (by decide) (fun ls hl => ?_)
  exact shift (n + 1) n (Nat.le_refl _) (Nat.lt_succ_self _) _ _ _ _ mAg.rf rfl rfl hra (fun x h3 h4 => by omega) hM hS (lh_sub hl _ ⟨rfl, rfl, rfl, trivial⟩)
theorem mR_place {ν : nS} {μ : mS} {f : Nat → Nat} {i v : Nat} (hR : mR (vSetPl ν f) μ) (hi : i < 20) (hv : okPl (vC ν 0) (vC ν 1) v) : mR (vSetPl ν (va_up f i v)) (m_setA μ 5 (upd (μ.2.1 5) i (nI v))) := by
  have h := mR_setP hR hi hv
  have hv0 : v ≠ 0 := (hv.lt hR.A.2.2 hR.P.2.2).2.1
  rw [eP_pos hv0] at h
  exact h
set_option maxHeartbeats 8000000 in
theorem mk_layOut (l : Launch) (g : xg) (A : Nat → Prop) (m0 : Nat) (ad : Nat → Nat) (μ : mS) (ν : nS) (hR : mR ν μ) :
    Met l yX3_layOut (ws_ yX3_layOut cX3_layOut 4 (some .int)) (xrm 9 0 0) (mPc g A m0 ad μ []) (mQi g A m0 ad (mOp (opLayOut ν))) 0 0 A := by
  refine x_start rfl (Nat.le_of_ble_eq_true rfl) ?_
  intro p e s m below meth c hx hb hr hlk hml hown hts hnm hE hM hS ls hl
  have hF : xFix p m c cX3_layOut 4 s _ RX3 := ⟨hx, hb, hml, hown, hts⟩
  generalize hargs : List.toArray _ = args at hts hF ⊢
  generalize hQ : MQ below _ _ s _ _ A = Q
  refine lv_aload_n hx hb dX3_layOut_0 rfl (lh_at hl rfl) ?_
  refine n_const hx hb 0 dX3_layOut_1 (by decide +kernel) ?_
  refine m_putI hF hE hM hS 0 (by decide) q1314 rfl (by decide +kernel) rfl dX3_layOut_2 (fun H locs hM hS => ?_)
  have hR := mR_thrown (v := nI 0) hR
  have hB := hR.B
  generalize hμ : m_setI μ 0 (nI 0) = μ1 at hM hR hB
  have h0 : μ1.1 0 = nI 0 := by rw [← hμ]; rfl
  obtain ⟨hc20, hin⟩ := layF_in (ν := ν) 20
  have hspot : ∀ k, k < (layF ν 20).1 → okPl (vC ν 0) (vC ν 1) ((layF ν 20).2.2 k) := by
    intro k hk
    obtain ⟨-, x, a, b, e⟩ := hin k hk
    rw [b]
    rcases hR.plOk a with q | q
    · exact absurd q e
    · exact q
  have place : vC ν 5 = 0 → ∀ (n k : Nat), k ≤ (layF ν 20).1 → (layF ν 20).1 < k + n → ∀ (u : mS) (H : Heap) (locs : List Loc) (ls : Array Slot), mR (vSetPl ν (applyF ν k).2) u → u.1 0 = nI 0 → (∀ x, x < (layF ν 20).1 → u.2.1 20 x = nI ((layF ν 20).2.1 x)) → (∀ x, x < (layF ν 20).1 → u.2.1 21 x = nI ((layF ν 20).2.2 x)) → mW g A m0 ad u H → va_S A s.heap H locs → lh ls 4 (xl [(0, .ref m0), (1, .int (nI (layF ν 20).1)), (2, .int (nI (applyF ν k).1)), (3, .int (nI k))]) → W p l e (xrm 9 0 0) s m args below meth c H locs 0 0 Q (F0 m 68 ls []) := by
    intro hB0 n
    induction n with
    | zero => intro k h1 h2; exact absurd h2 (by omega)
    | succ n ih =>
      intro k h1 h2 u H locs ls hRk h01 h20 h21 hM hS hl
      refine lv_iload_n hx hb dX3_layOut_68 rfl (lh_at hl rfl) ?_
      refine lv_iload_n hx hb dX3_layOut_69 rfl (lh_at hl rfl) ?_
      refine n_icmp_ge (tgt := 124) hx hb dX3_layOut_70 (by decide) (by omega) (by omega) (fun c1 => ?_) (fun c1 => ?_)
      · refine lv_iload_n hx hb dX3_layOut_124 rfl (lh_at hl rfl) ?_
        have e : k = (layF ν 20).1 := by omega
        subst e
        have hno : ¬ 0 < vC ν 5 := by omega
        exact hQ ▸ x_iret hx hb hr hlk hS _ ⟨by simp only [opLayOut, if_neg hno]; exact h01, by simp only [opLayOut, if_neg hno], by simp only [opLayOut, if_neg hno]; exact hRk⟩ hM dX3_layOut_125
      · have hk : k < (layF ν 20).1 := by omega
        have hr1 := (hin k hk).1
        have hsp := hspot k hk
        have hsp2 := hsp.lt hR.A.2.2 hR.P.2.2
        have hpl : u.2.1 5 ((layF ν 20).2.1 k) = eP ((applyF ν k).2 ((layF ν 20).2.1 k)) := hRk.pl hr1
        have hpl2 : (applyF ν k).2 ((layF ν 20).2.1 k) < 600 := (hRk.pl2 hr1).1
        have next : ∀ (ls : Array Slot) (x : Nat), x = (applyF ν (k + 1)).1 → lh ls 4 (xl [(0, .ref m0), (1, .int (nI (layF ν 20).1)), (3, .int (nI k))]) → W p l e (xrm 9 0 0) s m args below meth c H locs 0 0 Q (F0 m 100 ls [.int (nI x)]) := by
          intro ls x hx2 hl
          refine x_istore_n hx hb dX3_layOut_100 rfl hl (by decide) (fun ls hl => ?_)
          refine lv_aload_n hx hb dX3_layOut_101 rfl (lh_at hl rfl) ?_
          refine m_getA hF hE hM 5 (by decide) q1319 rfl dX3_layOut_102 ?_
          refine lv_aload_n hx hb dX3_layOut_105 rfl (lh_at hl rfl) ?_
          refine m_getA hF hE hM 20 (by decide) q1334 rfl dX3_layOut_106 ?_
          refine lv_iload_n hx hb dX3_layOut_109 rfl (lh_at hl rfl) ?_
          refine m_ald hF hE hM (by decide) (by show _ < 20; omega) (by exact h20 k hk) dX3_layOut_110 ?_
          refine lv_aload_n hx hb dX3_layOut_111 rfl (lh_at hl rfl) ?_
          refine m_getA hF hE hM 21 (by decide) q1335 rfl dX3_layOut_112 ?_
          refine lv_iload_n hx hb dX3_layOut_115 rfl (lh_at hl rfl) ?_
          refine m_ald hF hE hM (by decide) (by show _ < 20; omega) (by exact h21 k hk) dX3_layOut_116 ?_
          refine m_ast hF hE hM hS (by decide) (by show _ < 20; omega) dX3_layOut_117 (fun H locs hM hS => ?_)
          refine n_iinc hx hb 1 dX3_layOut_118 hl rfl (by decide +kernel) (by decide) (fun ls hl => ?_)
          refine lv_goto (tgt := 68) hx hb dX3_layOut_121 (by decide) ?_
          exact ih (k + 1) (by omega) (by omega) _ _ _ _ (mR_place hRk hr1 hsp) h01 h20 h21 hM hS (lh_sub hl _ ⟨rfl, rfl, xl_v (by rw [hx2]), rfl, trivial⟩)
        refine lv_iload_n hx hb dX3_layOut_73 rfl (lh_at hl rfl) ?_
        refine lv_aload_n hx hb dX3_layOut_74 rfl (lh_at hl rfl) ?_
        refine m_getA hF hE hM 5 (by decide) q1319 rfl dX3_layOut_75 ?_
        refine lv_aload_n hx hb dX3_layOut_78 rfl (lh_at hl rfl) ?_
        refine m_getA hF hE hM 20 (by decide) q1334 rfl dX3_layOut_79 ?_
        refine lv_iload_n hx hb dX3_layOut_82 rfl (lh_at hl rfl) ?_
        refine m_ald hF hE hM (by decide) (by show _ < 20; omega) (by exact h20 k hk) dX3_layOut_83 ?_
        refine m_ald hF hE hM (by decide) (by show _ < 20; omega) (by exact hpl) dX3_layOut_84 ?_
        refine lv_aload_n hx hb dX3_layOut_85 rfl (lh_at hl rfl) ?_
        refine m_getA hF hE hM 21 (by decide) q1335 rfl dX3_layOut_86 ?_
        refine lv_iload_n hx hb dX3_layOut_89 rfl (lh_at hl rfl) ?_
        refine m_ald hF hE hM (by decide) (by show _ < 20; omega) (by exact h21 k hk) dX3_layOut_90 ?_
        refine lv_icmp_ne (tgt := 98) hx hb dX3_layOut_91 (by decide) (fun c2 => ?_) (fun c2 => ?_)
        · have hne : ¬ (applyF ν k).2 ((layF ν 20).2.1 k) = (layF ν 20).2.2 k := fun e => c2 (by rw [e]; exact eP_pos hsp2.2.1)
          refine n_const hx hb 1 dX3_layOut_98 (by decide +kernel) ?_
          refine n_iadd hx hb dX3_layOut_99 ?_
          exact next _ _ (by rw [applyF, if_neg hne]) (lh_sub hl _ ⟨rfl, rfl, rfl, trivial⟩)
        · have heq : (applyF ν k).2 ((layF ν 20).2.1 k) = (layF ν 20).2.2 k := (eP_eq (by omega) (by omega)).mp (c2.trans (eP_pos hsp2.2.1).symm)
          refine n_const hx hb 0 dX3_layOut_94 (by decide +kernel) ?_
          refine lv_goto (tgt := 99) hx hb dX3_layOut_95 (by decide) ?_
          refine n_iadd hx hb dX3_layOut_99 ?_
          exact next _ _ (by rw [applyF, if_pos heq]) (lh_sub hl _ ⟨rfl, rfl, rfl, trivial⟩)
  have sort : vC ν 5 = 0 → ∀ (n q : Nat), q ≤ 20 → 20 < q + n → ∀ (u : mS) (H : Heap) (locs : List Loc) (ls : Array Slot), mAg μ1 u → (∀ x, x < (layF ν q).1 → u.2.1 20 x = nI ((layF ν q).2.1 x)) → (∀ x, x < (layF ν q).1 → u.2.1 21 x = nI ((layF ν q).2.2 x)) → mW g A m0 ad u H → va_S A s.heap H locs → lh ls 4 (xl [(0, .ref m0), (1, .int (nI (layF ν q).1)), (2, .int (nI q))]) → W p l e (xrm 9 0 0) s m args below meth c H locs 0 0 Q (F0 m 22 ls []) := by
    intro hB0 n
    induction n with
    | zero => intro q h1 h2; exact absurd h2 (by omega)
    | succ n ih =>
      intro q h1 h2 u H locs ls hG h20 h21 hM hS hl
      have hRu := hG.R hR
      refine lv_iload_n hx hb dX3_layOut_22 rfl (lh_at hl rfl) ?_
      refine n_bipush hx hb 20 dX3_layOut_23 (by decide +kernel) ?_
      refine n_icmp_ge (tgt := 64) hx hb dX3_layOut_25 (by decide) (by omega) (by omega) (fun c1 => ?_) (fun c1 => ?_)
      · have e : q = 20 := by omega
        subst e
        refine n_const hx hb 0 dX3_layOut_64 (by decide +kernel) ?_
        refine x_istore_n hx hb dX3_layOut_65 rfl hl (by decide) (fun ls hl => ?_)
        refine n_const hx hb 0 dX3_layOut_66 (by decide +kernel) ?_
        refine x_istore_n hx hb dX3_layOut_67 rfl hl (by decide) (fun ls hl => ?_)
        exact place hB0 ((layF ν 20).1 + 1) 0 (by omega) (by omega) _ _ _ _ hRu ((hG.1 0 (by decide)).trans h0) h20 h21 hM hS (lh_sub hl _ ⟨rfl, rfl, rfl, rfl, trivial⟩)
      · have hq : q < 20 := by omega
        have hpl2 := hR.pl2 hq
        obtain ⟨hcq, hinq⟩ := layF_in (ν := ν) q
        refine lv_aload_n hx hb dX3_layOut_28 rfl (lh_at hl rfl) ?_
        refine m_getA hF hE hM 5 (by decide) q1319 rfl dX3_layOut_29 ?_
        refine lv_iload_n hx hb dX3_layOut_32 rfl (lh_at hl rfl) ?_
        refine m_ald hF hE hM (by decide) (by simp only [mLen]; omega) (by exact hRu.pl hq) dX3_layOut_33 ?_
        refine lv_iconst (v := -1) hx hb dX3_layOut_34 (by decide +kernel) ?_
        refine lv_icmp_eq (tgt := 58) hx hb dX3_layOut_35 (by decide) (fun c2 => ?_) (fun c2 => ?_)
        · have hp0 : vPl ν q = 0 := (eP_m1 (by omega)).mp c2
          have e : layF ν (q + 1) = layF ν q := by rw [layF, if_pos hp0]
          refine n_iinc hx hb 1 dX3_layOut_58 hl rfl (by decide +kernel) (by decide) (fun ls hl => ?_)
          refine lv_goto (tgt := 22) hx hb dX3_layOut_61 (by decide) ?_
          exact ih (q + 1) (by omega) (by omega) _ _ _ _ hG (by rw [e]; exact h20) (by rw [e]; exact h21) hM hS (lh_sub hl _ ⟨rfl, xl_v (by rw [e]), rfl, trivial⟩)
        · have hp0 : vPl ν q ≠ 0 := fun z => c2 ((eP_m1 (by omega)).mpr z)
          have hpo : okPl (vC ν 0) (vC ν 1) (vPl ν q) := by
            rcases hR.plOk hq with z | z
            · exact absurd z hp0
            · exact z
          have e : layF ν (q + 1) = ((layF ν q).1 + 1, insF (layF ν q).2.1 q (posG (fun k => rankB ν q ((layF ν q).2.1 k)) (layF ν q).1), insF (layF ν q).2.2 (vPl ν q) (posG (fun k => spotB ν (vPl ν q) ((layF ν q).2.2 k)) (layF ν q).1)) := by
            rw [layF, if_neg hp0]
          generalize layF ν q = t at hl h20 h21 hcq hinq e
          have ht20 : ∀ k, k < t.1 → t.2.1 k < 20 := fun k hk => by
            have := (hinq k hk).1
            omega
          have htok : ∀ k, k < t.1 → okPl (vC ν 0) (vC ν 1) (t.2.2 k) := by
            intro k hk
            obtain ⟨-, x, a, b, e2⟩ := hinq k hk
            rw [b]
            rcases hR.plOk (q := x) (by omega) with z | z
            · exact absurd z e2
            · exact z
          refine lv_aload_n hx hb dX3_layOut_38 rfl (lh_at hl rfl) ?_
          refine lv_iload_n hx hb dX3_layOut_39 rfl (lh_at hl rfl) ?_
          refine lv_iload_n hx hb dX3_layOut_40 rfl (lh_at hl rfl) ?_
          refine m_callv (As := [.int (nI q), .int (nI t.1)]) hF hE hM hS hl (mk_ranks l g A m0 ad u ν hRu q t.1 t.2.1 hq (by omega) ht20 h20) q1403 q1405 qs20 q1406 ⟨rfl, by decide +kernel, by decide +kernel, by show _ = some 2; decide +kernel⟩ rfl rfl ⟨Nat.le_of_ble_eq_true rfl, Nat.le_of_ble_eq_true rfl⟩ rfl (Nat.le_of_ble_eq_true rfl) dX3_layOut_41 ⟨Nat.le_of_ble_eq_true rfl, Nat.le_of_ble_eq_true rfl⟩ (fun u2 H locs hq2 hM hS => ?_)
          obtain ⟨hG2, h212, h202⟩ := hq2
          have hG := hG.tr hG2
          have hRu := hG.R hR
          refine lv_aload_n hx hb dX3_layOut_44 rfl (lh_at hl rfl) ?_
          refine lv_aload_n hx hb dX3_layOut_45 rfl (lh_at hl rfl) ?_
          refine m_getA hF hE hM 5 (by decide) q1319 rfl dX3_layOut_46 ?_
          refine lv_iload_n hx hb dX3_layOut_49 rfl (lh_at hl rfl) ?_
          refine m_ald hF hE hM (by decide) (by simp only [mLen]; omega) (by exact (hRu.pl hq).trans (eP_pos hp0)) dX3_layOut_50 ?_
          refine lv_iload_n hx hb dX3_layOut_51 rfl (lh_at hl rfl) ?_
          refine m_callv (As := [.int (nI (vPl ν q)), .int (nI t.1)]) hF hE hM hS hl (mk_spreads l g A m0 ad u2 ν hRu (vPl ν q) t.1 t.2.2 hpo (by omega) htok (by rw [h212]; exact h21)) q1411 q1413 qs22 q1414 ⟨rfl, by decide +kernel, by decide +kernel, by show _ = some 2; decide +kernel⟩ rfl rfl ⟨Nat.le_of_ble_eq_true rfl, Nat.le_of_ble_eq_true rfl⟩ rfl (Nat.le_of_ble_eq_true rfl) dX3_layOut_52 ⟨Nat.le_of_ble_eq_true rfl, Nat.le_of_ble_eq_true rfl⟩ (fun u3 H locs hq3 hM hS => ?_)
          obtain ⟨hG3, h203, h213⟩ := hq3
          have hG := hG.tr hG3
          refine n_iinc hx hb 1 dX3_layOut_55 hl rfl (by decide +kernel) (by decide) (fun ls hl => ?_)
          refine n_iinc hx hb 1 dX3_layOut_58 hl rfl (by decide +kernel) (by decide) (fun ls hl => ?_)
          refine lv_goto (tgt := 22) hx hb dX3_layOut_61 (by decide) ?_
          exact ih (q + 1) (by omega) (by omega) _ _ _ _ hG (by rw [e, h203]; exact h202) (by rw [e]; exact h213) hM hS (lh_sub hl _ ⟨rfl, xl_v (by rw [e]), rfl, trivial⟩)
  refine lv_aload_n hx hb dX3_layOut_5 rfl (lh_at hl rfl) ?_
  refine m_getI hF hE hM 13 (by decide) q1327 rfl (by exact hB.1) dX3_layOut_6 ?_
  refine n_if_le (tgt := 18) hx hb dX3_layOut_9 (by decide) (by omega) (fun c1 => ?_) (fun c1 => ?_)
  · refine n_const hx hb 0 dX3_layOut_18 (by decide +kernel) ?_
    refine x_istore_n hx hb dX3_layOut_19 rfl hl (by decide) (fun ls hl => ?_)
    refine n_const hx hb 0 dX3_layOut_20 (by decide +kernel) ?_
    refine x_istore_n hx hb dX3_layOut_21 rfl hl (by decide) (fun ls hl => ?_)
    exact sort (by omega) 21 0 (by omega) (by omega) _ _ _ _ mAg.rf (fun x hx2 => absurd hx2 (Nat.not_lt_zero x)) (fun x hx2 => absurd hx2 (Nat.not_lt_zero x)) hM hS (lh_sub hl _ ⟨rfl, rfl, rfl, trivial⟩)
  · have hyes : 0 < vC ν 5 := by omega
    refine lv_aload_n hx hb dX3_layOut_12 rfl (lh_at hl rfl) ?_
    refine n_const hx hb 1 dX3_layOut_13 (by decide +kernel) ?_
    refine m_calli (As := [.int (nI 1)]) hF hE hM hS hl (mk_fails l g A m0 ad _ (nI 1)) q1395 q1397 qs19 q1398 ⟨rfl, by decide +kernel, by decide +kernel, by show _ = some 1; decide +kernel⟩ rfl rfl ⟨Nat.le_of_ble_eq_true rfl, Nat.le_of_ble_eq_true rfl⟩ rfl (Nat.le_of_ble_eq_true rfl) dX3_layOut_14 ⟨Nat.le_of_ble_eq_true rfl, Nat.le_of_ble_eq_true rfl⟩ (fun r uf H locs hqf hM hS => ?_)
    obtain ⟨rfl, huf⟩ := hqf
    rw [huf] at hM
    exact hQ ▸ x_iret hx hb hr hlk hS _ ⟨by simp only [opLayOut, if_pos hyes]; rfl, by simp only [opLayOut, if_pos hyes], by simp only [opLayOut, if_pos hyes]; exact hR⟩ hM dX3_layOut_17
