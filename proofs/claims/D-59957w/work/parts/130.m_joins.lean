/-! THE REFERENCE: the best pair of batches comes together -/
set_option maxRecDepth 100000
theorem nI_diff_le {x z w : Nat} (hx : x < 2 ^ 29) (hz : z < 2 ^ 29) (hw : w < 2 ^ 29) : nI x - nI z ≤ nI w ↔ x ≤ z + w := by
  rw [Int32.le_iff_toInt_le, pk_sub_toInt (by omega) (by omega), nI_toInt (by omega)]
  omega
set_option maxHeartbeats 8000000 in
theorem mk_joins (l : Launch) (g : xg) (A : Nat → Prop) (m0 : Nat) (ad : Nat → Nat) (μ : mS) (ν : nS) (hR : mR ν μ) (hW : wvOk ν) :
    Met l yX3_joins (ws_ yX3_joins cX3_joins 7 (some .boolean)) (xrm 5 0 0) (mPc g A m0 ad μ []) (mQi g A m0 ad (fun r u => u.1 0 = μ.1 0 ∧ match joinsN ν with | none => r = nI 0 ∧ mR ν u | some ν' => r = nI 1 ∧ mR ν' u)) 0 0 A := by
  refine x_start rfl (Nat.le_of_ble_eq_true rfl) ?_
  intro p e s m below meth c hx hb hr hlk hml hown hts hnm hE hM hS ls hl
  have hF : xFix p m c cX3_joins 7 s _ RX3 := ⟨hx, hb, hml, hown, hts⟩
  generalize hargs : List.toArray _ = args at hts hF ⊢
  generalize hQ : MQ below _ _ s _ _ A = Q
  have hV := hR.1
  have hB40 := hR.B.2
  have hN40 := hR.N.2
  -- the end: the batches come together
  have tail : ∀ (u : mS) (H : Heap) (locs : List Loc) (ls : Array Slot), mAg μ u → mW g A m0 ad u H → va_S A s.heap H locs → lh ls 7 (xl [(0, .ref m0), (1, .int (nI (bestO ν (vC ν 5)).1)), (2, .int (eB (bestO ν (vC ν 5)).2.1)), (3, .int (eB (bestO ν (vC ν 5)).2.2))]) → W p l e (xrm 5 0 0) s m args below meth c H locs 0 0 Q (F0 m 145 ls []) := by
    intro u H locs ls hG hM hS hl
    have hbo := bestO_ok hV hW (vC ν 5) (Nat.le_refl _)
    generalize ht : bestO ν (vC ν 5) = t at hl hbo
    have hjn : joinsN ν = if t.1 = 0 then none else some (joinS ν t) := by rw [← ht]; rfl
    have h1le := hbo.1
    rcases hbo.2 with rfl | ⟨b1, b2, b3, b4, b5⟩
    · refine n_const hx hb 0 dX3_joins_145 (by decide +kernel) ?_
      refine x_istore hx hb dX3_joins_146 hl (by decide) (fun ls hl => ?_)
      refine lv_iload hx hb dX3_joins_148 (lh_at hl rfl) ?_
      have hRu := hG.R hR
      refine lv_aload_n hx hb dX3_joins_150 rfl (lh_at hl rfl) ?_
      refine m_getI hF hE hM 6 (by decide) q1320 rfl (by exact hRu.N.1) dX3_joins_151 ?_
      have last : ∀ ls, lh ls 7 (xl [(0, .ref m0), (1, .int (nI 0))]) → W p l e (xrm 5 0 0) s m args below meth c H locs 0 0 Q (F0 m 196 ls []) := by
        intro ls hl
        refine lv_iload_n hx hb dX3_joins_196 rfl (lh_at hl rfl) ?_
        refine n_if_le (tgt := 205) hx hb dX3_joins_197 (by decide) (by omega) (fun c1 => ?_) (fun c1 => ?_)
        · refine lv_iload_n hx hb dX3_joins_205 rfl (lh_at hl rfl) ?_
          refine n_if_le (tgt := 213) hx hb dX3_joins_206 (by decide) (by omega) (fun c2 => ?_) (fun c2 => ?_)
          · refine n_const hx hb 0 dX3_joins_213 (by decide +kernel) ?_
            exact hQ ▸ x_zret hx hb hr hlk hS _ (by decide) ⟨hG.1 0 (by decide), by rw [hjn, if_pos rfl]; exact ⟨rfl, hRu⟩⟩ hM dX3_joins_214
          · omega
        · omega
      refine n_icmp_ge (tgt := 196) hx hb dX3_joins_154 (by decide) (by omega) (by omega) (fun c1 => ?_) (fun c1 => ?_)
      · exact last _ (lh_sub hl _ ⟨rfl, rfl, trivial⟩)
      · refine lv_iload_n hx hb dX3_joins_157 rfl (lh_at hl rfl) ?_
        refine n_if_le (tgt := 196) hx hb dX3_joins_158 (by decide) (by omega) (fun c2 => ?_) (fun c2 => ?_)
        · exact last _ (lh_sub hl _ ⟨rfl, rfl, trivial⟩)
        · omega
    · generalize hf : t.2.1 = f at hl b2 b3 b4 b5 hjn
      generalize hs : t.2.2 = sc at hl b2 b3 b4 b5 hjn
      generalize hbst : t.1 = bst at hl b1 h1le hjn
      have loop : ∀ (n i : Nat), i ≤ vC ν 4 → vC ν 4 < i + n → ∀ (u : mS) (H : Heap) (locs : List Loc) (ls : Array Slot), mR (vSetB ν (vC ν 5) (relN ν f sc i)) u → u.1 0 = μ.1 0 → mW g A m0 ad u H → va_S A s.heap H locs → lh ls 7 (xl [(0, .ref m0), (1, .int (nI bst)), (2, .int (eB f)), (3, .int (eB sc)), (4, .int (nI i))]) → W p l e (xrm 5 0 0) s m args below meth c H locs 0 0 Q (F0 m 148 ls []) := by
        intro n
        induction n with
        | zero => intro i h1 h2; exact absurd h2 (by omega)
        | succ n ih =>
          intro i h1 h2 u H locs ls hRi h0 hM hS hl
          have hNi : u.1 6 = nI (vC ν 4) := hRi.N.1
          refine lv_iload hx hb dX3_joins_148 (lh_at hl rfl) ?_
          refine lv_aload_n hx hb dX3_joins_150 rfl (lh_at hl rfl) ?_
          refine m_getI hF hE hM 6 (by decide) q1320 rfl (by exact hNi) dX3_joins_151 ?_
          refine n_icmp_ge (tgt := 196) hx hb dX3_joins_154 (by decide) (by omega) (by omega) (fun c1 => ?_) (fun c1 => ?_)
          · have e : i = vC ν 4 := by omega
            subst e
            refine lv_iload_n hx hb dX3_joins_196 rfl (lh_at hl rfl) ?_
            refine n_if_le (tgt := 205) hx hb dX3_joins_197 (by decide) (by omega) (fun c2 => ?_) (fun c2 => ?_)
            · omega
            · refine lv_aload_n hx hb dX3_joins_200 rfl (lh_at hl rfl) ?_
              refine lv_iload_n hx hb dX3_joins_201 rfl (lh_at hl rfl) ?_
              have esc : eB sc = nI (sc - 1) := by
                unfold eB
                rw [if_neg (by omega)]
              rw [esc] at hl ⊢
              have hno : ∀ o, o < vC ν 4 → relN ν f sc (vC ν 4) o ≠ sc - 1 + 1 := by
                intro o ho
                unfold relN
                split
                · omega
                · next q => exact fun z => q ⟨ho, by omega⟩
              refine m_callv (As := [.int (nI (sc - 1))]) hF hE hM hS hl (mk_closeUp l g A m0 ad u (vSetB ν (vC ν 5) (relN ν f sc (vC ν 4))) hRi (sc - 1) (by show sc - 1 < vC ν 5; omega) hno) q1496 q1498 qs33 q1499 ⟨rfl, by decide +kernel, by decide +kernel, by show _ = some 1; decide +kernel⟩ rfl rfl ⟨Nat.le_of_ble_eq_true rfl, Nat.le_of_ble_eq_true rfl⟩ rfl (Nat.le_of_ble_eq_true rfl) dX3_joins_202 ⟨Nat.le_of_ble_eq_true rfl, Nat.le_of_ble_eq_true rfl⟩ (fun u2 H locs hq hM hS => ?_)
              obtain ⟨hR2, h02⟩ := hq
              refine lv_iload_n hx hb dX3_joins_205 rfl (lh_at hl rfl) ?_
              refine n_if_le (tgt := 213) hx hb dX3_joins_206 (by decide) (by omega) (fun c3 => ?_) (fun c3 => ?_)
              · omega
              · refine n_const hx hb 1 dX3_joins_209 (by decide +kernel) ?_
                refine lv_goto (tgt := 214) hx hb dX3_joins_210 (by decide) ?_
                refine hQ ▸ x_zret hx hb hr hlk hS u2 (by decide) ⟨h02.trans h0, ?_⟩ hM dX3_joins_214
                rw [hjn, if_neg (by omega)]
                refine ⟨rfl, ?_⟩
                unfold joinS
                rw [hf, hs]
                exact hR2
          · have hi : i < vC ν 4 := by omega
            refine lv_iload_n hx hb dX3_joins_157 rfl (lh_at hl rfl) ?_
            refine n_if_le (tgt := 196) hx hb dX3_joins_158 (by decide) (by omega) (fun c2 => ?_) (fun c2 => ?_)
            · omega
            · have hv : u.2.1 9 i = eB (vBt ν i) := by
                rw [(hRi.bt (o := i) hi).1]
                show eB (relN ν f sc i i) = _
                simp [relN]
              have hv2 := (hR.bt hi).2
              have next : ∀ (H : Heap) (locs : List Loc) (ls : Array Slot), mW g A m0 ad u H → va_S A s.heap H locs → lh ls 7 (xl [(0, .ref m0), (1, .int (nI bst)), (2, .int (eB f)), (3, .int (eB sc)), (4, .int (nI i))]) → W p l e (xrm 5 0 0) s m args below meth c H locs 0 0 Q (F0 m 189 ls [.int (eB (relN ν f sc (i + 1) i)), .int (nI i), .ref (ad 9)]) := by
                intro H locs ls hM hS hl
                refine m_ast hF hE hM hS (by decide) (by simp only [mLen]; omega) dX3_joins_189 (fun H locs hM hS => ?_)
                refine n_iinc hx hb 1 dX3_joins_190 hl rfl (by decide +kernel) (by decide) (fun ls hl => ?_)
                refine lv_goto (tgt := 148) hx hb dX3_joins_193 (by decide) ?_
                refine ih (i + 1) (by omega) (by omega) _ _ _ _ (mR_setB hRi (fun o ho => ?_) (fun o ho => ?_)) h0 hM hS (lh_sub hl _ ⟨rfl, rfl, rfl, rfl, rfl, trivial⟩)
                · by_cases e : o = i
                  · subst e
                    rw [pk_us]
                  · rw [pk_un e, (hRi.bt (o := o) ho).1]
                    show eB (relN ν f sc i o) = _
                    unfold relN
                    have : (o < i ∧ vBt ν o = sc) ↔ (o < i + 1 ∧ vBt ν o = sc) := by omega
                    simp only [this]
                · have := (hR.bt ho).2
                  unfold relN
                  split <;> omega
              refine lv_aload_n hx hb dX3_joins_161 rfl (lh_at hl rfl) ?_
              refine m_getA hF hE hM 9 (by decide) q1323 rfl dX3_joins_162 ?_
              refine lv_iload hx hb dX3_joins_165 (lh_at hl rfl) ?_
              refine lv_aload_n hx hb dX3_joins_167 rfl (lh_at hl rfl) ?_
              refine m_getA hF hE hM 9 (by decide) q1323 rfl dX3_joins_168 ?_
              refine lv_iload hx hb dX3_joins_171 (lh_at hl rfl) ?_
              refine m_ald hF hE hM (by decide) (by simp only [mLen]; omega) (by exact hv) dX3_joins_173 ?_
              refine lv_iload_n hx hb dX3_joins_174 rfl (lh_at hl rfl) ?_
              refine lv_icmp_ne (tgt := 182) hx hb dX3_joins_175 (by decide) (fun c3 => ?_) (fun c3 => ?_)
              · have hne : vBt ν i ≠ sc := fun z => c3 (by rw [z])
                refine lv_aload_n hx hb dX3_joins_182 rfl (lh_at hl rfl) ?_
                refine m_getA hF hE hM 9 (by decide) q1323 rfl dX3_joins_183 ?_
                refine lv_iload hx hb dX3_joins_186 (lh_at hl rfl) ?_
                refine m_ald hF hE hM (by decide) (by simp only [mLen]; omega) (by exact hv.trans (by show _ = eB (relN ν f sc (i + 1) i); simp [relN, hne])) dX3_joins_188 ?_
                exact next _ _ _ hM hS (lh_sub hl _ ⟨rfl, rfl, rfl, rfl, rfl, trivial⟩)
              · have heq : vBt ν i = sc := (eB_eq (by omega) (by omega)).mp c3
                refine lv_iload_n hx hb dX3_joins_178 rfl (lh_at hl rfl) ?_
                refine x_top (y := eB (relN ν f sc (i + 1) i)) (by simp [relN, heq]) ?_
                refine lv_goto (tgt := 189) hx hb dX3_joins_179 (by decide) ?_
                exact next _ _ _ hM hS (lh_sub hl _ ⟨rfl, rfl, rfl, rfl, rfl, trivial⟩)
      refine n_const hx hb 0 dX3_joins_145 (by decide +kernel) ?_
      refine x_istore hx hb dX3_joins_146 hl (by decide) (fun ls hl => ?_)
      have h00 : relN ν f sc 0 = vBt ν := by
        funext o
        simp [relN]
      exact loop (vC ν 4 + 1) 0 (by omega) (by omega) _ _ _ _ (by rw [h00, vSetB_self]; exact hG.R hR) (hG.1 0 (by decide)) hM hS (lh_sub hl _ ⟨rfl, rfl, rfl, rfl, rfl, trivial⟩)
  -- the pairs, one by one
  have pairs : ∀ (n i : Nat), i ≤ vC ν 5 → vC ν 5 < i + n → ∀ (u : mS) (H : Heap) (locs : List Loc) (ls : Array Slot), mAg μ u → mW g A m0 ad u H → va_S A s.heap H locs → lh ls 7 (xl [(0, .ref m0), (1, .int (nI (bestO ν i).1)), (2, .int (eB (bestO ν i).2.1)), (3, .int (eB (bestO ν i).2.2)), (4, .int (nI i))]) → W p l e (xrm 5 0 0) s m args below meth c H locs 0 0 Q (F0 m 9 ls []) := by
    intro n
    induction n with
    | zero => intro i h1 h2; exact absurd h2 (by omega)
    | succ n ih =>
      intro i h1 h2 u H locs ls hG hM hS hl
      have hRu := hG.R hR
      refine lv_iload hx hb dX3_joins_9 (lh_at hl rfl) ?_
      refine lv_aload_n hx hb dX3_joins_11 rfl (lh_at hl rfl) ?_
      refine m_getI hF hE hM 13 (by decide) q1327 rfl (by exact hRu.B.1) dX3_joins_12 ?_
      refine n_icmp_ge (tgt := 145) hx hb dX3_joins_15 (by decide) (by omega) (by omega) (fun c1 => ?_) (fun c1 => ?_)
      · have e : i = vC ν 5 := by omega
        subst e
        exact tail _ _ _ _ hG hM hS (lh_sub hl _ ⟨rfl, rfl, rfl, rfl, trivial⟩)
      · have hi : i < vC ν 5 := by omega
        have hbi : ∀ k, i + 1 + k ≤ vC ν 5 → bestOk ν (bestI ν (bestO ν i) i k) := bestI_ok hV hW (bestO_ok hV hW i (by omega))
        have inner : ∀ (n2 k : Nat), i + 1 + k ≤ vC ν 5 → vC ν 5 < i + 1 + k + n2 → ∀ (u : mS) (H : Heap) (locs : List Loc) (ls : Array Slot), mAg μ u → mW g A m0 ad u H → va_S A s.heap H locs → lh ls 7 (xl [(0, .ref m0), (1, .int (nI (bestI ν (bestO ν i) i k).1)), (2, .int (eB (bestI ν (bestO ν i) i k).2.1)), (3, .int (eB (bestI ν (bestO ν i) i k).2.2)), (4, .int (nI i)), (5, .int (nI (i + 1 + k)))]) → W p l e (xrm 5 0 0) s m args below meth c H locs 0 0 Q (F0 m 24 ls []) := by
          intro n2
          induction n2 with
          | zero => intro k h1 h2; exact absurd h2 (by omega)
          | succ n2 ih2 =>
            intro k h3 h4 u H locs ls hG hM hS hl
            have hRu := hG.R hR
            have hok := hbi k h3
            have hstep : bestI ν (bestO ν i) i (k + 1) = stepJ ν (bestI ν (bestO ν i) i k) i (i + 1 + k) := rfl
            generalize ht : bestI ν (bestO ν i) i k = t at hl hok hstep
            refine lv_iload hx hb dX3_joins_24 (lh_at hl rfl) ?_
            refine lv_aload_n hx hb dX3_joins_26 rfl (lh_at hl rfl) ?_
            refine m_getI hF hE hM 13 (by decide) q1327 rfl (by exact hRu.B.1) dX3_joins_27 ?_
            refine n_icmp_ge (tgt := 139) hx hb dX3_joins_30 (by decide) (by omega) (by omega) (fun c2 => ?_) (fun c2 => ?_)
            · refine n_iinc hx hb 1 dX3_joins_139 hl rfl (by decide +kernel) (by decide) (fun ls hl => ?_)
              refine lv_goto (tgt := 9) hx hb dX3_joins_142 (by decide) ?_
              have e : bestO ν (i + 1) = t := by
                rw [← ht]
                show bestI ν (bestO ν i) i (vC ν 5 - (i + 1)) = _
                rw [show vC ν 5 - (i + 1) = k by omega]
              exact ih (i + 1) (by omega) (by omega) _ _ _ _ hG hM hS (lh_sub hl _ ⟨rfl, xl_v (by rw [e]), xl_v (by rw [e]), xl_v (by rw [e]), rfl, trivial⟩)
            · have hk : i + 1 + k < vC ν 5 := by omega
              generalize hj : i + 1 + k = j at hl hk hstep
              have goOn : ∀ (u : mS) (H : Heap) (locs : List Loc) (ls : Array Slot), mAg μ u → mW g A m0 ad u H → va_S A s.heap H locs → lh ls 7 (xl [(0, .ref m0), (1, .int (nI (stepJ ν t i j).1)), (2, .int (eB (stepJ ν t i j).2.1)), (3, .int (eB (stepJ ν t i j).2.2)), (4, .int (nI i)), (5, .int (nI j))]) → W p l e (xrm 5 0 0) s m args below meth c H locs 0 0 Q (F0 m 133 ls []) := by
                intro u H locs ls hG hM hS hl
                refine n_iinc hx hb 1 dX3_joins_133 hl rfl (by decide +kernel) (by decide) (fun ls hl => ?_)
                refine lv_goto (tgt := 24) hx hb dX3_joins_136 (by decide) ?_
                exact ih2 (k + 1) (by omega) (by omega) _ _ _ _ hG hM hS (lh_sub hl _ ⟨rfl, xl_v (by rw [hstep]), xl_v (by rw [hstep]), xl_v (by rw [hstep]), rfl, xl_v (by rw [← hj]; rfl), trivial⟩)
              have hla := hW i hi
              have hlb := hW j hk
              refine lv_aload_n hx hb dX3_joins_33 rfl (lh_at hl rfl) ?_
              refine lv_iload hx hb dX3_joins_34 (lh_at hl rfl) ?_
              refine m_calli (As := [.int (nI i)]) hF hE hM hS hl (mk_countLines l g A m0 ad u ν hRu i (by omega)) q1488 q1490 qs31 q1491 ⟨rfl, by decide +kernel, by decide +kernel, by show _ = some 1; decide +kernel⟩ rfl rfl ⟨Nat.le_of_ble_eq_true rfl, Nat.le_of_ble_eq_true rfl⟩ rfl (Nat.le_of_ble_eq_true rfl) dX3_joins_36 ⟨Nat.le_of_ble_eq_true rfl, Nat.le_of_ble_eq_true rfl⟩ (fun r u2 H locs hq hM hS => ?_)
              obtain ⟨rfl, hu⟩ := hq
              rw [hu] at hM
              refine lv_aload_n hx hb dX3_joins_39 rfl (lh_at hl rfl) ?_
              refine lv_iload hx hb dX3_joins_40 (lh_at hl rfl) ?_
              refine m_calli (As := [.int (nI j)]) hF hE hM hS hl (mk_countLines l g A m0 ad u ν hRu j (by omega)) q1488 q1490 qs31 q1491 ⟨rfl, by decide +kernel, by decide +kernel, by show _ = some 1; decide +kernel⟩ rfl rfl ⟨Nat.le_of_ble_eq_true rfl, Nat.le_of_ble_eq_true rfl⟩ rfl (Nat.le_of_ble_eq_true rfl) dX3_joins_42 ⟨Nat.le_of_ble_eq_true rfl, Nat.le_of_ble_eq_true rfl⟩ (fun r u2 H locs hq hM hS => ?_)
              obtain ⟨rfl, hu⟩ := hq
              rw [hu] at hM
              refine n_iadd hx hb dX3_joins_45 ?_
              refine lv_aload_n hx hb dX3_joins_46 rfl (lh_at hl rfl) ?_
              refine m_getI hF hE hM 4 (by decide) q1318 rfl (by exact hRu.cap.1) dX3_joins_47 ?_
              refine n_icmp_gt (tgt := 133) hx hb dX3_joins_50 (by decide) (by show lAll ν i + lAll ν j < _; omega) (by have := hRu.cap.2; omega) (fun c3 => ?_) (fun c3 => ?_)
              · have hno : stepJ ν t i j = t := by
                  unfold stepJ
                  rw [if_neg]
                  exact fun z => absurd z.1 (by show ¬ linesN ν i (vC ν 4) + linesN ν j (vC ν 4) ≤ _; omega)
                exact goOn _ _ _ _ hG hM hS (lh_sub hl _ ⟨rfl, xl_v (by rw [hno]), xl_v (by rw [hno]), xl_v (by rw [hno]), rfl, rfl, trivial⟩)
              · have hcap9 := hRu.cap.2.2
                have hsum : lAll ν i + lAll ν j ≤ vC ν 3 := Nat.not_lt.mp c3
                have oA := pAll_ok hV hW hi
                have oB := pAll_ok hV hW hk
                have oU := pAll_or hV (a := i) (b := j) (by omega)
                refine lv_aload_n hx hb dX3_joins_53 rfl (lh_at hl rfl) ?_
                refine lv_aload_n hx hb dX3_joins_54 rfl (lh_at hl rfl) ?_
                refine lv_iload hx hb dX3_joins_55 (lh_at hl rfl) ?_
                refine m_calli (As := [.int (nI i)]) hF hE hM hS hl (mk_productsOf l g A m0 ad u ν hRu i (by omega)) q1492 q1494 qs32 q1495 ⟨rfl, by decide +kernel, by decide +kernel, by show _ = some 1; decide +kernel⟩ rfl rfl ⟨Nat.le_of_ble_eq_true rfl, Nat.le_of_ble_eq_true rfl⟩ rfl (Nat.le_of_ble_eq_true rfl) dX3_joins_57 ⟨Nat.le_of_ble_eq_true rfl, Nat.le_of_ble_eq_true rfl⟩ (fun r u2 H locs hq hM hS => ?_)
                obtain ⟨rfl, hu⟩ := hq
                rw [hu] at hM
                refine m_calli (As := [.int (nI (pAll ν i))]) hF hE hM hS hl (mk_length l g A m0 ad u ν _ hRu oA) q1459 q1461 qs26 q1462 ⟨rfl, by decide +kernel, by decide +kernel, by show _ = some 1; decide +kernel⟩ rfl rfl ⟨Nat.le_of_ble_eq_true rfl, Nat.le_of_ble_eq_true rfl⟩ rfl (Nat.le_of_ble_eq_true rfl) dX3_joins_60 ⟨Nat.le_of_ble_eq_true rfl, Nat.le_of_ble_eq_true rfl⟩ (fun r u3 H locs hq hM hS => ?_)
                obtain ⟨rfl, hG3, -⟩ := hq
                have hG := hG.tr hG3
                have hRu := hG.R hR
                refine lv_aload_n hx hb dX3_joins_63 rfl (lh_at hl rfl) ?_
                refine lv_aload_n hx hb dX3_joins_64 rfl (lh_at hl rfl) ?_
                refine lv_iload hx hb dX3_joins_65 (lh_at hl rfl) ?_
                refine m_calli (As := [.int (nI j)]) hF hE hM hS hl (mk_productsOf l g A m0 ad u3 ν hRu j (by omega)) q1492 q1494 qs32 q1495 ⟨rfl, by decide +kernel, by decide +kernel, by show _ = some 1; decide +kernel⟩ rfl rfl ⟨Nat.le_of_ble_eq_true rfl, Nat.le_of_ble_eq_true rfl⟩ rfl (Nat.le_of_ble_eq_true rfl) dX3_joins_67 ⟨Nat.le_of_ble_eq_true rfl, Nat.le_of_ble_eq_true rfl⟩ (fun r u2 H locs hq hM hS => ?_)
                obtain ⟨rfl, hu⟩ := hq
                rw [hu] at hM
                refine m_calli (As := [.int (nI (pAll ν j))]) hF hE hM hS hl (mk_length l g A m0 ad u3 ν _ hRu oB) q1459 q1461 qs26 q1462 ⟨rfl, by decide +kernel, by decide +kernel, by show _ = some 1; decide +kernel⟩ rfl rfl ⟨Nat.le_of_ble_eq_true rfl, Nat.le_of_ble_eq_true rfl⟩ rfl (Nat.le_of_ble_eq_true rfl) dX3_joins_70 ⟨Nat.le_of_ble_eq_true rfl, Nat.le_of_ble_eq_true rfl⟩ (fun r u4 H locs hq hM hS => ?_)
                obtain ⟨rfl, hG4, -⟩ := hq
                have hG := hG.tr hG4
                have hRu := hG.R hR
                refine n_iadd hx hb dX3_joins_73 ?_
                refine lv_aload_n hx hb dX3_joins_74 rfl (lh_at hl rfl) ?_
                refine lv_aload_n hx hb dX3_joins_75 rfl (lh_at hl rfl) ?_
                refine lv_iload hx hb dX3_joins_76 (lh_at hl rfl) ?_
                refine m_calli (As := [.int (nI i)]) hF hE hM hS hl (mk_productsOf l g A m0 ad u4 ν hRu i (by omega)) q1492 q1494 qs32 q1495 ⟨rfl, by decide +kernel, by decide +kernel, by show _ = some 1; decide +kernel⟩ rfl rfl ⟨Nat.le_of_ble_eq_true rfl, Nat.le_of_ble_eq_true rfl⟩ rfl (Nat.le_of_ble_eq_true rfl) dX3_joins_78 ⟨Nat.le_of_ble_eq_true rfl, Nat.le_of_ble_eq_true rfl⟩ (fun r u2 H locs hq hM hS => ?_)
                obtain ⟨rfl, hu⟩ := hq
                rw [hu] at hM
                refine lv_aload_n hx hb dX3_joins_81 rfl (lh_at hl rfl) ?_
                refine lv_iload hx hb dX3_joins_82 (lh_at hl rfl) ?_
                refine m_calli (As := [.int (nI j)]) hF hE hM hS hl (mk_productsOf l g A m0 ad u4 ν hRu j (by omega)) q1492 q1494 qs32 q1495 ⟨rfl, by decide +kernel, by decide +kernel, by show _ = some 1; decide +kernel⟩ rfl rfl ⟨Nat.le_of_ble_eq_true rfl, Nat.le_of_ble_eq_true rfl⟩ rfl (Nat.le_of_ble_eq_true rfl) dX3_joins_84 ⟨Nat.le_of_ble_eq_true rfl, Nat.le_of_ble_eq_true rfl⟩ (fun r u2 H locs hq hM hS => ?_)
                obtain ⟨rfl, hu⟩ := hq
                rw [hu] at hM
                refine n_ior hx hb dX3_joins_87 ?_
                refine m_calli (As := [.int (nI (pAll ν i ||| pAll ν j))]) hF hE hM hS hl (mk_length l g A m0 ad u4 ν _ hRu oU) q1459 q1461 qs26 q1462 ⟨rfl, by decide +kernel, by decide +kernel, by show _ = some 1; decide +kernel⟩ rfl rfl ⟨Nat.le_of_ble_eq_true rfl, Nat.le_of_ble_eq_true rfl⟩ rfl (Nat.le_of_ble_eq_true rfl) dX3_joins_88 ⟨Nat.le_of_ble_eq_true rfl, Nat.le_of_ble_eq_true rfl⟩ (fun r u5 H locs hq hM hS => ?_)
                obtain ⟨rfl, hG5, -⟩ := hq
                have hG := hG.tr hG5
                have lA := lenN_le hV oA
                have lB := lenN_le hV oB
                have lU := lenN_le hV oU
                have ht1 := hok.1
                have hcond : ∀ X Y Z : Nat, X = lenN ν (pAll ν i) → Y = lenN ν (pAll ν j) → Z = lenN ν (pAll ν i ||| pAll ν j) → stepJ ν t i j = if X + Y ≤ Z + t.1 then t else (X + Y - Z, i + 1, j + 1) := by
                  intro X Y Z e1 e2 e3
                  unfold stepJ
                  rw [← e1, ← e2, ← e3]
                  by_cases q : X + Y ≤ Z + t.1
                  · rw [if_pos q, if_neg (by omega)]
                  · rw [if_neg q, if_pos ⟨hsum, by omega⟩]
                have hcond := hcond _ _ _ rfl rfl rfl
                generalize lenN ν (pAll ν i) = X at hcond lA ⊢
                generalize lenN ν (pAll ν j) = Y at hcond lB ⊢
                generalize lenN ν (pAll ν i ||| pAll ν j) = Z at hcond lU ⊢
                refine lv_isub hx hb dX3_joins_91 ?_
                refine x_istore hx hb dX3_joins_92 hl (by decide) (fun ls hl => ?_)
                refine lv_iload hx hb dX3_joins_94 (lh_at hl rfl) ?_
                refine lv_iload_n hx hb dX3_joins_96 rfl (lh_at hl rfl) ?_
                by_cases hc : X + Y ≤ Z + t.1
                · have hcr := (nI_diff_le (x := X + Y) (z := Z) (w := t.1) (by omega) (by omega) (by omega)).mpr hc
                  rw [if_pos hc] at hcond
                  refine lv_icmp_le (tgt := 105) hx hb dX3_joins_97 (by decide) (fun d1 => ?_) (fun d1 => ?_)
                  · refine lv_iload_n hx hb dX3_joins_105 rfl (lh_at hl rfl) ?_
                    refine x_istore_n hx hb dX3_joins_106 rfl hl (by decide) (fun ls hl => ?_)
                    refine lv_iload hx hb dX3_joins_107 (lh_at hl rfl) ?_
                    refine lv_iload_n hx hb dX3_joins_109 rfl (lh_at hl rfl) ?_
                    refine lv_icmp_le (tgt := 118) hx hb dX3_joins_110 (by decide) (fun d2 => ?_) (fun d2 => ?_)
                    · refine lv_iload_n hx hb dX3_joins_118 rfl (lh_at hl rfl) ?_
                      refine x_istore_n hx hb dX3_joins_119 rfl hl (by decide) (fun ls hl => ?_)
                      refine lv_iload hx hb dX3_joins_120 (lh_at hl rfl) ?_
                      refine lv_iload_n hx hb dX3_joins_122 rfl (lh_at hl rfl) ?_
                      refine lv_icmp_le (tgt := 131) hx hb dX3_joins_123 (by decide) (fun d3 => ?_) (fun d3 => ?_)
                      · refine lv_iload_n hx hb dX3_joins_131 rfl (lh_at hl rfl) ?_
                        refine x_istore_n hx hb dX3_joins_132 rfl hl (by decide) (fun ls hl => ?_)
                        exact goOn _ _ _ _ hG hM hS (lh_sub hl _ ⟨rfl, xl_v (by rw [hcond]), xl_v (by rw [hcond]), xl_v (by rw [hcond]), rfl, rfl, trivial⟩)
                      · exact absurd hcr d3
                    · exact absurd hcr d2
                  · exact absurd hcr d1
                · have hcr : ¬ nI (X + Y) - nI Z ≤ nI t.1 := fun z => hc ((nI_diff_le (by omega) (by omega) (by omega)).mp z)
                  rw [if_neg hc] at hcond
                  refine lv_icmp_le (tgt := 105) hx hb dX3_joins_97 (by decide) (fun d1 => ?_) (fun d1 => ?_)
                  · exact absurd d1 hcr
                  · refine lv_iload hx hb dX3_joins_100 (lh_at hl rfl) ?_
                    refine lv_goto (tgt := 106) hx hb dX3_joins_102 (by decide) ?_
                    refine x_istore_n hx hb dX3_joins_106 rfl hl (by decide) (fun ls hl => ?_)
                    refine lv_iload hx hb dX3_joins_107 (lh_at hl rfl) ?_
                    refine lv_iload_n hx hb dX3_joins_109 rfl (lh_at hl rfl) ?_
                    refine lv_icmp_le (tgt := 118) hx hb dX3_joins_110 (by decide) (fun d2 => ?_) (fun d2 => ?_)
                    · exact absurd d2 hcr
                    · refine lv_iload hx hb dX3_joins_113 (lh_at hl rfl) ?_
                      refine lv_goto (tgt := 119) hx hb dX3_joins_115 (by decide) ?_
                      refine x_istore_n hx hb dX3_joins_119 rfl hl (by decide) (fun ls hl => ?_)
                      refine lv_iload hx hb dX3_joins_120 (lh_at hl rfl) ?_
                      refine lv_iload_n hx hb dX3_joins_122 rfl (lh_at hl rfl) ?_
                      refine lv_icmp_le (tgt := 131) hx hb dX3_joins_123 (by decide) (fun d3 => ?_) (fun d3 => ?_)
                      · exact absurd d3 hcr
                      · refine lv_iload hx hb dX3_joins_126 (lh_at hl rfl) ?_
                        refine x_top (pk_sub (by omega)) ?_
                        refine lv_goto (tgt := 132) hx hb dX3_joins_128 (by decide) ?_
                        refine x_istore_n hx hb dX3_joins_132 rfl hl (by decide) (fun ls hl => ?_)
                        exact goOn _ _ _ _ hG hM hS (lh_sub hl _ ⟨rfl, xl_v (by rw [hcond]), xl_v (by rw [hcond, eB_s]), xl_v (by rw [hcond, eB_s]), rfl, rfl, trivial⟩)
        refine lv_iload hx hb dX3_joins_18 (lh_at hl rfl) ?_
        refine n_const hx hb 1 dX3_joins_20 (by decide +kernel) ?_
        refine n_iadd hx hb dX3_joins_21 ?_
        refine x_istore hx hb dX3_joins_22 hl (by decide) (fun ls hl => ?_)
        exact inner (vC ν 5 + 1) 0 (by omega) (by omega) _ _ _ _ hG hM hS (lh_sub hl _ ⟨rfl, rfl, rfl, rfl, rfl, rfl, trivial⟩)
  refine n_const hx hb 0 dX3_joins_0 (by decide +kernel) ?_
  refine x_istore_n hx hb dX3_joins_1 rfl hl (by decide) (fun ls hl => ?_)
  refine lv_iconst (v := -1) hx hb dX3_joins_2 (by decide +kernel) ?_
  refine x_istore_n hx hb dX3_joins_3 rfl hl (by decide) (fun ls hl => ?_)
  refine lv_iconst (v := -1) hx hb dX3_joins_4 (by decide +kernel) ?_
  refine x_istore_n hx hb dX3_joins_5 rfl hl (by decide) (fun ls hl => ?_)
  refine n_const hx hb 0 dX3_joins_6 (by decide +kernel) ?_
  refine x_istore hx hb dX3_joins_7 hl (by decide) (fun ls hl => ?_)
  exact pairs (vC ν 5 + 1) 0 (by omega) (by omega) _ _ _ _ mAg.rf hM hS (lh_sub hl _ ⟨rfl, rfl, rfl, rfl, rfl, trivial⟩)
