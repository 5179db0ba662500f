/-! THE REFERENCE: a route's length, and the route itself -/
set_option maxRecDepth 100000
set_option maxHeartbeats 4000000 in
theorem mk_length (l : Launch) (g : xg) (A : Nat → Prop) (m0 : Nat) (ad : Nat → Nat) (μ : mS) (ν : nS) (S : Nat) (hR : mR ν μ) (hO : okSet ν S) :
    Met l yX3_length (ws_ yX3_length cX3_length 2 (some .int)) (xrm 4 0 0) (mPc g A m0 ad μ [.int (nI S)]) (mQi g A m0 ad (fun r u => r = nI (lenN ν S) ∧ mAg μ u ∧ u.1 16 = nI (cntN ν S))) 0 0 A := by
  refine x_start rfl (Nat.le_of_ble_eq_true rfl) ?_
  intro p e s m below meth c hx hb hr hlk hml hown hts hnm hE hM hS ls hl
  have hF : xFix p m c cX3_length 2 s _ RX3 := ⟨hx, hb, hml, hown, hts⟩
  generalize hargs : List.toArray _ = args at hts hF ⊢
  generalize hQ : MQ below _ _ s _ _ A = Q
  have hD := hO.2.2
  have h512 := pow9 hD
  have hpos0 := Nat.two_pow_pos (cntN ν S)
  refine lv_aload_n hx hb dX3_length_0 rfl (lh_at hl rfl) ?_
  refine lv_iload_n hx hb dX3_length_1 rfl (lh_at hl rfl) ?_
  refine m_callv (As := [.int (nI S)]) hF hE hM hS hl (mk_layRoute l g A m0 ad μ ν S hR hO) q1463 q1465 qs27 q1466 ⟨rfl, by decide +kernel, by decide +kernel, by show _ = some 1; decide +kernel⟩ rfl rfl ⟨Nat.le_of_ble_eq_true rfl, Nat.le_of_ble_eq_true rfl⟩ rfl (Nat.le_of_ble_eq_true rfl) dX3_length_2 ⟨Nat.le_of_ble_eq_true rfl, Nat.le_of_ble_eq_true rfl⟩ (fun u H locs hq hM hS => ?_)
  obtain ⟨hG, hT, hon⟩ := hq
  refine lv_aload_n hx hb dX3_length_5 rfl (lh_at hl rfl) ?_
  refine m_getA hF hE hM 18 (by decide) q1332 rfl dX3_length_6 ?_
  refine n_bipush hx hb 10 dX3_length_9 (by decide +kernel) ?_
  refine n_const hx hb 1 dX3_length_11 (by decide +kernel) ?_
  refine lv_aload_n hx hb dX3_length_12 rfl (lh_at hl rfl) ?_
  refine m_getI hF hE hM 16 (by decide) q1330 rfl (by exact hT.1) dX3_length_13 ?_
  refine n_ishl hx hb (by omega) (by exact pw32 (by omega)) dX3_length_16 ?_
  rw [shl1]
  refine n_const hx hb 1 dX3_length_17 (by decide +kernel) ?_
  refine n_isub hx hb (by omega) dX3_length_18 ?_
  refine n_imul hx hb dX3_length_19 ?_
  refine n_bipush hx hb 9 dX3_length_20 (by decide +kernel) ?_
  refine n_iadd hx hb dX3_length_22 ?_
  refine m_ald hF hE hM (by decide) (by show _ < 5120; omega) (by exact hon _ 9 (Or.inl (by omega)) (Or.inl rfl)) dX3_length_23 ?_
  exact hQ ▸ x_iret hx hb hr hlk hS _ ⟨rfl, hG, hT.1⟩ hM dX3_length_24
def oE (o : Option Nat) : Int32 := match o with
  | none => -1
  | some k => nI k
theorem eB_pred (n : Nat) : nI n - nI 1 = eB n := by
  unfold eB
  by_cases h : n = 0
  · rw [if_pos h, h]
    decide +kernel
  · rw [if_neg h, pk_sub (by omega)]
theorem eB_step (n : Nat) : nI n + Int32.ofInt (-1) = eB n := by
  unfold eB
  by_cases h : n = 0
  · rw [if_pos h, h]
    decide +kernel
  · rw [if_neg h]
    obtain ⟨k, rfl⟩ : ∃ k, n = k + 1 := ⟨n - 1, by omega⟩
    exact pk_m1 k
theorem eB_lt0 {n : Nat} (hn : n < 2 ^ 31) : eB n < 0 ↔ n = 0 := by
  unfold eB
  by_cases h : n = 0
  · rw [if_pos h]
    exact ⟨fun _ => h, fun _ => by decide⟩
  · rw [if_neg h]
    exact ⟨fun q => absurd q (nI_pos (by omega)), fun q => absurd q h⟩
theorem eB_s (n : Nat) : eB (n + 1) = nI n := by simp [eB]
set_option maxHeartbeats 8000000 in
theorem mk_layPath (l : Launch) (g : xg) (A : Nat → Prop) (m0 : Nat) (ad : Nat → Nat) (μ : mS) (ν : nS) (S : Nat) (hR : mR ν μ) (hO : okSet ν S) :
    Met l yX3_layPath (ws_ yX3_layPath cX3_layPath 8 none) (xrm 4 0 0) (mPc g A m0 ad μ [.int (nI S)]) (mQv g A m0 ad (fun u => mAg μ u ∧ mRt ν S u ∧ ∀ n, n < cntN ν S → u.2.1 19 n = nI (pathN ν S (n + 1)).2)) 0 0 A := by
  refine x_start rfl (Nat.le_of_ble_eq_true rfl) ?_
  intro p e s m below meth c hx hb hr hlk hml hown hts hnm hE hM hS ls hl
  have hF : xFix p m c cX3_layPath 8 s _ RX3 := ⟨hx, hb, hml, hown, hts⟩
  generalize hargs : List.toArray _ = args at hts hF ⊢
  generalize hQ : MQ below _ _ s _ _ A = Q
  have hD := hO.2.2
  have h512 := pow9 hD
  have hpos0 := Nat.two_pow_pos (cntN ν S)
  have loop : ∀ (n i : Nat), i ≤ cntN ν S → cntN ν S < i + n → ∀ (u : mS) (H : Heap) (locs : List Loc) (ls : Array Slot), mAg μ u → mRt ν S u → onOk ν S u (2 ^ cntN ν S) 0 → (∀ n, n < i → u.2.1 19 n = nI (pathN ν S (n + 1)).2) → mW g A m0 ad u H → va_S A s.heap H locs → lh ls 8 (xl [(0, .ref m0), (2, .int (nI (pathN ν S i).1)), (3, .int (nI (pathN ν S i).2)), (4, .int (nI i))]) → W p l e (xrm 4 0 0) s m args below meth c H locs 0 0 Q (F0 m 20 ls []) := by
    intro n
    induction n with
    | zero => intro i h1 h2; exact absurd h2 (by omega)
    | succ n ih =>
      intro i h1 h2 u H locs ls hG hT hon hpa hM hS hl
      have hRu := hG.R hR
      refine lv_iload hx hb dX3_layPath_20 (lh_at hl rfl) ?_
      refine lv_aload_n hx hb dX3_layPath_22 rfl (lh_at hl rfl) ?_
      refine m_getI hF hE hM 16 (by decide) q1330 rfl (by exact hT.1) dX3_layPath_23 ?_
      refine n_icmp_ge (tgt := 146) hx hb dX3_layPath_26 (by decide) (by omega) (by omega) (fun c1 => ?_) (fun c1 => ?_)
      · have e : i = cntN ν S := by omega
        subst e
        exact hQ ▸ x_vret hx hb hr hlk hS _ ⟨hG, hT, hpa⟩ hM dX3_layPath_146
      · have hi : i < cntN ν S := by omega
        obtain ⟨hp1, hp2, hp3⟩ := pathN_ok hR.1 hO i (by omega)
        have hpl := pathN_last hR.1 hO i (by omega)
        have hp0 := pathN_left hR.1 hO hi
        obtain ⟨hn1, hn2, hn3, -⟩ := nextN_ok hR.1 hO hp1 hp2 hp0
        have hps : pathN ν S (i + 1) = ((pathN ν S i).1 - 2 ^ nextN ν S (pathN ν S i).1 (pathN ν S i).2, nextN ν S (pathN ν S i).1 (pathN ν S i).2) := rfl
        generalize hL : (pathN ν S i).1 = L at hl hp1 hp2 hp3 hp0 hn1 hn2 hn3 hps hpl
        generalize hla : (pathN ν S i).2 = la at hl hp2 hp3 hn1 hn2 hn3 hps hpl
        have hla9 : la ≤ 9 := by omega
        have scan : ∀ (j : Nat), j ≤ cntN ν S → ∀ (H : Heap) (locs : List Loc) (ls : Array Slot), mW g A m0 ad u H → va_S A s.heap H locs → lh ls 8 (xl [(0, .ref m0), (2, .int (nI L)), (3, .int (nI la)), (4, .int (nI i)), (5, .int (oE (scanF (isNext ν S L la) (cntN ν S) (cntN ν S - j)))), (6, .int (eB j))]) → W p l e (xrm 4 0 0) s m args below meth c H locs 0 0 Q (F0 m 40 ls []) := by
          intro j
          induction j with
          | zero =>
            intro h3 H locs ls hM hS hl
            refine lv_iload hx hb dX3_layPath_40 (lh_at hl rfl) ?_
            refine lv_if_lt (tgt := 121) hx hb dX3_layPath_42 (by decide) (fun c2 => ?_) (fun c2 => ?_)
            · rw [Nat.sub_zero, hn1] at hl
              refine lv_aload_n hx hb dX3_layPath_121 rfl (lh_at hl rfl) ?_
              refine m_getA hF hE hM 19 (by decide) q1333 rfl dX3_layPath_122 ?_
              refine lv_iload hx hb dX3_layPath_125 (lh_at hl rfl) ?_
              refine lv_iload hx hb dX3_layPath_127 (lh_at hl rfl) ?_
              refine m_ast hF hE hM hS (by decide) (by show _ < 9; omega) dX3_layPath_129 (fun H locs hM hS => ?_)
              refine lv_iload_n hx hb dX3_layPath_130 rfl (lh_at hl rfl) ?_
              refine n_const hx hb 1 dX3_layPath_131 (by decide +kernel) ?_
              refine lv_iload hx hb dX3_layPath_132 (lh_at hl rfl) ?_
              refine n_ishl hx hb (by omega) (by exact pw32 (by omega)) dX3_layPath_134 ?_
              rw [shl1]
              have hbl : 2 ^ nextN ν S L la ≤ L := by
                unfold isNext at hn3
                simp only [Bool.and_eq_true] at hn3
                exact bit_le hn3.1
              refine n_isub hx hb (by omega) dX3_layPath_135 ?_
              refine x_istore_n hx hb dX3_layPath_136 rfl hl (by decide) (fun ls hl => ?_)
              refine lv_iload hx hb dX3_layPath_137 (lh_at hl rfl) ?_
              refine x_istore_n hx hb dX3_layPath_139 rfl hl (by decide) (fun ls hl => ?_)
              refine n_iinc hx hb 1 dX3_layPath_140 hl rfl (by decide +kernel) (by decide) (fun ls hl => ?_)
              refine lv_goto (tgt := 20) hx hb dX3_layPath_143 (by decide) ?_
              refine ih (i + 1) (by omega) (by omega) (m_setA u 19 (upd (u.2.1 19) i (nI (nextN ν S L la)))) _ _ _ (hG.a (by decide)) hT hon ?_ hM hS (lh_sub hl _ ⟨rfl, xl_v (by rw [hps]), xl_v (by rw [hps]; rfl), rfl, trivial⟩)
              intro x hx2
              show upd (u.2.1 19) i _ x = _
              by_cases e : x = i
              · subst e
                rw [pk_us, hps]
              · rw [pk_un e]
                exact hpa x (by omega)
            · exact absurd ((eB_lt0 (by decide)).mpr rfl) c2
          | succ j ihj =>
            intro h3 H locs ls hM hS hl
            have hj : j < cntN ν S := by omega
            have hst := hT.stp hRu hO hj
            have hsc : scanF (isNext ν S L la) (cntN ν S) (cntN ν S - j) = if isNext ν S L la j = true then some j else scanF (isNext ν S L la) (cntN ν S) (cntN ν S - (j + 1)) := by
              rw [show cntN ν S - j = cntN ν S - (j + 1) + 1 by omega]
              rw [scanF, show cntN ν S - 1 - (cntN ν S - (j + 1)) = j by omega]
            generalize hs0 : scanF (isNext ν S L la) (cntN ν S) (cntN ν S - (j + 1)) = s0 at hl hsc
            rw [eB_s] at hl
            refine lv_iload hx hb dX3_layPath_40 (lh_at hl rfl) ?_
            refine lv_if_lt (tgt := 121) hx hb dX3_layPath_42 (by decide) (fun c2 => ?_) (fun c2 => ?_)
            · exact absurd c2 (nI_pos (by omega))
            · have J : ∀ (H : Heap) (locs : List Loc) (ls : Array Slot) (bv : Nat), bv = (if isNext ν S L la j = true then 1 else 0) → mW g A m0 ad u H → va_S A s.heap H locs → lh ls 8 (xl [(0, .ref m0), (2, .int (nI L)), (3, .int (nI la)), (4, .int (nI i)), (5, .int (oE s0)), (6, .int (nI j))]) → W p l e (xrm 4 0 0) s m args below meth c H locs 0 0 Q (F0 m 99 ls [.int (nI bv)]) := by
                intro H locs ls bv hbv hM hS hl
                refine x_istore hx hb dX3_layPath_99 hl (by decide) (fun ls hl => ?_)
                refine lv_iload hx hb dX3_layPath_101 (lh_at hl rfl) ?_
                refine n_if_eq (tgt := 111) hx hb dX3_layPath_103 (by decide) (by subst hbv; split <;> decide) (fun c5 => ?_) (fun c5 => ?_)
                · have hno : ¬ isNext ν S L la j = true := by
                    intro q
                    rw [if_pos q] at hbv
                    omega
                  refine lv_iload hx hb dX3_layPath_111 (lh_at hl rfl) ?_
                  refine x_istore hx hb dX3_layPath_113 hl (by decide) (fun ls hl => ?_)
                  refine x_iinc hx hb dX3_layPath_115 hl rfl (by exact eB_step j) (by decide) (fun ls hl => ?_)
                  refine lv_goto (tgt := 40) hx hb dX3_layPath_118 (by decide) ?_
                  exact ihj (by omega) _ _ _ hM hS (lh_sub hl _ ⟨rfl, rfl, rfl, rfl, xl_v (by rw [hsc, if_neg hno]), rfl, trivial⟩)
                · have hyes : isNext ν S L la j = true := by
                    apply Classical.byContradiction
                    intro q
                    rw [if_neg q] at hbv
                    exact c5 hbv
                  refine lv_iload hx hb dX3_layPath_106 (lh_at hl rfl) ?_
                  refine lv_goto (tgt := 113) hx hb dX3_layPath_108 (by decide) ?_
                  refine x_istore hx hb dX3_layPath_113 hl (by decide) (fun ls hl => ?_)
                  refine x_iinc hx hb dX3_layPath_115 hl rfl (by exact eB_step j) (by decide) (fun ls hl => ?_)
                  refine lv_goto (tgt := 40) hx hb dX3_layPath_118 (by decide) ?_
                  exact ihj (by omega) _ _ _ hM hS (lh_sub hl _ ⟨rfl, rfl, rfl, rfl, xl_v (by rw [hsc, if_pos hyes]; rfl), rfl, trivial⟩)
              refine lv_iload_n hx hb dX3_layPath_45 rfl (lh_at hl rfl) ?_
              refine lv_iload hx hb dX3_layPath_46 (lh_at hl rfl) ?_
              refine n_ishr hx hb (by omega) (by omega) dX3_layPath_48 ?_
              refine n_const hx hb 1 dX3_layPath_49 (by decide +kernel) ?_
              refine n_iand hx hb dX3_layPath_50 ?_
              refine n_const hx hb 1 dX3_layPath_51 (by decide +kernel) ?_
              refine n_icmp_ne (tgt := 98) hx hb dX3_layPath_52 (by decide) (by have := and1_lt L j; omega) (by omega) (fun c3 => ?_) (fun c3 => ?_)
              · have hb0 : L.testBit j = false := by
                  cases hq : L.testBit j with
                  | true => exact absurd (bit_and.mpr hq) c3
                  | false => rfl
                refine n_const hx hb 0 dX3_layPath_98 (by decide +kernel) ?_
                exact J _ _ _ 0 (by simp [isNext, hb0]) hM hS (lh_sub hl _ ⟨rfl, rfl, rfl, rfl, rfl, rfl, trivial⟩)
              · have hb1 : L.testBit j = true := bit_and.mp c3
                have hbl := bit_le hb1
                have hpj := Nat.two_pow_pos j
                refine lv_aload_n hx hb dX3_layPath_55 rfl (lh_at hl rfl) ?_
                refine lv_iload_n hx hb dX3_layPath_56 rfl (lh_at hl rfl) ?_
                refine lv_iload hx hb dX3_layPath_57 (lh_at hl rfl) ?_
                refine m_calli (As := [.int (nI la), .int (nI j)]) hF hE hM hS hl (mk_step l g A m0 ad u ν S hRu hO hT la j hp2 (Or.inr hj)) q1471 q1473 qs29 q1474 ⟨rfl, by decide +kernel, by decide +kernel, by show _ = some 2; decide +kernel⟩ rfl rfl ⟨Nat.le_of_ble_eq_true rfl, Nat.le_of_ble_eq_true rfl⟩ rfl (Nat.le_of_ble_eq_true rfl) dX3_layPath_59 ⟨Nat.le_of_ble_eq_true rfl, Nat.le_of_ble_eq_true rfl⟩ (fun r u2 H locs hq hM hS => ?_)
                obtain ⟨rfl, hu⟩ := hq
                rw [hu] at hM
                refine lv_aload_n hx hb dX3_layPath_62 rfl (lh_at hl rfl) ?_
                refine m_getA hF hE hM 18 (by decide) q1332 rfl dX3_layPath_63 ?_
                refine n_bipush hx hb 10 dX3_layPath_66 (by decide +kernel) ?_
                refine lv_iload_n hx hb dX3_layPath_68 rfl (lh_at hl rfl) ?_
                refine n_const hx hb 1 dX3_layPath_69 (by decide +kernel) ?_
                refine lv_iload hx hb dX3_layPath_70 (lh_at hl rfl) ?_
                refine n_ishl hx hb (by omega) (by exact pw32 (by omega)) dX3_layPath_72 ?_
                rw [shl1]
                refine n_isub hx hb (by omega) dX3_layPath_73 ?_
                refine n_imul hx hb dX3_layPath_74 ?_
                refine lv_iload hx hb dX3_layPath_75 (lh_at hl rfl) ?_
                refine n_iadd hx hb dX3_layPath_77 ?_
                refine m_ald hF hE hM (by decide) (by show _ < 5120; omega) (by exact hon _ j (Or.inl (by omega)) (Or.inr ⟨hj, sub_bit hb1⟩)) dX3_layPath_78 ?_
                refine n_iadd hx hb dX3_layPath_79 ?_
                refine lv_aload_n hx hb dX3_layPath_80 rfl (lh_at hl rfl) ?_
                refine m_getA hF hE hM 18 (by decide) q1332 rfl dX3_layPath_81 ?_
                refine n_bipush hx hb 10 dX3_layPath_84 (by decide +kernel) ?_
                refine lv_iload_n hx hb dX3_layPath_86 rfl (lh_at hl rfl) ?_
                refine n_imul hx hb dX3_layPath_87 ?_
                refine lv_iload_n hx hb dX3_layPath_88 rfl (lh_at hl rfl) ?_
                refine n_iadd hx hb dX3_layPath_89 ?_
                refine m_ald hF hE hM (by decide) (by show _ < 5120; omega) (by exact hon _ la (Or.inl hp1) hpl) dX3_layPath_90 ?_
                have hs1 := stepN_le hR.1 hO hp2 (Or.inr hj)
                have hs2 := dN_small hR.1 hO _ (L - 2 ^ j) j (Nat.le_refl _) (sub_lt2 hp1) (Or.inr hj)
                have hs3 := dN_small hR.1 hO _ L la (Nat.le_refl _) hp1 hp2
                refine n_icmp_ne (tgt := 98) hx hb dX3_layPath_91 (by decide) (by omega) (by omega) (fun c4 => ?_) (fun c4 => ?_)
                · refine n_const hx hb 0 dX3_layPath_98 (by decide +kernel) ?_
                  exact J _ _ _ 0 (by simp [isNext, c4]) hM hS (lh_sub hl _ ⟨rfl, rfl, rfl, rfl, rfl, rfl, trivial⟩)
                · refine n_const hx hb 1 dX3_layPath_94 (by decide +kernel) ?_
                  refine lv_goto (tgt := 99) hx hb dX3_layPath_95 (by decide) ?_
                  exact J _ _ _ 1 (by simp [isNext, c4, hb1]) hM hS (lh_sub hl _ ⟨rfl, rfl, rfl, rfl, rfl, rfl, trivial⟩)
        refine lv_iconst (v := -1) hx hb dX3_layPath_29 (by decide +kernel) ?_
        refine x_istore hx hb dX3_layPath_30 hl (by decide) (fun ls hl => ?_)
        refine lv_aload_n hx hb dX3_layPath_32 rfl (lh_at hl rfl) ?_
        refine m_getI hF hE hM 16 (by decide) q1330 rfl (by exact hT.1) dX3_layPath_33 ?_
        refine n_const hx hb 1 dX3_layPath_36 (by decide +kernel) ?_
        refine lv_isub hx hb dX3_layPath_37 ?_
        refine x_top (eB_pred _) ?_
        refine x_istore hx hb dX3_layPath_38 hl (by decide) (fun ls hl => ?_)
        exact scan (cntN ν S) (Nat.le_refl _) _ _ _ hM hS (lh_sub hl _ ⟨rfl, rfl, rfl, rfl, xl_v (by rw [Nat.sub_self]; rfl), rfl, trivial⟩)
  refine lv_aload_n hx hb dX3_layPath_0 rfl (lh_at hl rfl) ?_
  refine lv_iload_n hx hb dX3_layPath_1 rfl (lh_at hl rfl) ?_
  refine m_callv (As := [.int (nI S)]) hF hE hM hS hl (mk_layRoute l g A m0 ad μ ν S hR hO) q1463 q1465 qs27 q1466 ⟨rfl, by decide +kernel, by decide +kernel, by show _ = some 1; decide +kernel⟩ rfl rfl ⟨Nat.le_of_ble_eq_true rfl, Nat.le_of_ble_eq_true rfl⟩ rfl (Nat.le_of_ble_eq_true rfl) dX3_layPath_2 ⟨Nat.le_of_ble_eq_true rfl, Nat.le_of_ble_eq_true rfl⟩ (fun u H locs hq hM hS => ?_)
  obtain ⟨hG, hT, hon⟩ := hq
  refine n_const hx hb 1 dX3_layPath_5 (by decide +kernel) ?_
  refine lv_aload_n hx hb dX3_layPath_6 rfl (lh_at hl rfl) ?_
  refine m_getI hF hE hM 16 (by decide) q1330 rfl (by exact hT.1) dX3_layPath_7 ?_
  refine n_ishl hx hb (by omega) (by exact pw32 (by omega)) dX3_layPath_10 ?_
  rw [shl1]
  refine n_const hx hb 1 dX3_layPath_11 (by decide +kernel) ?_
  refine n_isub hx hb (by omega) dX3_layPath_12 ?_
  refine x_istore_n hx hb dX3_layPath_13 rfl hl (by decide) (fun ls hl => ?_)
  refine n_bipush hx hb 9 dX3_layPath_14 (by decide +kernel) ?_
  refine x_istore_n hx hb dX3_layPath_16 rfl hl (by decide) (fun ls hl => ?_)
  refine n_const hx hb 0 dX3_layPath_17 (by decide +kernel) ?_
  refine x_istore hx hb dX3_layPath_18 hl (by decide) (fun ls hl => ?_)
  exact loop (cntN ν S + 1) 0 (by omega) (by omega) _ _ _ _ hG hT hon (fun n hn => absurd hn (Nat.not_lt_zero n)) hM hS (lh_sub hl _ ⟨rfl, rfl, rfl, rfl, trivial⟩)
