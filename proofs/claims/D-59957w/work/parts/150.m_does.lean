/-! THE REFERENCE: the methods that change the state (1) -/
set_option maxRecDepth 100000
theorem tn1 {b : Bool} (h : b.toNat ≠ 0) : b = true := by cases b <;> simp at h ⊢
theorem tn0 {b : Bool} (h : b.toNat = 0) : b = false := by cases b <;> simp at h ⊢
theorem mR_setP {ν : nS} {μ : mS} {i v : Nat} (hR : mR ν μ) (hi : i < 20) (hv : okPl (vC ν 0) (vC ν 1) v) : mR (vSetP ν i v) (m_setA μ 5 (upd (μ.2.1 5) i (eP v))) := by
  obtain ⟨⟨a1, a2, a3, a4, a5, a6, a7, a8⟩, r2, r3, r4, r5⟩ := hR
  have hv0 : v ≠ 0 := (hv.lt a1.2 a2.2).2.1
  refine ⟨⟨a1, a2, a3, a4, a5, a6, fun p hp => ?_, fun o ho => ?_⟩, r2, fun p hp => ?_, r4, r5⟩
  · show va_up ν.2.1 i v p = 0 ∨ okPl _ _ (va_up ν.2.1 i v p)
    by_cases e : p = i
    · subst e
      rw [va_up_s]
      exact Or.inr hv
    · rw [va_up_n e]
      exact a7 p hp
  · obtain ⟨b1, b2, b3, b4, b5⟩ := a8 o ho
    refine ⟨b1, b2, b3, b4, fun k hk => ?_⟩
    obtain ⟨c1, c2, c3, c4⟩ := b5 k hk
    refine ⟨c1, c2, c3, ?_⟩
    show va_up ν.2.1 i v (vPr ν o k) ≠ 0
    by_cases e : vPr ν o k = i
    · rw [e, va_up_s]
      exact hv0
    · rw [va_up_n e]
      exact c4
  · show upd (μ.2.1 5) i (eP v) p = eP (va_up ν.2.1 i v p)
    by_cases e : p = i
    · subst e
      rw [pk_us, va_up_s]
    · rw [pk_un e, va_up_n e]
      exact r3 p hp
set_option maxHeartbeats 4000000 in
theorem mk_put (l : Launch) (g : xg) (A : Nat → Prop) (m0 : Nat) (ad : Nat → Nat) (μ : mS) (ν : nS) (hR : mR ν μ) (v w z : Int32) :
    Met l yX3_put (ws_ yX3_put cX3_put 7 (some .int)) (xrm 9 0 0) (mPc g A m0 ad μ [.int v, .int w, .int z]) (mQi g A m0 ad (mOp (opPut ν v w z))) 0 0 A := by
  refine x_start rfl (Nat.le_of_ble_eq_true rfl) ?_
  intro p e s m below meth c hx hb hr hlk hml hown hts hnm hE hM hS ls hl
  have hF : xFix p m c cX3_put 7 s _ RX3 := ⟨hx, hb, hml, hown, hts⟩
  generalize hargs : List.toArray _ = args at hts hF ⊢
  generalize hQ : MQ below _ _ s _ _ A = Q
  refine lv_aload_n hx hb dX3_put_0 rfl (lh_at hl rfl) ?_
  refine n_const hx hb 0 dX3_put_1 (by decide +kernel) ?_
  refine m_putI hF hE hM hS 0 (by decide) q1314 rfl (by decide +kernel) rfl dX3_put_2 (fun H locs hM hS => ?_)
  refine lv_iload_n hx hb dX3_put_5 rfl (lh_at hl rfl) ?_
  have hR := mR_thrown (v := nI 0) hR
  have hA := hR.A
  have hP := hR.P
  generalize hμ : m_setI μ 0 (nI 0) = μ1 at hM hR hA hP
  have h0 : μ1.1 0 = nI 0 := by rw [← hμ]; rfl
  have bad : ∀ (H : Heap) (locs : List Loc) (ls : Array Slot), opPut ν v w z = (1, 0, ν) → mW g A m0 ad μ1 H → va_S A s.heap H locs → lh ls 7 (xl [(0, .ref m0)]) → W p l e (xrm 9 0 0) s m args below meth c H locs 0 0 Q (F0 m 38 ls []) := by
    intro H locs ls he hM hS hl
    refine lv_aload_n hx hb dX3_put_38 rfl (lh_at hl rfl) ?_
    refine n_const hx hb 1 dX3_put_39 (by decide +kernel) ?_
    refine m_calli (As := [.int (nI 1)]) hF hE hM hS hl (mk_fails l g A m0 ad _ (nI 1)) q1395 q1397 qs19 q1398 ⟨rfl, by decide +kernel, by decide +kernel, by show _ = some 1; decide +kernel⟩ rfl rfl ⟨Nat.le_of_ble_eq_true rfl, Nat.le_of_ble_eq_true rfl⟩ rfl (Nat.le_of_ble_eq_true rfl) dX3_put_40 ⟨Nat.le_of_ble_eq_true rfl, Nat.le_of_ble_eq_true rfl⟩ (fun r uf H locs hqf hM hS => ?_)
    obtain ⟨rfl, huf⟩ := hqf
    rw [huf] at hM
    exact hQ ▸ x_iret hx hb hr hlk hS _ ⟨by rw [he]; rfl, by rw [he], by rw [he]; exact hR⟩ hM dX3_put_43
  refine z_calli (P := mW g A m0 ad μ1) (As := [.int v]) hF hE hM hS hl (zk_isProduct l g A _ v) q1389 q1390 q44 q1391 ⟨by decide +kernel, by decide +kernel, by show _ = some 1; decide +kernel⟩ rfl rfl ⟨Nat.le_of_ble_eq_true rfl, Nat.le_of_ble_eq_true rfl⟩ rfl (Nat.le_of_ble_eq_true rfl) dX3_put_6 ⟨Nat.le_of_ble_eq_true rfl, Nat.le_of_ble_eq_true rfl⟩ (fun r H locs hq hM hS => ?_)
  cases hxr : xr v 20 with
  | none =>
    obtain rfl := isS0 hq hxr
    refine lv_if_eq (tgt := 38) hx hb dX3_put_9 (by decide) (fun d => ?_) (fun d => ?_)
    · exact bad _ _ _ (by simp [opPut, hxr]) hM hS (lh_sub hl _ ⟨rfl, trivial⟩)
    · exact absurd rfl d
  | some i =>
    obtain rfl := isS1 hq hxr
    obtain ⟨hi, rfl⟩ := xr_some (by decide) hxr
    refine lv_if_eq (tgt := 38) hx hb dX3_put_9 (by decide) (fun d => ?_) (fun d => ?_)
    · exact absurd d (by decide)
    · refine lv_iload_n hx hb dX3_put_12 rfl (lh_at hl rfl) ?_
      refine lv_iconst (v := 0) hx hb dX3_put_13 (by decide +kernel) ?_
      refine lv_aload_n hx hb dX3_put_14 rfl (lh_at hl rfl) ?_
      refine m_getI hF hE hM 1 (by decide) q1315 rfl (by exact hA.1) dX3_put_15 ?_
      refine lv_iconst (v := 1) hx hb dX3_put_18 (by decide +kernel) ?_
      refine lv_isub hx hb dX3_put_19 ?_
      refine z_calli (P := mW g A m0 ad μ1) (As := [.int w, .int 0, .int (nI (vC ν 0) - 1)]) hF hE hM hS hl (zk_in l g A _ w 0 (nI (vC ν 0) - 1)) q1392 q1393 q44 q1394 ⟨by decide +kernel, by decide +kernel, by show _ = some 3; decide +kernel⟩ rfl rfl ⟨Nat.le_of_ble_eq_true rfl, Nat.le_of_ble_eq_true rfl⟩ rfl (Nat.le_of_ble_eq_true rfl) dX3_put_20 ⟨Nat.le_of_ble_eq_true rfl, Nat.le_of_ble_eq_true rfl⟩ (fun r H locs hq hM hS => ?_)
      have hq := hq.trans (in_xr (by omega))
      cases hxw : xr w (vC ν 0) with
      | none =>
        obtain rfl := isS0 hq hxw
        refine lv_if_eq (tgt := 38) hx hb dX3_put_23 (by decide) (fun d2 => ?_) (fun d2 => ?_)
        · exact bad _ _ _ (by simp [opPut, hxr, hxw]) hM hS (lh_sub hl _ ⟨rfl, trivial⟩)
        · exact absurd rfl d2
      | some j =>
        obtain rfl := isS1 hq hxw
        obtain ⟨hj, rfl⟩ := xr_some (by omega) hxw
        refine lv_if_eq (tgt := 38) hx hb dX3_put_23 (by decide) (fun d2 => ?_) (fun d2 => ?_)
        · exact absurd d2 (by decide)
        · refine lv_iload_n hx hb dX3_put_26 rfl (lh_at hl rfl) ?_
          refine lv_iconst (v := 1) hx hb dX3_put_27 (by decide +kernel) ?_
          refine lv_aload_n hx hb dX3_put_28 rfl (lh_at hl rfl) ?_
          refine m_getI hF hE hM 2 (by decide) q1316 rfl (by exact hP.1) dX3_put_29 ?_
          refine z_calli (P := mW g A m0 ad μ1) (As := [.int z, .int 1, .int (nI (vC ν 1))]) hF hE hM hS hl (zk_in l g A _ z 1 (nI (vC ν 1))) q1392 q1393 q44 q1394 ⟨by decide +kernel, by decide +kernel, by show _ = some 3; decide +kernel⟩ rfl rfl ⟨Nat.le_of_ble_eq_true rfl, Nat.le_of_ble_eq_true rfl⟩ rfl (Nat.le_of_ble_eq_true rfl) dX3_put_32 ⟨Nat.le_of_ble_eq_true rfl, Nat.le_of_ble_eq_true rfl⟩ (fun r H locs hq hM hS => ?_)
          have hq := hq.trans (xr_pred (by omega))
          cases hxz : xr (z - 1) (vC ν 1) with
          | none =>
            obtain rfl := isS0 hq hxz
            refine lv_if_ne (tgt := 44) hx hb dX3_put_35 (by decide) (fun d3 => ?_) (fun d3 => ?_)
            · exact absurd rfl d3
            · exact bad _ _ _ (by simp [opPut, hxr, hxw, hxz]) hM hS (lh_sub hl _ ⟨rfl, trivial⟩)
          | some k =>
            obtain rfl := isS1 hq hxz
            obtain ⟨hk, rfl⟩ := xr_pred_some (by omega) hxz
            generalize hto : 100 * j + (k + 1) = to
            have hto9 : to < 600 := by omega
            have hB := hR.B
            have loop : ∀ (n o : Nat), o ≤ 20 → 20 < o + n → ∀ (H : Heap) (locs : List Loc) (ls : Array Slot), mW g A m0 ad μ1 H → va_S A s.heap H locs → lh ls 7 (xl [(0, .ref m0), (1, .int (nI i)), (4, .int (nI to)), (5, .int (nI (takenN ν i to o).toNat)), (6, .int (nI o))]) → W p l e (xrm 9 0 0) s m args below meth c H locs 0 0 Q (F0 m 58 ls []) := by
              intro n
              induction n with
              | zero => intro o h1 h2; exact absurd h2 (by omega)
              | succ n ih =>
                intro o h1 h2 H locs ls hM hS hl
                have htn : (takenN ν i to o).toNat < 2 ^ 31 := by cases takenN ν i to o <;> decide
                refine lv_iload hx hb dX3_put_58 (lh_at hl rfl) ?_
                refine n_bipush hx hb 20 dX3_put_60 (by decide +kernel) ?_
                refine n_icmp_ge (tgt := 101) hx hb dX3_put_62 (by decide) (by omega) (by omega) (fun c1 => ?_) (fun c1 => ?_)
                · have e : o = 20 := by omega
                  subst e
                  have taken : ∀ (H : Heap) (locs : List Loc) (ls : Array Slot), (takenN ν i to 20 = true ∨ 0 < vC ν 5) → mW g A m0 ad μ1 H → va_S A s.heap H locs → lh ls 7 (xl [(0, .ref m0)]) → W p l e (xrm 9 0 0) s m args below meth c H locs 0 0 Q (F0 m 113 ls []) := by
                    intro H locs ls he hM hS hl
                    refine lv_aload_n hx hb dX3_put_113 rfl (lh_at hl rfl) ?_
                    refine n_const hx hb 2 dX3_put_114 (by decide +kernel) ?_
                    refine m_calli (As := [.int (nI 2)]) hF hE hM hS hl (mk_fails l g A m0 ad _ (nI 2)) q1395 q1397 qs19 q1398 ⟨rfl, by decide +kernel, by decide +kernel, by show _ = some 1; decide +kernel⟩ rfl rfl ⟨Nat.le_of_ble_eq_true rfl, Nat.le_of_ble_eq_true rfl⟩ rfl (Nat.le_of_ble_eq_true rfl) dX3_put_115 ⟨Nat.le_of_ble_eq_true rfl, Nat.le_of_ble_eq_true rfl⟩ (fun r uf H locs hqf hM hS => ?_)
                    obtain ⟨rfl, huf⟩ := hqf
                    rw [huf] at hM
                    exact hQ ▸ x_iret hx hb hr hlk hS _ ⟨by simp [opPut, hxr, hxw, hxz, hto, he]; rfl, by simp [opPut, hxr, hxw, hxz, hto, he], by simp only [opPut, hxr, hxw, hxz, hto, if_pos he]; exact hR⟩ hM dX3_put_118
                  refine lv_iload hx hb dX3_put_101 (lh_at hl rfl) ?_
                  refine n_if_ne (tgt := 113) hx hb dX3_put_103 (by decide) (by omega) (fun c2 => ?_) (fun c2 => ?_)
                  · exact taken _ _ _ (Or.inl (tn1 c2)) hM hS (lh_sub hl _ ⟨rfl, trivial⟩)
                  · have hnt : ¬ takenN ν i to 20 = true := by
                      intro q
                      rw [q] at c2
                      exact absurd c2 (by decide)
                    refine lv_aload_n hx hb dX3_put_106 rfl (lh_at hl rfl) ?_
                    refine m_getI hF hE hM 13 (by decide) q1327 rfl (by exact hB.1) dX3_put_107 ?_
                    refine n_if_le (tgt := 119) hx hb dX3_put_110 (by decide) (by omega) (fun c3 => ?_) (fun c3 => ?_)
                    · have he : ¬ (takenN ν i to 20 = true ∨ 0 < vC ν 5) := fun z => z.elim hnt (by omega)
                      refine lv_aload_n hx hb dX3_put_119 rfl (lh_at hl rfl) ?_
                      refine m_getA hF hE hM 5 (by decide) q1319 rfl dX3_put_120 ?_
                      refine lv_iload_n hx hb dX3_put_123 rfl (lh_at hl rfl) ?_
                      refine m_ald hF hE hM (by decide) (by simp only [mLen]; omega) (by exact hR.pl hi) dX3_put_124 ?_
                      refine x_istore hx hb dX3_put_125 hl (by decide) (fun ls hl => ?_)
                      refine lv_aload_n hx hb dX3_put_127 rfl (lh_at hl rfl) ?_
                      refine m_getA hF hE hM 5 (by decide) q1319 rfl dX3_put_128 ?_
                      refine lv_iload_n hx hb dX3_put_131 rfl (lh_at hl rfl) ?_
                      refine lv_iload hx hb dX3_put_132 (lh_at hl rfl) ?_
                      refine x_top (y := eP to) (eP_pos (by omega)).symm ?_
                      refine m_ast hF hE hM hS (by decide) (by simp only [mLen]; omega) dX3_put_134 (fun H locs hM hS => ?_)
                      refine lv_iload hx hb dX3_put_135 (lh_at hl rfl) ?_
                      refine hQ ▸ x_iret hx hb hr hlk hS _ ⟨by simp [opPut, hxr, hxw, hxz, hto, he]; exact h0, by simp [opPut, hxr, hxw, hxz, hto, he], ?_⟩ hM dX3_put_137
                      simp only [opPut, hxr, hxw, hxz, hto, if_neg he]
                      exact mR_setP hR hi ⟨by omega, by omega, by omega⟩
                    · exact taken _ _ _ (Or.inr (by omega)) hM hS (lh_sub hl _ ⟨rfl, trivial⟩)
                · have ho : o < 20 := by omega
                  have hpo := hR.pl2 ho
                  have next : ∀ (H : Heap) (locs : List Loc) (ls : Array Slot) (x : Nat), x = (takenN ν i to (o + 1)).toNat → mW g A m0 ad μ1 H → va_S A s.heap H locs → lh ls 7 (xl [(0, .ref m0), (1, .int (nI i)), (4, .int (nI to)), (6, .int (nI o))]) → W p l e (xrm 9 0 0) s m args below meth c H locs 0 0 Q (F0 m 93 ls [.int (nI x)]) := by
                    intro H locs ls x hx2 hM hS hl
                    refine x_istore hx hb dX3_put_93 hl (by decide) (fun ls hl => ?_)
                    refine n_iinc hx hb 1 dX3_put_95 hl rfl (by decide +kernel) (by decide) (fun ls hl => ?_)
                    refine lv_goto (tgt := 58) hx hb dX3_put_98 (by decide) ?_
                    exact ih (o + 1) (by omega) (by omega) _ _ _ hM hS (lh_sub hl _ ⟨rfl, rfl, rfl, xl_v (by rw [hx2]), rfl, trivial⟩)
                  refine lv_iload hx hb dX3_put_65 (lh_at hl rfl) ?_
                  refine n_if_ne (tgt := 88) hx hb dX3_put_67 (by decide) (by omega) (fun c2 => ?_) (fun c2 => ?_)
                  · have ht : takenN ν i to o = true := tn1 c2
                    refine n_const hx hb 1 dX3_put_88 (by decide +kernel) ?_
                    refine lv_goto (tgt := 93) hx hb dX3_put_89 (by decide) ?_
                    exact next _ _ _ 1 (by simp [takenN, ht]) hM hS (lh_sub hl _ ⟨rfl, rfl, rfl, rfl, trivial⟩)
                  · have ht : takenN ν i to o = false := tn0 c2
                    refine lv_iload hx hb dX3_put_70 (lh_at hl rfl) ?_
                    refine lv_iload_n hx hb dX3_put_72 rfl (lh_at hl rfl) ?_
                    refine n_icmp_eq (tgt := 92) hx hb dX3_put_73 (by decide) (by omega) (by omega) (fun c3 => ?_) (fun c3 => ?_)
                    · refine n_const hx hb 0 dX3_put_92 (by decide +kernel) ?_
                      exact next _ _ _ 0 (by simp only [takenN, ht]; simp [c3]) hM hS (lh_sub hl _ ⟨rfl, rfl, rfl, rfl, trivial⟩)
                    · refine lv_aload_n hx hb dX3_put_76 rfl (lh_at hl rfl) ?_
                      refine m_getA hF hE hM 5 (by decide) q1319 rfl dX3_put_77 ?_
                      refine lv_iload hx hb dX3_put_80 (lh_at hl rfl) ?_
                      refine m_ald hF hE hM (by decide) (by simp only [mLen]; omega) (by exact hR.pl ho) dX3_put_82 ?_
                      refine lv_iload hx hb dX3_put_83 (lh_at hl rfl) ?_
                      refine lv_icmp_ne (tgt := 92) hx hb dX3_put_85 (by decide) (fun c4 => ?_) (fun c4 => ?_)
                      · have hne : vPl ν o ≠ to := fun e => c4 (by rw [e]; exact eP_pos (by omega))
                        refine n_const hx hb 0 dX3_put_92 (by decide +kernel) ?_
                        exact next _ _ _ 0 (by simp [takenN, ht, hne]) hM hS (lh_sub hl _ ⟨rfl, rfl, rfl, rfl, trivial⟩)
                      · have heq : vPl ν o = to := (eP_eq (by omega) (by omega)).mp (c4.trans (eP_pos (by omega)).symm)
                        refine n_const hx hb 1 dX3_put_88 (by decide +kernel) ?_
                        refine lv_goto (tgt := 93) hx hb dX3_put_89 (by decide) ?_
                        exact next _ _ _ 1 (by simp [takenN, ht, c3, heq]) hM hS (lh_sub hl _ ⟨rfl, rfl, rfl, rfl, trivial⟩)
            refine lv_if_ne (tgt := 44) hx hb dX3_put_35 (by decide) (fun d3 => ?_) (fun d3 => ?_)
            · refine n_bipush hx hb 100 dX3_put_44 (by decide +kernel) ?_
              refine lv_iload_n hx hb dX3_put_46 rfl (lh_at hl rfl) ?_
              refine n_imul hx hb dX3_put_47 ?_
              refine lv_iload_n hx hb dX3_put_48 rfl (lh_at hl rfl) ?_
              refine n_iadd hx hb dX3_put_49 ?_
              rw [hto]
              refine x_istore hx hb dX3_put_50 hl (by decide) (fun ls hl => ?_)
              refine n_const hx hb 0 dX3_put_52 (by decide +kernel) ?_
              refine x_istore hx hb dX3_put_53 hl (by decide) (fun ls hl => ?_)
              refine n_const hx hb 0 dX3_put_55 (by decide +kernel) ?_
              refine x_istore hx hb dX3_put_56 hl (by decide) (fun ls hl => ?_)
              exact loop 21 0 (by omega) (by omega) _ _ _ hM hS (lh_sub hl _ ⟨rfl, rfl, rfl, rfl, rfl, trivial⟩)
            · exact absurd d3 (by decide)
theorem mR_add {ν : nS} {μ : mS} {d : Nat} (hR : mR ν μ) (hN : vC ν 4 < 40) (hd : d ≤ 999) :
    mR (vAdd ν d) (m_setI (m_setA (m_setA (m_setA (m_setA μ 7 (upd (μ.2.1 7) (vC ν 4) (nI d))) 8 (upd (μ.2.1 8) (vC ν 4) (nI 0))) 9 (upd (μ.2.1 9) (vC ν 4) (-1))) 10 (upd (μ.2.1 10) (vC ν 4) (nI 0))) 6 (nI (vC ν 4 + 1))) := by
  obtain ⟨⟨a1, a2, a3, a4, a5, a6, a7, a8⟩, ⟨c1, c2, c3, c4, c5, c6⟩, r3, r4, r5⟩ := hR
  refine ⟨⟨a1, a2, a3, a4, hN, a6, a7, fun o ho => ?_⟩, ⟨c1, c2, c3, c4, rfl, c6⟩, r3, fun o ho => ?_, fun o ho k hk => ?_⟩
  · have ho : o < vC ν 4 + 1 := ho
    show va_up (vDue ν) (vC ν 4) d o ≤ 999 ∧ va_up (vSt ν) (vC ν 4) 0 o ≤ 2 ∧ va_up (vBt ν) (vC ν 4) 0 o ≤ vC ν 5 ∧ va_up (vMn ν) (vC ν 4) 0 o ≤ 5 ∧ ∀ k, k < va_up (vMn ν) (vC ν 4) 0 o → _
    by_cases e : o = vC ν 4
    · rw [e, va_up_s, va_up_s, va_up_s, va_up_s]
      exact ⟨hd, by omega, by omega, by omega, fun k hk => absurd hk (Nat.not_lt_zero k)⟩
    · rw [va_up_n e, va_up_n e, va_up_n e, va_up_n e]
      exact a8 o (by omega)
  · have ho : o < vC ν 4 + 1 := ho
    show upd (μ.2.1 7) (vC ν 4) (nI d) o = nI (va_up (vDue ν) (vC ν 4) d o) ∧ upd (μ.2.1 8) (vC ν 4) (nI 0) o = nI (va_up (vSt ν) (vC ν 4) 0 o) ∧ upd (μ.2.1 9) (vC ν 4) (-1) o = eB (va_up (vBt ν) (vC ν 4) 0 o) ∧ upd (μ.2.1 10) (vC ν 4) (nI 0) o = nI (va_up (vMn ν) (vC ν 4) 0 o)
    by_cases e : o = vC ν 4
    · rw [e]
      simp only [pk_us, va_up_s]
      exact ⟨trivial, trivial, rfl, trivial⟩
    · simp only [pk_un e, va_up_n e]
      exact r4 o (by omega)
  · have ho : o < vC ν 4 + 1 := ho
    have hk : k < va_up (vMn ν) (vC ν 4) 0 o := hk
    by_cases e : o = vC ν 4
    · rw [e, va_up_s] at hk
      exact absurd hk (Nat.not_lt_zero k)
    · rw [va_up_n e] at hk
      exact r5 o (by omega) k hk
set_option maxHeartbeats 4000000 in
theorem mk_order (l : Launch) (g : xg) (A : Nat → Prop) (m0 : Nat) (ad : Nat → Nat) (μ : mS) (ν : nS) (hR : mR ν μ) (v : Int32) :
    Met l yX3_order (ws_ yX3_order cX3_order 2 (some .int)) (xrm 9 0 0) (mPc g A m0 ad μ [.int v]) (mQi g A m0 ad (mOp (opOrder ν v))) 0 0 A := by
  refine x_start rfl (Nat.le_of_ble_eq_true rfl) ?_
  intro p e s m below meth c hx hb hr hlk hml hown hts hnm hE hM hS ls hl
  have hF : xFix p m c cX3_order 2 s _ RX3 := ⟨hx, hb, hml, hown, hts⟩
  generalize hargs : List.toArray _ = args at hts hF ⊢
  generalize hQ : MQ below _ _ s _ _ A = Q
  refine lv_aload_n hx hb dX3_order_0 rfl (lh_at hl rfl) ?_
  refine n_const hx hb 0 dX3_order_1 (by decide +kernel) ?_
  refine m_putI hF hE hM hS 0 (by decide) q1314 rfl (by decide +kernel) rfl dX3_order_2 (fun H locs hM hS => ?_)
  refine lv_iload_n hx hb dX3_order_5 rfl (lh_at hl rfl) ?_
  have hR := mR_thrown (v := nI 0) hR
  have hN := hR.N
  generalize hμ : m_setI μ 0 (nI 0) = μ1 at hM hR hN
  have h0 : μ1.1 0 = nI 0 := by rw [← hμ]; rfl
  refine lv_iconst (v := 0) hx hb dX3_order_6 (by decide +kernel) ?_
  refine lv_sipush (v := 999) hx hb dX3_order_7 (by decide +kernel) ?_
  refine z_calli (P := mW g A m0 ad μ1) (As := [.int v, .int 0, .int 999]) hF hE hM hS hl (zk_in l g A _ v 0 999) q1392 q1393 q44 q1394 ⟨by decide +kernel, by decide +kernel, by show _ = some 3; decide +kernel⟩ rfl rfl ⟨Nat.le_of_ble_eq_true rfl, Nat.le_of_ble_eq_true rfl⟩ rfl (Nat.le_of_ble_eq_true rfl) dX3_order_10 ⟨Nat.le_of_ble_eq_true rfl, Nat.le_of_ble_eq_true rfl⟩ (fun r H locs hq hM hS => ?_)
  have hq := hq.trans (in_xr (n := 1000) (by decide))
  cases hxr : xr v 1000 with
  | none =>
    obtain rfl := isS0 hq hxr
    refine lv_if_ne (tgt := 22) hx hb dX3_order_13 (by decide) (fun d => ?_) (fun d => ?_)
    · exact absurd rfl d
    · refine lv_aload_n hx hb dX3_order_16 rfl (lh_at hl rfl) ?_
      refine n_const hx hb 1 dX3_order_17 (by decide +kernel) ?_
      refine m_calli (As := [.int (nI 1)]) hF hE hM hS hl (mk_fails l g A m0 ad _ (nI 1)) q1395 q1397 qs19 q1398 ⟨rfl, by decide +kernel, by decide +kernel, by show _ = some 1; decide +kernel⟩ rfl rfl ⟨Nat.le_of_ble_eq_true rfl, Nat.le_of_ble_eq_true rfl⟩ rfl (Nat.le_of_ble_eq_true rfl) dX3_order_18 ⟨Nat.le_of_ble_eq_true rfl, Nat.le_of_ble_eq_true rfl⟩ (fun r uf H locs hqf hM hS => ?_)
      obtain ⟨rfl, huf⟩ := hqf
      rw [huf] at hM
      exact hQ ▸ x_iret hx hb hr hlk hS _ ⟨by simp [opOrder, hxr]; rfl, by simp [opOrder, hxr], by simp only [opOrder, hxr]; exact hR⟩ hM dX3_order_21
  | some t =>
    obtain rfl := isS1 hq hxr
    obtain ⟨ht, rfl⟩ := xr_some (by decide) hxr
    refine lv_if_ne (tgt := 22) hx hb dX3_order_13 (by decide) (fun d => ?_) (fun d => ?_)
    · refine lv_aload_n hx hb dX3_order_22 rfl (lh_at hl rfl) ?_
      refine m_getI hF hE hM 6 (by decide) q1320 rfl (by exact hN.1) dX3_order_23 ?_
      refine n_bipush hx hb 40 dX3_order_26 (by decide +kernel) ?_
      refine n_icmp_ne (tgt := 37) hx hb dX3_order_28 (by decide) (by omega) (by omega) (fun c1 => ?_) (fun c1 => ?_)
      · refine lv_aload_n hx hb dX3_order_37 rfl (lh_at hl rfl) ?_
        refine m_getA hF hE hM 7 (by decide) q1321 rfl dX3_order_38 ?_
        refine lv_aload_n hx hb dX3_order_41 rfl (lh_at hl rfl) ?_
        refine m_getI hF hE hM 6 (by decide) q1320 rfl (by exact hN.1) dX3_order_42 ?_
        refine lv_iload_n hx hb dX3_order_45 rfl (lh_at hl rfl) ?_
        refine m_ast hF hE hM hS (by decide) (by simp only [mLen]; omega) dX3_order_46 (fun H locs hM hS => ?_)
        refine lv_aload_n hx hb dX3_order_47 rfl (lh_at hl rfl) ?_
        refine m_getA hF hE hM 8 (by decide) q1322 rfl dX3_order_48 ?_
        refine lv_aload_n hx hb dX3_order_51 rfl (lh_at hl rfl) ?_
        refine m_getI hF hE hM 6 (by decide) q1320 rfl (by exact hN.1) dX3_order_52 ?_
        refine n_const hx hb 0 dX3_order_55 (by decide +kernel) ?_
        refine m_ast hF hE hM hS (by decide) (by simp only [mLen]; omega) dX3_order_56 (fun H locs hM hS => ?_)
        refine lv_aload_n hx hb dX3_order_57 rfl (lh_at hl rfl) ?_
        refine m_getA hF hE hM 9 (by decide) q1323 rfl dX3_order_58 ?_
        refine lv_aload_n hx hb dX3_order_61 rfl (lh_at hl rfl) ?_
        refine m_getI hF hE hM 6 (by decide) q1320 rfl (by exact hN.1) dX3_order_62 ?_
        refine lv_iconst (v := -1) hx hb dX3_order_65 (by decide +kernel) ?_
        refine m_ast hF hE hM hS (by decide) (by simp only [mLen]; omega) dX3_order_66 (fun H locs hM hS => ?_)
        refine lv_aload_n hx hb dX3_order_67 rfl (lh_at hl rfl) ?_
        refine m_getA hF hE hM 10 (by decide) q1324 rfl dX3_order_68 ?_
        refine lv_aload_n hx hb dX3_order_71 rfl (lh_at hl rfl) ?_
        refine m_getI hF hE hM 6 (by decide) q1320 rfl (by exact hN.1) dX3_order_72 ?_
        refine n_const hx hb 0 dX3_order_75 (by decide +kernel) ?_
        refine m_ast hF hE hM hS (by decide) (by simp only [mLen]; omega) dX3_order_76 (fun H locs hM hS => ?_)
        refine lv_aload_n hx hb dX3_order_77 rfl (lh_at hl rfl) ?_
        refine lv_dup hx hb dX3_order_78 rfl ?_
        refine m_getI hF hE hM 6 (by decide) q1320 rfl (by exact hN.1) dX3_order_79 ?_
        refine n_const hx hb 1 dX3_order_82 (by decide +kernel) ?_
        refine n_iadd hx hb dX3_order_83 ?_
        refine m_putI hF hE hM hS 6 (by decide) q1320 rfl (by decide +kernel) rfl dX3_order_84 (fun H locs hM hS => ?_)
        refine lv_aload_n hx hb dX3_order_87 rfl (lh_at hl rfl) ?_
        refine m_getI hF hE hM 6 (by decide) q1320 rfl (by rfl) dX3_order_88 ?_
        refine n_const hx hb 1 dX3_order_91 (by decide +kernel) ?_
        refine n_isub hx hb (by omega) dX3_order_92 ?_
        refine hQ ▸ x_iret hx hb hr hlk hS _ ⟨by simp [opOrder, hxr, c1]; exact h0, by simp [opOrder, hxr, c1], ?_⟩ hM dX3_order_93
        simp only [opOrder, hxr, if_neg c1]
        exact mR_add hR (by omega) (by omega)
      · refine lv_aload_n hx hb dX3_order_31 rfl (lh_at hl rfl) ?_
        refine n_const hx hb 2 dX3_order_32 (by decide +kernel) ?_
        refine m_calli (As := [.int (nI 2)]) hF hE hM hS hl (mk_fails l g A m0 ad _ (nI 2)) q1395 q1397 qs19 q1398 ⟨rfl, by decide +kernel, by decide +kernel, by show _ = some 1; decide +kernel⟩ rfl rfl ⟨Nat.le_of_ble_eq_true rfl, Nat.le_of_ble_eq_true rfl⟩ rfl (Nat.le_of_ble_eq_true rfl) dX3_order_33 ⟨Nat.le_of_ble_eq_true rfl, Nat.le_of_ble_eq_true rfl⟩ (fun r uf H locs hqf hM hS => ?_)
        obtain ⟨rfl, huf⟩ := hqf
        rw [huf] at hM
        exact hQ ▸ x_iret hx hb hr hlk hS _ ⟨by simp [opOrder, hxr, c1]; rfl, by simp [opOrder, hxr, c1], by simp only [opOrder, hxr, if_pos c1]; exact hR⟩ hM dX3_order_36
    · exact absurd d (by decide)
theorem mR_line {ν : nS} {μ : mS} {o p q : Nat} (hR : mR ν μ) (ho : o < vC ν 4) (hm : vMn ν o < 5) (hp : p < 20) (hpl : vPl ν p ≠ 0) (hq : 1 ≤ q ∧ q ≤ 99) :
    mR (vLine ν o p q) (m_setA (m_setA (m_setA μ 11 (upd (μ.2.1 11) (5 * o + vMn ν o) (nI p))) 12 (upd (μ.2.1 12) (5 * o + vMn ν o) (nI q))) 10 (upd (μ.2.1 10) o (nI (vMn ν o + 1)))) := by
  have hR0 := hR
  obtain ⟨⟨a1, a2, a3, a4, a5, a6, a7, a8⟩, r2, r3, r4, r5⟩ := hR
  refine ⟨⟨a1, a2, a3, a4, a5, a6, a7, fun a ha => ?_⟩, r2, r3, fun a ha => ?_, fun a ha k hk => ?_⟩
  · obtain ⟨b1, b2, b3, b4, b5⟩ := a8 a ha
    show _ ∧ _ ∧ _ ∧ va_up (vMn ν) o (vMn ν o + 1) a ≤ 5 ∧ ∀ k, k < va_up (vMn ν) o (vMn ν o + 1) a → (if a = o ∧ k = vMn ν o then p else vPr ν a k) < 20 ∧ 1 ≤ (if a = o ∧ k = vMn ν o then q else vQt ν a k) ∧ (if a = o ∧ k = vMn ν o then q else vQt ν a k) ≤ 99 ∧ vPl ν (if a = o ∧ k = vMn ν o then p else vPr ν a k) ≠ 0
    by_cases e : a = o
    · rw [e, va_up_s]
      rw [e] at b1 b2 b3 b4 b5
      refine ⟨b1, b2, b3, by omega, fun k hk => ?_⟩
      by_cases e2 : k = vMn ν o
      · simp only [e2, and_self, if_true]
        exact ⟨hp, hq.1, hq.2, hpl⟩
      · simp only [e2, and_false, if_false]
        exact b5 k (by omega)
    · rw [va_up_n e]
      refine ⟨b1, b2, b3, b4, fun k hk => ?_⟩
      simp only [e, false_and, if_false]
      exact b5 k hk
  · obtain ⟨b1, b2, b3, b4⟩ := r4 a ha
    refine ⟨b1, b2, b3, ?_⟩
    show upd (μ.2.1 10) o (nI (vMn ν o + 1)) a = nI (va_up (vMn ν) o (vMn ν o + 1) a)
    by_cases e : a = o
    · rw [e, pk_us, va_up_s]
    · rw [pk_un e, va_up_n e]
      exact b4
  · have hk : k < va_up (vMn ν) o (vMn ν o + 1) a := hk
    have hma : vMn ν a ≤ 5 := (a8 a ha).2.2.2.1
    show upd (μ.2.1 11) (5 * o + vMn ν o) (nI p) (5 * a + k) = nI (if a = o ∧ k = vMn ν o then p else vPr ν a k) ∧ upd (μ.2.1 12) (5 * o + vMn ν o) (nI q) (5 * a + k) = nI (if a = o ∧ k = vMn ν o then q else vQt ν a k)
    by_cases e : a = o ∧ k = vMn ν o
    · obtain ⟨rfl, rfl⟩ := e
      simp [pk_us]
    · rw [if_neg e, if_neg e]
      have hne : 5 * a + k ≠ 5 * o + vMn ν o := by
        intro z
        apply e
        by_cases e2 : a = o
        · exact ⟨e2, by omega⟩
        · rw [va_up_n e2] at hk
          omega
      rw [pk_un hne, pk_un hne]
      refine r5 a ha k ?_
      by_cases e2 : a = o
      · rw [e2, va_up_s] at hk
        rw [e2]
        have : k ≠ vMn ν o := fun z => e ⟨e2, z⟩
        omega
      · rw [va_up_n e2] at hk
        exact hk
set_option maxHeartbeats 4000000 in
theorem mk_line (l : Launch) (g : xg) (A : Nat → Prop) (m0 : Nat) (ad : Nat → Nat) (μ : mS) (ν : nS) (hR : mR ν μ) (v w z : Int32) :
    Met l yX3_line (ws_ yX3_line cX3_line 4 (some .int)) (xrm 9 0 0) (mPc g A m0 ad μ [.int v, .int w, .int z]) (mQi g A m0 ad (mOp (opLine ν v w z))) 0 0 A := by
  refine x_start rfl (Nat.le_of_ble_eq_true rfl) ?_
  intro p e s m below meth c hx hb hr hlk hml hown hts hnm hE hM hS ls hl
  have hF : xFix p m c cX3_line 4 s _ RX3 := ⟨hx, hb, hml, hown, hts⟩
  generalize hargs : List.toArray _ = args at hts hF ⊢
  generalize hQ : MQ below _ _ s _ _ A = Q
  refine lv_aload_n hx hb dX3_line_0 rfl (lh_at hl rfl) ?_
  refine n_const hx hb 0 dX3_line_1 (by decide +kernel) ?_
  refine m_putI hF hE hM hS 0 (by decide) q1314 rfl (by decide +kernel) rfl dX3_line_2 (fun H locs hM hS => ?_)
  refine lv_aload_n hx hb dX3_line_5 rfl (lh_at hl rfl) ?_
  refine lv_iload_n hx hb dX3_line_6 rfl (lh_at hl rfl) ?_
  have hR := mR_thrown (v := nI 0) hR
  have hN := hR.N
  generalize hμ : m_setI μ 0 (nI 0) = μ1 at hM hR hN
  have h0 : μ1.1 0 = nI 0 := by rw [← hμ]; rfl
  have bad : ∀ (H : Heap) (locs : List Loc) (ls : Array Slot), opLine ν v w z = (1, 0, ν) → mW g A m0 ad μ1 H → va_S A s.heap H locs → lh ls 4 (xl [(0, .ref m0)]) → W p l e (xrm 9 0 0) s m args below meth c H locs 0 0 Q (F0 m 20 ls []) := by
    intro H locs ls he hM hS hl
    refine lv_aload_n hx hb dX3_line_20 rfl (lh_at hl rfl) ?_
    refine n_const hx hb 1 dX3_line_21 (by decide +kernel) ?_
    refine m_calli (As := [.int (nI 1)]) hF hE hM hS hl (mk_fails l g A m0 ad _ (nI 1)) q1395 q1397 qs19 q1398 ⟨rfl, by decide +kernel, by decide +kernel, by show _ = some 1; decide +kernel⟩ rfl rfl ⟨Nat.le_of_ble_eq_true rfl, Nat.le_of_ble_eq_true rfl⟩ rfl (Nat.le_of_ble_eq_true rfl) dX3_line_22 ⟨Nat.le_of_ble_eq_true rfl, Nat.le_of_ble_eq_true rfl⟩ (fun r uf H locs hqf hM hS => ?_)
    obtain ⟨rfl, huf⟩ := hqf
    rw [huf] at hM
    exact hQ ▸ x_iret hx hb hr hlk hS _ ⟨by rw [he]; rfl, by rw [he], by rw [he]; exact hR⟩ hM dX3_line_25
  refine m_calli (As := [.int v]) hF hE hM hS hl (mk_isOrder l g A m0 ad _ v (vC ν 4) hN.1 hN.2) q1439 q1441 qs24 q1442 ⟨rfl, by decide +kernel, by decide +kernel, by show _ = some 1; decide +kernel⟩ rfl rfl ⟨Nat.le_of_ble_eq_true rfl, Nat.le_of_ble_eq_true rfl⟩ rfl (Nat.le_of_ble_eq_true rfl) dX3_line_7 ⟨Nat.le_of_ble_eq_true rfl, Nat.le_of_ble_eq_true rfl⟩ (fun r u H locs hq hM hS => ?_)
  obtain ⟨hq, hu⟩ := hq
  rw [hu] at hM
  cases hxr : xr v (vC ν 4) with
  | none =>
    obtain rfl := isS0 hq hxr
    refine lv_if_eq (tgt := 20) hx hb dX3_line_10 (by decide) (fun d => ?_) (fun d => ?_)
    · exact bad _ _ _ (by simp [opLine, hxr]) hM hS (lh_sub hl _ ⟨rfl, trivial⟩)
    · exact absurd rfl d
  | some o =>
    obtain rfl := isS1 hq hxr
    obtain ⟨ho, rfl⟩ := xr_some (by omega) hxr
    refine lv_if_eq (tgt := 20) hx hb dX3_line_10 (by decide) (fun d => ?_) (fun d => ?_)
    · exact absurd d (by decide)
    · refine lv_iload_n hx hb dX3_line_13 rfl (lh_at hl rfl) ?_
      refine z_calli (P := mW g A m0 ad μ1) (As := [.int w]) hF hE hM hS hl (zk_isProduct l g A _ w) q1389 q1390 q44 q1391 ⟨by decide +kernel, by decide +kernel, by show _ = some 1; decide +kernel⟩ rfl rfl ⟨Nat.le_of_ble_eq_true rfl, Nat.le_of_ble_eq_true rfl⟩ rfl (Nat.le_of_ble_eq_true rfl) dX3_line_14 ⟨Nat.le_of_ble_eq_true rfl, Nat.le_of_ble_eq_true rfl⟩ (fun r H locs hq hM hS => ?_)
      cases hxw : xr w 20 with
      | none =>
        obtain rfl := isS0 hq hxw
        refine lv_if_ne (tgt := 26) hx hb dX3_line_17 (by decide) (fun d2 => ?_) (fun d2 => ?_)
        · exact absurd rfl d2
        · exact bad _ _ _ (by simp [opLine, hxr, hxw]) hM hS (lh_sub hl _ ⟨rfl, trivial⟩)
      | some p1 =>
        obtain rfl := isS1 hq hxw
        obtain ⟨hp1, rfl⟩ := xr_some (by decide) hxw
        refine lv_if_ne (tgt := 26) hx hb dX3_line_17 (by decide) (fun d2 => ?_) (fun d2 => ?_)
        · refine lv_iload_n hx hb dX3_line_26 rfl (lh_at hl rfl) ?_
          refine lv_iconst (v := 1) hx hb dX3_line_27 (by decide +kernel) ?_
          refine lv_bipush (v := 99) hx hb dX3_line_28 (by decide +kernel) ?_
          refine z_calli (P := mW g A m0 ad μ1) (As := [.int z, .int 1, .int 99]) hF hE hM hS hl (zk_in l g A _ z 1 99) q1392 q1393 q44 q1394 ⟨by decide +kernel, by decide +kernel, by show _ = some 3; decide +kernel⟩ rfl rfl ⟨Nat.le_of_ble_eq_true rfl, Nat.le_of_ble_eq_true rfl⟩ rfl (Nat.le_of_ble_eq_true rfl) dX3_line_30 ⟨Nat.le_of_ble_eq_true rfl, Nat.le_of_ble_eq_true rfl⟩ (fun r H locs hq hM hS => ?_)
          have hq := hq.trans (xr_pred (n := 99) (by decide))
          cases hxz : xr (z - 1) 99 with
          | none =>
            obtain rfl := isS0 hq hxz
            refine lv_if_ne (tgt := 42) hx hb dX3_line_33 (by decide) (fun d3 => ?_) (fun d3 => ?_)
            · exact absurd rfl d3
            · refine lv_aload_n hx hb dX3_line_36 rfl (lh_at hl rfl) ?_
              refine n_const hx hb 2 dX3_line_37 (by decide +kernel) ?_
              refine m_calli (As := [.int (nI 2)]) hF hE hM hS hl (mk_fails l g A m0 ad _ (nI 2)) q1395 q1397 qs19 q1398 ⟨rfl, by decide +kernel, by decide +kernel, by show _ = some 1; decide +kernel⟩ rfl rfl ⟨Nat.le_of_ble_eq_true rfl, Nat.le_of_ble_eq_true rfl⟩ rfl (Nat.le_of_ble_eq_true rfl) dX3_line_38 ⟨Nat.le_of_ble_eq_true rfl, Nat.le_of_ble_eq_true rfl⟩ (fun r uf H locs hqf hM hS => ?_)
              obtain ⟨rfl, huf⟩ := hqf
              rw [huf] at hM
              exact hQ ▸ x_iret hx hb hr hlk hS _ ⟨by simp [opLine, hxr, hxw, hxz]; rfl, by simp [opLine, hxr, hxw, hxz], by simp only [opLine, hxr, hxw, hxz]; exact hR⟩ hM dX3_line_41
          | some k =>
            obtain rfl := isS1 hq hxz
            obtain ⟨hk, rfl⟩ := xr_pred_some (by decide) hxz
            have hst := hR.st ho
            have hmn := hR.mn ho
            have hcap := hR.cap
            have hpl := hR.pl2 hp1
            have no : ∀ (H : Heap) (locs : List Loc) (ls : Array Slot), (vSt ν o ≠ 0 ∨ vMn ν o = 5 ∨ vC ν 3 ≤ vMn ν o ∨ (wantN ν o).testBit p1 = true ∨ vPl ν p1 = 0) → mW g A m0 ad μ1 H → va_S A s.heap H locs → lh ls 4 (xl [(0, .ref m0)]) → W p l e (xrm 9 0 0) s m args below meth c H locs 0 0 Q (F0 m 97 ls []) := by
              intro H locs ls he hM hS hl
              refine lv_aload_n hx hb dX3_line_97 rfl (lh_at hl rfl) ?_
              refine n_const hx hb 3 dX3_line_98 (by decide +kernel) ?_
              refine m_calli (As := [.int (nI 3)]) hF hE hM hS hl (mk_fails l g A m0 ad _ (nI 3)) q1395 q1397 qs19 q1398 ⟨rfl, by decide +kernel, by decide +kernel, by show _ = some 1; decide +kernel⟩ rfl rfl ⟨Nat.le_of_ble_eq_true rfl, Nat.le_of_ble_eq_true rfl⟩ rfl (Nat.le_of_ble_eq_true rfl) dX3_line_99 ⟨Nat.le_of_ble_eq_true rfl, Nat.le_of_ble_eq_true rfl⟩ (fun r uf H locs hqf hM hS => ?_)
              obtain ⟨rfl, huf⟩ := hqf
              rw [huf] at hM
              exact hQ ▸ x_iret hx hb hr hlk hS _ ⟨by simp only [opLine, hxr, hxw, hxz, if_pos he]; rfl, by simp only [opLine, hxr, hxw, hxz, if_pos he], by simp only [opLine, hxr, hxw, hxz, if_pos he]; exact hR⟩ hM dX3_line_102
            refine lv_if_ne (tgt := 42) hx hb dX3_line_33 (by decide) (fun d3 => ?_) (fun d3 => ?_)
            · refine lv_aload_n hx hb dX3_line_42 rfl (lh_at hl rfl) ?_
              refine m_getA hF hE hM 8 (by decide) q1322 rfl dX3_line_43 ?_
              refine lv_iload_n hx hb dX3_line_46 rfl (lh_at hl rfl) ?_
              refine m_ald hF hE hM (by decide) (by simp only [mLen]; omega) (by exact hst.1) dX3_line_47 ?_
              refine n_if_ne (tgt := 97) hx hb dX3_line_48 (by decide) (by omega) (fun c1 => ?_) (fun c1 => ?_)
              · exact no _ _ _ (Or.inl c1) hM hS (lh_sub hl _ ⟨rfl, trivial⟩)
              · refine lv_aload_n hx hb dX3_line_51 rfl (lh_at hl rfl) ?_
                refine m_getA hF hE hM 10 (by decide) q1324 rfl dX3_line_52 ?_
                refine lv_iload_n hx hb dX3_line_55 rfl (lh_at hl rfl) ?_
                refine m_ald hF hE hM (by decide) (by simp only [mLen]; omega) (by exact hmn.1) dX3_line_56 ?_
                refine n_const hx hb 5 dX3_line_57 (by decide +kernel) ?_
                refine n_icmp_eq (tgt := 97) hx hb dX3_line_58 (by decide) (by omega) (by omega) (fun c2 => ?_) (fun c2 => ?_)
                · exact no _ _ _ (Or.inr (Or.inl c2)) hM hS (lh_sub hl _ ⟨rfl, trivial⟩)
                · refine lv_aload_n hx hb dX3_line_61 rfl (lh_at hl rfl) ?_
                  refine m_getA hF hE hM 10 (by decide) q1324 rfl dX3_line_62 ?_
                  refine lv_iload_n hx hb dX3_line_65 rfl (lh_at hl rfl) ?_
                  refine m_ald hF hE hM (by decide) (by simp only [mLen]; omega) (by exact hmn.1) dX3_line_66 ?_
                  refine lv_aload_n hx hb dX3_line_67 rfl (lh_at hl rfl) ?_
                  refine m_getI hF hE hM 4 (by decide) q1318 rfl (by exact hcap.1) dX3_line_68 ?_
                  refine n_icmp_ge (tgt := 97) hx hb dX3_line_71 (by decide) (by omega) (by omega) (fun c3 => ?_) (fun c3 => ?_)
                  · exact no _ _ _ (Or.inr (Or.inr (Or.inl c3))) hM hS (lh_sub hl _ ⟨rfl, trivial⟩)
                  · have hw20 := (want_ok hR.1 ho).1.1
                    refine lv_aload_n hx hb dX3_line_74 rfl (lh_at hl rfl) ?_
                    refine lv_iload_n hx hb dX3_line_75 rfl (lh_at hl rfl) ?_
                    refine m_calli (As := [.int (nI o)]) hF hE hM hS hl (mk_wanted l g A m0 ad _ ν hR o ho) q1443 q1445 qs25 q1446 ⟨rfl, by decide +kernel, by decide +kernel, by show _ = some 1; decide +kernel⟩ rfl rfl ⟨Nat.le_of_ble_eq_true rfl, Nat.le_of_ble_eq_true rfl⟩ rfl (Nat.le_of_ble_eq_true rfl) dX3_line_76 ⟨Nat.le_of_ble_eq_true rfl, Nat.le_of_ble_eq_true rfl⟩ (fun r u2 H locs hq2 hM hS => ?_)
                    obtain ⟨rfl, hu⟩ := hq2
                    rw [hu] at hM
                    refine lv_iload_n hx hb dX3_line_79 rfl (lh_at hl rfl) ?_
                    refine n_ishr hx hb (by omega) (by omega) dX3_line_80 ?_
                    refine n_const hx hb 1 dX3_line_81 (by decide +kernel) ?_
                    refine n_iand hx hb dX3_line_82 ?_
                    refine n_const hx hb 1 dX3_line_83 (by decide +kernel) ?_
                    refine n_icmp_eq (tgt := 97) hx hb dX3_line_84 (by decide) (by have := and1_lt (wantN ν o) p1; omega) (by omega) (fun c4 => ?_) (fun c4 => ?_)
                    · exact no _ _ _ (Or.inr (Or.inr (Or.inr (Or.inl (bit_and.mp c4))))) hM hS (lh_sub hl _ ⟨rfl, trivial⟩)
                    · have hb0 : ¬ (wantN ν o).testBit p1 = true := fun q => c4 (bit_and.mpr q)
                      refine lv_aload_n hx hb dX3_line_87 rfl (lh_at hl rfl) ?_
                      refine m_getA hF hE hM 5 (by decide) q1319 rfl dX3_line_88 ?_
                      refine lv_iload_n hx hb dX3_line_91 rfl (lh_at hl rfl) ?_
                      refine m_ald hF hE hM (by decide) (by simp only [mLen]; omega) (by exact hR.pl hp1) dX3_line_92 ?_
                      refine lv_iconst (v := -1) hx hb dX3_line_93 (by decide +kernel) ?_
                      refine lv_icmp_ne (tgt := 103) hx hb dX3_line_94 (by decide) (fun c5 => ?_) (fun c5 => ?_)
                      · have hp0 : vPl ν p1 ≠ 0 := fun q => c5 ((eP_m1 (by omega)).mpr q)
                        have he : ¬ (vSt ν o ≠ 0 ∨ vMn ν o = 5 ∨ vC ν 3 ≤ vMn ν o ∨ (wantN ν o).testBit p1 = true ∨ vPl ν p1 = 0) := by
                          rintro (q | q | q | q | q)
                          · exact q c1
                          · exact c2 q
                          · exact c3 q
                          · exact hb0 q
                          · exact hp0 q
                        refine lv_aload_n hx hb dX3_line_103 rfl (lh_at hl rfl) ?_
                        refine m_getA hF hE hM 11 (by decide) q1325 rfl dX3_line_104 ?_
                        refine n_const hx hb 5 dX3_line_107 (by decide +kernel) ?_
                        refine lv_iload_n hx hb dX3_line_108 rfl (lh_at hl rfl) ?_
                        refine n_imul hx hb dX3_line_109 ?_
                        refine lv_aload_n hx hb dX3_line_110 rfl (lh_at hl rfl) ?_
                        refine m_getA hF hE hM 10 (by decide) q1324 rfl dX3_line_111 ?_
                        refine lv_iload_n hx hb dX3_line_114 rfl (lh_at hl rfl) ?_
                        refine m_ald hF hE hM (by decide) (by simp only [mLen]; omega) (by exact hmn.1) dX3_line_115 ?_
                        refine n_iadd hx hb dX3_line_116 ?_
                        refine lv_iload_n hx hb dX3_line_117 rfl (lh_at hl rfl) ?_
                        refine m_ast hF hE hM hS (by decide) (by simp only [mLen]; omega) dX3_line_118 (fun H locs hM hS => ?_)
                        refine lv_aload_n hx hb dX3_line_119 rfl (lh_at hl rfl) ?_
                        refine m_getA hF hE hM 12 (by decide) q1326 rfl dX3_line_120 ?_
                        refine n_const hx hb 5 dX3_line_123 (by decide +kernel) ?_
                        refine lv_iload_n hx hb dX3_line_124 rfl (lh_at hl rfl) ?_
                        refine n_imul hx hb dX3_line_125 ?_
                        refine lv_aload_n hx hb dX3_line_126 rfl (lh_at hl rfl) ?_
                        refine m_getA hF hE hM 10 (by decide) q1324 rfl dX3_line_127 ?_
                        refine lv_iload_n hx hb dX3_line_130 rfl (lh_at hl rfl) ?_
                        refine m_ald hF hE hM (by decide) (by simp only [mLen]; omega) (by exact hmn.1) dX3_line_131 ?_
                        refine n_iadd hx hb dX3_line_132 ?_
                        refine lv_iload_n hx hb dX3_line_133 rfl (lh_at hl rfl) ?_
                        refine m_ast hF hE hM hS (by decide) (by simp only [mLen]; omega) dX3_line_134 (fun H locs hM hS => ?_)
                        refine lv_aload_n hx hb dX3_line_135 rfl (lh_at hl rfl) ?_
                        refine m_getA hF hE hM 10 (by decide) q1324 rfl dX3_line_136 ?_
                        refine lv_iload_n hx hb dX3_line_139 rfl (lh_at hl rfl) ?_
                        refine lv_dup2_11 hx hb dX3_line_140 rfl rfl ?_
                        refine m_ald hF hE hM (by decide) (by simp only [mLen]; omega) (by exact hmn.1) dX3_line_141 ?_
                        refine n_const hx hb 1 dX3_line_142 (by decide +kernel) ?_
                        refine n_iadd hx hb dX3_line_143 ?_
                        refine m_ast hF hE hM hS (by decide) (by simp only [mLen]; omega) dX3_line_144 (fun H locs hM hS => ?_)
                        refine lv_aload_n hx hb dX3_line_145 rfl (lh_at hl rfl) ?_
                        refine m_getA hF hE hM 10 (by decide) q1324 rfl dX3_line_146 ?_
                        refine lv_iload_n hx hb dX3_line_149 rfl (lh_at hl rfl) ?_
                        refine m_ald hF hE hM (by decide) (by simp only [mLen]; omega) (by exact pk_us) dX3_line_150 ?_
                        refine hQ ▸ x_iret hx hb hr hlk hS _ ⟨by simp only [opLine, hxr, hxw, hxz, if_neg he]; exact h0, by simp only [opLine, hxr, hxw, hxz, if_neg he], ?_⟩ hM dX3_line_151
                        simp only [opLine, hxr, hxw, hxz, if_neg he]
                        exact mR_line hR ho (by omega) hp1 hp0 ⟨by omega, by omega⟩
                      · exact no _ _ _ (Or.inr (Or.inr (Or.inr (Or.inr ((eP_m1 (by omega)).mp c5))))) hM hS (lh_sub hl _ ⟨rfl, trivial⟩)
            · exact absurd d3 (by decide)
        · exact absurd d2 (by decide)
set_option maxHeartbeats 4000000 in
theorem mk_setCapacity (l : Launch) (g : xg) (A : Nat → Prop) (m0 : Nat) (ad : Nat → Nat) (μ : mS) (ν : nS) (hR : mR ν μ) (v : Int32) :
    Met l yX3_setCapacity (ws_ yX3_setCapacity cX3_setCapacity 4 (some .int)) (xrm 9 0 0) (mPc g A m0 ad μ [.int v]) (mQi g A m0 ad (mOp (opSetCap ν v))) 0 0 A := by
  refine x_start rfl (Nat.le_of_ble_eq_true rfl) ?_
  intro p e s m below meth c hx hb hr hlk hml hown hts hnm hE hM hS ls hl
  have hF : xFix p m c cX3_setCapacity 4 s _ RX3 := ⟨hx, hb, hml, hown, hts⟩
  generalize hargs : List.toArray _ = args at hts hF ⊢
  generalize hQ : MQ below _ _ s _ _ A = Q
  refine lv_aload_n hx hb dX3_setCapacity_0 rfl (lh_at hl rfl) ?_
  refine n_const hx hb 0 dX3_setCapacity_1 (by decide +kernel) ?_
  refine m_putI hF hE hM hS 0 (by decide) q1314 rfl (by decide +kernel) rfl dX3_setCapacity_2 (fun H locs hM hS => ?_)
  refine lv_iload_n hx hb dX3_setCapacity_5 rfl (lh_at hl rfl) ?_
  have hR := mR_thrown (v := nI 0) hR
  have hN := hR.N
  have hB := hR.B
  have hcap := hR.cap
  generalize hμ : m_setI μ 0 (nI 0) = μ1 at hM hR hN hB hcap
  have h0 : μ1.1 0 = nI 0 := by rw [← hμ]; rfl
  refine lv_iconst (v := 1) hx hb dX3_setCapacity_6 (by decide +kernel) ?_
  refine lv_bipush (v := 9) hx hb dX3_setCapacity_7 (by decide +kernel) ?_
  refine z_calli (P := mW g A m0 ad μ1) (As := [.int v, .int 1, .int 9]) hF hE hM hS hl (zk_in l g A _ v 1 9) q1392 q1393 q44 q1394 ⟨by decide +kernel, by decide +kernel, by show _ = some 3; decide +kernel⟩ rfl rfl ⟨Nat.le_of_ble_eq_true rfl, Nat.le_of_ble_eq_true rfl⟩ rfl (Nat.le_of_ble_eq_true rfl) dX3_setCapacity_9 ⟨Nat.le_of_ble_eq_true rfl, Nat.le_of_ble_eq_true rfl⟩ (fun r H locs hq hM hS => ?_)
  have hq := hq.trans (xr_pred (n := 9) (by decide))
  cases hxr : xr (v - 1) 9 with
  | none =>
    obtain rfl := isS0 hq hxr
    refine lv_if_ne (tgt := 21) hx hb dX3_setCapacity_12 (by decide) (fun d => ?_) (fun d => ?_)
    · exact absurd rfl d
    · refine lv_aload_n hx hb dX3_setCapacity_15 rfl (lh_at hl rfl) ?_
      refine n_const hx hb 1 dX3_setCapacity_16 (by decide +kernel) ?_
      refine m_calli (As := [.int (nI 1)]) hF hE hM hS hl (mk_fails l g A m0 ad _ (nI 1)) q1395 q1397 qs19 q1398 ⟨rfl, by decide +kernel, by decide +kernel, by show _ = some 1; decide +kernel⟩ rfl rfl ⟨Nat.le_of_ble_eq_true rfl, Nat.le_of_ble_eq_true rfl⟩ rfl (Nat.le_of_ble_eq_true rfl) dX3_setCapacity_17 ⟨Nat.le_of_ble_eq_true rfl, Nat.le_of_ble_eq_true rfl⟩ (fun r uf H locs hqf hM hS => ?_)
      obtain ⟨rfl, huf⟩ := hqf
      rw [huf] at hM
      exact hQ ▸ x_iret hx hb hr hlk hS _ ⟨by simp [opSetCap, hxr]; rfl, by simp [opSetCap, hxr], by simp only [opSetCap, hxr]; exact hR⟩ hM dX3_setCapacity_20
  | some k =>
    obtain rfl := isS1 hq hxr
    obtain ⟨hk, rfl⟩ := xr_pred_some (by decide) hxr
    have loop : ∀ (n o : Nat), o ≤ vC ν 4 → vC ν 4 < o + n → ∀ (H : Heap) (locs : List Loc) (ls : Array Slot), mW g A m0 ad μ1 H → va_S A s.heap H locs → lh ls 4 (xl [(0, .ref m0), (1, .int (nI (k + 1))), (2, .int (nI (canN ν (k + 1) o).toNat)), (3, .int (nI o))]) → W p l e (xrm 9 0 0) s m args below meth c H locs 0 0 Q (F0 m 36 ls []) := by
      intro n
      induction n with
      | zero => intro o h1 h2; exact absurd h2 (by omega)
      | succ n ih =>
        intro o h1 h2 H locs ls hM hS hl
        have htn : (canN ν (k + 1) o).toNat < 2 ^ 31 := by cases canN ν (k + 1) o <;> decide
        refine lv_iload_n hx hb dX3_setCapacity_36 rfl (lh_at hl rfl) ?_
        refine lv_aload_n hx hb dX3_setCapacity_37 rfl (lh_at hl rfl) ?_
        refine m_getI hF hE hM 6 (by decide) q1320 rfl (by exact hN.1) dX3_setCapacity_38 ?_
        refine n_icmp_ge (tgt := 80) hx hb dX3_setCapacity_41 (by decide) (by omega) (by omega) (fun c1 => ?_) (fun c1 => ?_)
        · have e : o = vC ν 4 := by omega
          subst e
          refine lv_iload_n hx hb dX3_setCapacity_80 rfl (lh_at hl rfl) ?_
          refine n_if_ne (tgt := 90) hx hb dX3_setCapacity_81 (by decide) (by omega) (fun c2 => ?_) (fun c2 => ?_)
          · have hc : canN ν (k + 1) (vC ν 4) = true := tn1 c2
            refine lv_aload_n hx hb dX3_setCapacity_90 rfl (lh_at hl rfl) ?_
            refine m_getI hF hE hM 4 (by decide) q1318 rfl (by exact hcap.1) dX3_setCapacity_91 ?_
            refine x_istore_n hx hb dX3_setCapacity_94 rfl hl (by decide) (fun ls hl => ?_)
            refine lv_aload_n hx hb dX3_setCapacity_95 rfl (lh_at hl rfl) ?_
            refine lv_iload_n hx hb dX3_setCapacity_96 rfl (lh_at hl rfl) ?_
            refine m_putI hF hE hM hS 4 (by decide) q1318 rfl (by decide +kernel) rfl dX3_setCapacity_97 (fun H locs hM hS => ?_)
            refine lv_iload_n hx hb dX3_setCapacity_100 rfl (lh_at hl rfl) ?_
            refine hQ ▸ x_iret hx hb hr hlk hS _ ⟨by simp only [opSetCap, hxr, if_pos hc]; exact h0, by simp only [opSetCap, hxr, if_pos hc], ?_⟩ hM dX3_setCapacity_101
            simp only [opSetCap, hxr, if_pos hc]
            obtain ⟨⟨a1, a2, a3, a4, a5⟩, ⟨e1, e2, e3, e4, e5⟩, r3⟩ := hR
            exact ⟨⟨a1, a2, a3, ⟨by show 1 ≤ k + 1; omega, by show k + 1 ≤ 9; omega⟩, a5⟩, ⟨e1, e2, e3, rfl, e5⟩, r3⟩
          · have hc : ¬ canN ν (k + 1) (vC ν 4) = true := by rw [tn0 c2]; decide
            refine lv_aload_n hx hb dX3_setCapacity_84 rfl (lh_at hl rfl) ?_
            refine n_const hx hb 2 dX3_setCapacity_85 (by decide +kernel) ?_
            refine m_calli (As := [.int (nI 2)]) hF hE hM hS hl (mk_fails l g A m0 ad _ (nI 2)) q1395 q1397 qs19 q1398 ⟨rfl, by decide +kernel, by decide +kernel, by show _ = some 1; decide +kernel⟩ rfl rfl ⟨Nat.le_of_ble_eq_true rfl, Nat.le_of_ble_eq_true rfl⟩ rfl (Nat.le_of_ble_eq_true rfl) dX3_setCapacity_86 ⟨Nat.le_of_ble_eq_true rfl, Nat.le_of_ble_eq_true rfl⟩ (fun r uf H locs hqf hM hS => ?_)
            obtain ⟨rfl, huf⟩ := hqf
            rw [huf] at hM
            exact hQ ▸ x_iret hx hb hr hlk hS _ ⟨by simp only [opSetCap, hxr, if_neg hc]; rfl, by simp only [opSetCap, hxr, if_neg hc], by simp only [opSetCap, hxr, if_neg hc]; exact hR⟩ hM dX3_setCapacity_89
        · have ho : o < vC ν 4 := by omega
          have hst := hR.st ho
          have hmn := hR.mn ho
          have next : ∀ (ls : Array Slot) (x : Nat), x = (canN ν (k + 1) (o + 1)).toNat → lh ls 4 (xl [(0, .ref m0), (1, .int (nI (k + 1))), (3, .int (nI o))]) → W p l e (xrm 9 0 0) s m args below meth c H locs 0 0 Q (F0 m 73 ls [.int (nI x)]) := by
            intro ls x hx2 hl
            refine x_istore_n hx hb dX3_setCapacity_73 rfl hl (by decide) (fun ls hl => ?_)
            refine n_iinc hx hb 1 dX3_setCapacity_74 hl rfl (by decide +kernel) (by decide) (fun ls hl => ?_)
            refine lv_goto (tgt := 36) hx hb dX3_setCapacity_77 (by decide) ?_
            exact ih (o + 1) (by omega) (by omega) _ _ _ hM hS (lh_sub hl _ ⟨rfl, rfl, xl_v (by rw [hx2]), rfl, trivial⟩)
          refine lv_iload_n hx hb dX3_setCapacity_44 rfl (lh_at hl rfl) ?_
          refine n_if_eq (tgt := 72) hx hb dX3_setCapacity_45 (by decide) (by omega) (fun c2 => ?_) (fun c2 => ?_)
          · have hc := tn0 c2
            refine n_const hx hb 0 dX3_setCapacity_72 (by decide +kernel) ?_
            exact next _ 0 (by simp [canN, hc]) (lh_sub hl _ ⟨rfl, rfl, rfl, trivial⟩)
          · have hc := tn1 c2
            refine lv_aload_n hx hb dX3_setCapacity_48 rfl (lh_at hl rfl) ?_
            refine m_getA hF hE hM 8 (by decide) q1322 rfl dX3_setCapacity_49 ?_
            refine lv_iload_n hx hb dX3_setCapacity_52 rfl (lh_at hl rfl) ?_
            refine m_ald hF hE hM (by decide) (by simp only [mLen]; omega) (by exact hst.1) dX3_setCapacity_53 ?_
            refine n_const hx hb 2 dX3_setCapacity_54 (by decide +kernel) ?_
            refine n_icmp_eq (tgt := 68) hx hb dX3_setCapacity_55 (by decide) (by omega) (by omega) (fun c3 => ?_) (fun c3 => ?_)
            · refine n_const hx hb 1 dX3_setCapacity_68 (by decide +kernel) ?_
              refine lv_goto (tgt := 73) hx hb dX3_setCapacity_69 (by decide) ?_
              exact next _ 1 (by simp [canN, hc, c3]) (lh_sub hl _ ⟨rfl, rfl, rfl, trivial⟩)
            · refine lv_aload_n hx hb dX3_setCapacity_58 rfl (lh_at hl rfl) ?_
              refine m_getA hF hE hM 10 (by decide) q1324 rfl dX3_setCapacity_59 ?_
              refine lv_iload_n hx hb dX3_setCapacity_62 rfl (lh_at hl rfl) ?_
              refine m_ald hF hE hM (by decide) (by simp only [mLen]; omega) (by exact hmn.1) dX3_setCapacity_63 ?_
              refine lv_iload_n hx hb dX3_setCapacity_64 rfl (lh_at hl rfl) ?_
              refine n_icmp_gt (tgt := 72) hx hb dX3_setCapacity_65 (by decide) (by omega) (by omega) (fun c4 => ?_) (fun c4 => ?_)
              · refine n_const hx hb 0 dX3_setCapacity_72 (by decide +kernel) ?_
                have c5 : ¬ vMn ν o ≤ k + 1 := by omega
                exact next _ 0 (by simp [canN, hc, c3, c5]) (lh_sub hl _ ⟨rfl, rfl, rfl, trivial⟩)
              · refine n_const hx hb 1 dX3_setCapacity_68 (by decide +kernel) ?_
                refine lv_goto (tgt := 73) hx hb dX3_setCapacity_69 (by decide) ?_
                have c5 : vMn ν o ≤ k + 1 := by omega
                exact next _ 1 (by simp [canN, hc, c3, c5]) (lh_sub hl _ ⟨rfl, rfl, rfl, trivial⟩)
    refine lv_if_ne (tgt := 21) hx hb dX3_setCapacity_12 (by decide) (fun d => ?_) (fun d => ?_)
    · have start : ∀ (ls : Array Slot) (x : Nat), x = (canN ν (k + 1) 0).toNat → lh ls 4 (xl [(0, .ref m0), (1, .int (nI (k + 1)))]) → W p l e (xrm 9 0 0) s m args below meth c H locs 0 0 Q (F0 m 33 ls [.int (nI x)]) := by
        intro ls x hx2 hl
        refine x_istore_n hx hb dX3_setCapacity_33 rfl hl (by decide) (fun ls hl => ?_)
        refine n_const hx hb 0 dX3_setCapacity_34 (by decide +kernel) ?_
        refine x_istore_n hx hb dX3_setCapacity_35 rfl hl (by decide) (fun ls hl => ?_)
        exact loop (vC ν 4 + 1) 0 (by omega) (by omega) _ _ _ hM hS (lh_sub hl _ ⟨rfl, rfl, xl_v (by rw [hx2]), rfl, trivial⟩)
      refine lv_aload_n hx hb dX3_setCapacity_21 rfl (lh_at hl rfl) ?_
      refine m_getI hF hE hM 13 (by decide) q1327 rfl (by exact hB.1) dX3_setCapacity_22 ?_
      refine n_if_ne (tgt := 32) hx hb dX3_setCapacity_25 (by decide) (by omega) (fun c1 => ?_) (fun c1 => ?_)
      · refine n_const hx hb 0 dX3_setCapacity_32 (by decide +kernel) ?_
        exact start _ 0 (by simp [canN, c1]) (lh_sub hl _ ⟨rfl, rfl, trivial⟩)
      · refine n_const hx hb 1 dX3_setCapacity_28 (by decide +kernel) ?_
        refine lv_goto (tgt := 33) hx hb dX3_setCapacity_29 (by decide) ?_
        exact start _ 1 (by simp [canN, c1]) (lh_sub hl _ ⟨rfl, rfl, trivial⟩)
    · exact absurd d (by decide)
