/-! THE REFERENCE: routes -/
set_option maxRecDepth 100000
def mRt (ν : nS) (S : Nat) (μ : mS) : Prop := μ.1 16 = nI (cntN ν S) ∧ ∀ k, k < cntN ν S → μ.2.1 17 k = nI (stpN ν S k)
theorem mRt.stp {ν : nS} {S : Nat} {μ : mS} (h : mRt ν S μ) (hR : mR ν μ) (hS : okSet ν S) {k : Nat} (hk : k < cntN ν S) : μ.2.1 17 k = nI (stpN ν S k) ∧ stpN ν S k < 20 ∧ μ.2.1 5 (stpN ν S k) = nI (ptN ν S k) ∧ k < 9 := by
  obtain ⟨h1, h2⟩ := laysF_in (pl := vPl ν) (S := S) 20 k hk
  have h3 := hS.2.2
  refine ⟨h.2 k hk, h1, ?_, by omega⟩
  have hp : μ.2.1 5 (stpN ν S k) = eP (vPl ν (stpN ν S k)) := hR.pl h1
  rw [hp]
  unfold ptN
  rw [if_neg (by omega)]
  exact eP_pos (hS.2.1 _ h1 h2)
set_option maxHeartbeats 4000000 in
theorem mk_step (l : Launch) (g : xg) (A : Nat → Prop) (m0 : Nat) (ad : Nat → Nat) (μ : mS) (ν : nS) (S : Nat) (hR : mR ν μ) (hO : okSet ν S) (hT : mRt ν S μ) (a b : Nat) (ha : a = 9 ∨ a < cntN ν S) (hb9 : b = 9 ∨ b < cntN ν S) :
    Met l yX3_step (ws_ yX3_step cX3_step 3 (some .int)) (xrm 1 0 0) (mPc g A m0 ad μ [.int (nI a), .int (nI b)]) (mQi g A m0 ad (fun r u => r = nI (stepN ν S a b) ∧ u = μ)) 0 0 A := by
  refine x_start rfl (Nat.le_of_ble_eq_true rfl) ?_
  intro p e s m below meth c hx hb hr hlk hml hown hts hnm hE hM hS ls hl
  have hF : xFix p m c cX3_step 3 s _ RX3 := ⟨hx, hb, hml, hown, hts⟩
  generalize hargs : List.toArray _ = args at hts hF ⊢
  generalize hQ : MQ below _ _ s _ _ A = Q
  have hD := hO.2.2
  have J43 : ∀ ls, lh ls 3 (xl [(0, .ref m0), (1, .int (nI a)), (2, .int (nI b))]) → W p l e (xrm 1 0 0) s m args below meth c s.heap [] 0 0 Q (F0 m 43 ls [.int (nI (ptN ν S b)), .int (nI (ptN ν S a)), .ref m0]) := by
    intro ls hl
    have hp1 := ptN_ok hR.1 hO ha
    have hp2 := ptN_ok hR.1 hO hb9
    refine m_calli (As := [.int (nI (ptN ν S a)), .int (nI (ptN ν S b))]) hF hE hM hS hl (mk_way l g A m0 ad μ (vC ν 2) (vC ν 1) (ptN ν S a) (ptN ν S b) hR.G.1 hR.P.1 hR.G.2.2 hR.P.2.2 (by omega) (by omega) hp1.2 hp2.2) q1415 q1417 qs23 q1418 ⟨rfl, by decide +kernel, by decide +kernel, by show _ = some 2; decide +kernel⟩ rfl rfl ⟨Nat.le_of_ble_eq_true rfl, Nat.le_of_ble_eq_true rfl⟩ rfl (Nat.le_of_ble_eq_true rfl) dX3_step_43 ⟨Nat.le_of_ble_eq_true rfl, Nat.le_of_ble_eq_true rfl⟩ (fun r u H locs hq hM hS => ?_)
    exact hQ ▸ x_iret hx hb hr hlk hS _ hq hM dX3_step_46
  have J22 : ∀ ls, lh ls 3 (xl [(0, .ref m0), (1, .int (nI a)), (2, .int (nI b))]) → W p l e (xrm 1 0 0) s m args below meth c s.heap [] 0 0 Q (F0 m 22 ls [.int (nI (ptN ν S a)), .ref m0]) := by
    intro ls hl
    refine lv_iload_n hx hb dX3_step_22 rfl (lh_at hl rfl) ?_
    refine n_bipush hx hb 9 dX3_step_23 (by decide +kernel) ?_
    refine n_icmp_ne (tgt := 32) hx hb dX3_step_25 (by decide) (by omega) (by omega) (fun c1 => ?_) (fun c1 => ?_)
    · have hk : b < cntN ν S := by omega
      have ht := hT.stp hR hO hk
      refine lv_aload_n hx hb dX3_step_32 rfl (lh_at hl rfl) ?_
      refine m_getA hF hE hM 5 (by decide) q1319 rfl dX3_step_33 ?_
      refine lv_aload_n hx hb dX3_step_36 rfl (lh_at hl rfl) ?_
      refine m_getA hF hE hM 17 (by decide) q1331 rfl dX3_step_37 ?_
      refine lv_iload_n hx hb dX3_step_40 rfl (lh_at hl rfl) ?_
      refine m_ald hF hE hM (by decide) (by simp only [mLen]; omega) (by exact ht.1) dX3_step_41 ?_
      refine m_ald hF hE hM (by decide) (by simp only [mLen]; omega) (by exact ht.2.2.1) dX3_step_42 ?_
      exact J43 _ hl
    · subst c1
      refine n_const hx hb 0 dX3_step_28 (by decide +kernel) ?_
      refine lv_goto (tgt := 43) hx hb dX3_step_29 (by decide) ?_
      exact J43 _ hl
  refine lv_aload_n hx hb dX3_step_0 rfl (lh_at hl rfl) ?_
  refine lv_iload_n hx hb dX3_step_1 rfl (lh_at hl rfl) ?_
  refine n_bipush hx hb 9 dX3_step_2 (by decide +kernel) ?_
  refine n_icmp_ne (tgt := 11) hx hb dX3_step_4 (by decide) (by omega) (by omega) (fun c1 => ?_) (fun c1 => ?_)
  · have hk : a < cntN ν S := by omega
    have ht := hT.stp hR hO hk
    refine lv_aload_n hx hb dX3_step_11 rfl (lh_at hl rfl) ?_
    refine m_getA hF hE hM 5 (by decide) q1319 rfl dX3_step_12 ?_
    refine lv_aload_n hx hb dX3_step_15 rfl (lh_at hl rfl) ?_
    refine m_getA hF hE hM 17 (by decide) q1331 rfl dX3_step_16 ?_
    refine lv_iload_n hx hb dX3_step_19 rfl (lh_at hl rfl) ?_
    refine m_ald hF hE hM (by decide) (by simp only [mLen]; omega) (by exact ht.1) dX3_step_20 ?_
    refine m_ald hF hE hM (by decide) (by simp only [mLen]; omega) (by exact ht.2.2.1) dX3_step_21 ?_
    exact J22 _ (lh_sub hl _ ⟨rfl, rfl, rfl, trivial⟩)
  · subst c1
    refine n_const hx hb 0 dX3_step_7 (by decide +kernel) ?_
    refine lv_goto (tgt := 22) hx hb dX3_step_8 (by decide) ?_
    exact J22 _ (lh_sub hl _ ⟨rfl, rfl, rfl, trivial⟩)
theorem bit_and {s k : Nat} : s >>> k &&& 1 = 1 ↔ s.testBit k = true := by
  rw [Nat.testBit]
  rw [Nat.and_comm 1]
  have h : s >>> k &&& 1 = (s >>> k) % 2 := Nat.and_one_is_mod _
  rw [h]
  simp
theorem bit_and0 {s k : Nat} : s >>> k &&& 1 = 0 ↔ s.testBit k = false := by
  rw [← Bool.not_eq_true, ← bit_and]
  have h : s >>> k &&& 1 = (s >>> k) % 2 := Nat.and_one_is_mod _
  rw [h]
  omega
theorem and1_lt (s k : Nat) : s >>> k &&& 1 < 2 := by
  have h : s >>> k &&& 1 = (s >>> k) % 2 := Nat.and_one_is_mod _
  rw [h]
  omega
theorem pow9 {d : Nat} (h : d ≤ 9) : 2 ^ d ≤ 512 := Nat.pow_le_pow_right (by decide) h
theorem shl1 (k : Nat) : 1 <<< k = 2 ^ k := by rw [Nat.shiftLeft_eq, Nat.one_mul]
set_option maxHeartbeats 4000000 in
theorem mk_wayOn (l : Launch) (g : xg) (A : Nat → Prop) (m0 : Nat) (ad : Nat → Nat) (μ : mS) (ν : nS) (S : Nat) (hR : mR ν μ) (hO : okSet ν S) (hT : mRt ν S μ) (left last : Nat) (hleft : left < 2 ^ cntN ν S) (hlast : last = 9 ∨ last < cntN ν S)
    (hon : ∀ k, k < cntN ν S → left.testBit k = true → μ.2.1 18 (10 * (left - 2 ^ k) + k) = nI (dN ν S (left - 2 ^ k) k)) :
    Met l yX3_wayOn (ws_ yX3_wayOn cX3_wayOn 6 (some .int)) (xrm 2 0 0) (mPc g A m0 ad μ [.int (nI left), .int (nI last)]) (mQi g A m0 ad (fun r u => r = nI (dN ν S left last) ∧ u = μ)) 0 0 A := by
  refine x_start rfl (Nat.le_of_ble_eq_true rfl) ?_
  intro p e s m below meth c hx hb hr hlk hml hown hts hnm hE hM hS ls hl
  have hF : xFix p m c cX3_wayOn 6 s _ RX3 := ⟨hx, hb, hml, hown, hts⟩
  generalize hargs : List.toArray _ = args at hts hF ⊢
  generalize hQ : MQ below _ _ s _ _ A = Q
  have hD := hO.2.2
  have h512 := pow9 hD
  have hstep : ∀ k, k < cntN ν S → stepN ν S last k ≤ 85 := fun k hk => stepN_le hR.1 hO hlast (Or.inr hk)
  have hstep9 : stepN ν S last 9 ≤ 85 := stepN_le hR.1 hO hlast (Or.inl rfl)
  have hd9 : ∀ x k, k < cntN ν S → dN ν S x k ≤ 1000000000 := fun x k hk => dpN_le (by have := stepN_le hR.1 hO (Or.inr hk) (Or.inl (rfl : 9 = 9)); omega)
  generalize hv : (fun k => stepN ν S last k + dN ν S (left - 2 ^ k) k) = v
  generalize hi0 : (if left = 0 then stepN ν S last 9 else 1000000000) = init
  have hdN : dN ν S left last = minF init left v (cntN ν S) := by
    rw [← hv, ← hi0]
    exact dpN_eq
  have hinit : init ≤ 1000000000 := by rw [← hi0]; split <;> omega
  have loop : ∀ (n i : Nat), i ≤ cntN ν S → cntN ν S < i + n → ∀ (H : Heap) (locs : List Loc) (ls : Array Slot), mW g A m0 ad μ H → va_S A s.heap H locs → lh ls 6 (xl [(0, .ref m0), (1, .int (nI left)), (2, .int (nI last)), (3, .int (nI (minF init left v i))), (4, .int (nI i))]) → W p l e (xrm 2 0 0) s m args below meth c H locs 0 0 Q (F0 m 20 ls []) := by
    intro n
    induction n with
    | zero => intro i h1 h2; exact absurd h2 (by omega)
    | succ n ih =>
      intro i h1 h2 H locs ls hM hS hl
      refine lv_iload hx hb dX3_wayOn_20 (lh_at hl rfl) ?_
      refine lv_aload_n hx hb dX3_wayOn_22 rfl (lh_at hl rfl) ?_
      refine m_getI hF hE hM 16 (by decide) q1330 rfl (by exact hT.1) dX3_wayOn_23 ?_
      refine n_icmp_ge (tgt := 85) hx hb dX3_wayOn_26 (by decide) (by omega) (by omega) (fun c1 => ?_) (fun c1 => ?_)
      · refine lv_iload_n hx hb dX3_wayOn_85 rfl (lh_at hl rfl) ?_
        have e : i = cntN ν S := by omega
        subst e
        exact hQ ▸ x_iret hx hb hr hlk hS _ ⟨by rw [hdN], rfl⟩ hM dX3_wayOn_86
      · have hi : i < cntN ν S := by omega
        refine lv_iload_n hx hb dX3_wayOn_29 rfl (lh_at hl rfl) ?_
        refine lv_iload hx hb dX3_wayOn_30 (lh_at hl rfl) ?_
        refine n_ishr hx hb (by omega) (by omega) dX3_wayOn_32 ?_
        refine n_const hx hb 1 dX3_wayOn_33 (by decide +kernel) ?_
        refine n_iand hx hb dX3_wayOn_34 ?_
        refine n_const hx hb 1 dX3_wayOn_35 (by decide +kernel) ?_
        refine n_icmp_ne (tgt := 79) hx hb dX3_wayOn_36 (by decide) (by have := and1_lt left i; omega) (by omega) (fun c2 => ?_) (fun c2 => ?_)
        · have hb0 : ¬ left.testBit i = true := fun z => c2 (bit_and.mpr z)
          refine n_iinc hx hb 1 dX3_wayOn_79 hl rfl (by decide +kernel) (by decide) (fun ls hl => ?_)
          refine lv_goto (tgt := 20) hx hb dX3_wayOn_82 (by decide) ?_
          exact ih (i + 1) (by omega) (by omega) _ _ _ hM hS (lh_sub hl _ ⟨rfl, rfl, rfl, xl_v (by simp [minF, hb0]), rfl, trivial⟩)
        · have hb1 : left.testBit i = true := bit_and.mp c2
          have hle := bit_le hb1
          have hpi := Nat.two_pow_pos i
          refine lv_aload_n hx hb dX3_wayOn_39 rfl (lh_at hl rfl) ?_
          refine lv_iload_n hx hb dX3_wayOn_40 rfl (lh_at hl rfl) ?_
          refine lv_iload hx hb dX3_wayOn_41 (lh_at hl rfl) ?_
          refine m_calli (As := [.int (nI last), .int (nI i)]) hF hE hM hS hl (mk_step l g A m0 ad μ ν S hR hO hT last i hlast (Or.inr hi)) q1471 q1473 qs29 q1474 ⟨rfl, by decide +kernel, by decide +kernel, by show _ = some 2; decide +kernel⟩ rfl rfl ⟨Nat.le_of_ble_eq_true rfl, Nat.le_of_ble_eq_true rfl⟩ rfl (Nat.le_of_ble_eq_true rfl) dX3_wayOn_43 ⟨Nat.le_of_ble_eq_true rfl, Nat.le_of_ble_eq_true rfl⟩ (fun r u H locs hq hM hS => ?_)
          obtain ⟨rfl, hu⟩ := hq
          rw [hu] at hM
          refine lv_aload_n hx hb dX3_wayOn_46 rfl (lh_at hl rfl) ?_
          refine m_getA hF hE hM 18 (by decide) q1332 rfl dX3_wayOn_47 ?_
          refine n_bipush hx hb 10 dX3_wayOn_50 (by decide +kernel) ?_
          refine lv_iload_n hx hb dX3_wayOn_52 rfl (lh_at hl rfl) ?_
          refine n_const hx hb 1 dX3_wayOn_53 (by decide +kernel) ?_
          refine lv_iload hx hb dX3_wayOn_54 (lh_at hl rfl) ?_
          refine n_ishl hx hb (by omega) (by exact pw32 (by omega)) dX3_wayOn_56 ?_
          rw [shl1]
          refine n_isub hx hb (by omega) dX3_wayOn_57 ?_
          refine n_imul hx hb dX3_wayOn_58 ?_
          refine lv_iload hx hb dX3_wayOn_59 (lh_at hl rfl) ?_
          refine n_iadd hx hb dX3_wayOn_61 ?_
          refine m_ald hF hE hM (by decide) (by show _ < 5120; omega) (by exact hon i hi hb1) dX3_wayOn_62 ?_
          refine n_iadd hx hb dX3_wayOn_63 ?_
          refine x_istore hx hb dX3_wayOn_64 hl (by decide) (fun ls hl => ?_)
          refine lv_iload hx hb dX3_wayOn_66 (lh_at hl rfl) ?_
          have hvi : stepN ν S last i + dN ν S (left - 2 ^ i) i = v i := by rw [← hv]
          have hv1 := hstep i hi
          have hv2 := hd9 (left - 2 ^ i) i hi
          have hm := minF_le (init := init) (S := left) (v := v) i
          refine lv_iload_n hx hb dX3_wayOn_68 rfl (lh_at hl rfl) ?_
          rw [hvi] at hl ⊢
          refine n_icmp_ge (tgt := 77) hx hb dX3_wayOn_69 (by decide) (by omega) (by omega) (fun c3 => ?_) (fun c3 => ?_)
          · refine lv_iload_n hx hb dX3_wayOn_77 rfl (lh_at hl rfl) ?_
            refine x_istore_n hx hb dX3_wayOn_78 rfl hl (by decide) (fun ls hl => ?_)
            refine n_iinc hx hb 1 dX3_wayOn_79 hl rfl (by decide +kernel) (by decide) (fun ls hl => ?_)
            refine lv_goto (tgt := 20) hx hb dX3_wayOn_82 (by decide) ?_
            exact ih (i + 1) (by omega) (by omega) _ _ _ hM hS (lh_sub hl _ ⟨rfl, rfl, rfl, xl_v (by simp only [minF, hb1, if_true]; rw [if_neg (by omega)]), rfl, trivial⟩)
          · refine lv_iload hx hb dX3_wayOn_72 (lh_at hl rfl) ?_
            refine lv_goto (tgt := 78) hx hb dX3_wayOn_74 (by decide) ?_
            refine x_istore_n hx hb dX3_wayOn_78 rfl hl (by decide) (fun ls hl => ?_)
            refine n_iinc hx hb 1 dX3_wayOn_79 hl rfl (by decide +kernel) (by decide) (fun ls hl => ?_)
            refine lv_goto (tgt := 20) hx hb dX3_wayOn_82 (by decide) ?_
            exact ih (i + 1) (by omega) (by omega) _ _ _ hM hS (lh_sub hl _ ⟨rfl, rfl, rfl, xl_v (by simp only [minF, hb1, if_true]; rw [if_pos (by omega)]), rfl, trivial⟩)
  refine lv_iload_n hx hb dX3_wayOn_0 rfl (lh_at hl rfl) ?_
  refine n_if_ne (tgt := 14) hx hb dX3_wayOn_1 (by decide) (by omega) (fun c1 => ?_) (fun c1 => ?_)
  · refine lv_ldc (v := nI 1000000000) hx hb hown (hts _ q1475) dX3_wayOn_14 ?_
    refine x_istore_n hx hb dX3_wayOn_16 rfl hl (by decide) (fun ls hl => ?_)
    refine n_const hx hb 0 dX3_wayOn_17 (by decide +kernel) ?_
    refine x_istore hx hb dX3_wayOn_18 hl (by decide) (fun ls hl => ?_)
    exact loop (cntN ν S + 1) 0 (by omega) (by omega) _ _ _ hM hS (lh_sub hl _ ⟨rfl, rfl, rfl, xl_v (by rw [← hi0, if_neg c1]; rfl), rfl, trivial⟩)
  · refine lv_aload_n hx hb dX3_wayOn_4 rfl (lh_at hl rfl) ?_
    refine lv_iload_n hx hb dX3_wayOn_5 rfl (lh_at hl rfl) ?_
    refine n_bipush hx hb 9 dX3_wayOn_6 (by decide +kernel) ?_
    refine m_calli (As := [.int (nI last), .int (nI 9)]) hF hE hM hS hl (mk_step l g A m0 ad μ ν S hR hO hT last 9 hlast (Or.inl rfl)) q1471 q1473 qs29 q1474 ⟨rfl, by decide +kernel, by decide +kernel, by show _ = some 2; decide +kernel⟩ rfl rfl ⟨Nat.le_of_ble_eq_true rfl, Nat.le_of_ble_eq_true rfl⟩ rfl (Nat.le_of_ble_eq_true rfl) dX3_wayOn_8 ⟨Nat.le_of_ble_eq_true rfl, Nat.le_of_ble_eq_true rfl⟩ (fun r u H locs hq hM hS => ?_)
    obtain ⟨rfl, hu⟩ := hq
    rw [hu] at hM
    refine lv_goto (tgt := 16) hx hb dX3_wayOn_11 (by decide) ?_
    refine x_istore_n hx hb dX3_wayOn_16 rfl hl (by decide) (fun ls hl => ?_)
    refine n_const hx hb 0 dX3_wayOn_17 (by decide +kernel) ?_
    refine x_istore hx hb dX3_wayOn_18 hl (by decide) (fun ls hl => ?_)
    exact loop (cntN ν S + 1) 0 (by omega) (by omega) _ _ _ hM hS (lh_sub hl _ ⟨rfl, rfl, rfl, xl_v (by rw [← hi0, if_pos c1]; rfl), rfl, trivial⟩)
/-- the least ways on, for all sets below n and, in the set n, for all last ones below m -/
def onOk (ν : nS) (S : Nat) (μ : mS) (n m : Nat) : Prop := ∀ left last, (left < n ∨ (left = n ∧ last < m)) → (last = 9 ∨ (last < cntN ν S ∧ left.testBit last = false)) → μ.2.1 18 (10 * left + last) = nI (dN ν S left last)
set_option maxHeartbeats 4000000 in
theorem mk_layRoute (l : Launch) (g : xg) (A : Nat → Prop) (m0 : Nat) (ad : Nat → Nat) (μ : mS) (ν : nS) (S : Nat) (hR : mR ν μ) (hO : okSet ν S) :
    Met l yX3_layRoute (ws_ yX3_layRoute cX3_layRoute 5 none) (xrm 3 0 0) (mPc g A m0 ad μ [.int (nI S)]) (mQv g A m0 ad (fun u => mAg μ u ∧ mRt ν S u ∧ onOk ν S u (2 ^ cntN ν S) 0)) 0 0 A := by
  refine x_start rfl (Nat.le_of_ble_eq_true rfl) ?_
  intro p e s m below meth c hx hb hr hlk hml hown hts hnm hE hM hS ls hl
  have hF : xFix p m c cX3_layRoute 5 s _ RX3 := ⟨hx, hb, hml, hown, hts⟩
  generalize hargs : List.toArray _ = args at hts hF ⊢
  generalize hQ : MQ below _ _ s _ _ A = Q
  have hD := hO.2.2
  have h512 := pow9 hD
  have hSl := hO.1
  have hpos0 := Nat.two_pow_pos (cntN ν S)
  have hS31 : S < 2 ^ 31 := by omega
  -- the sets, one by one
  have sets : ∀ (n i : Nat), i ≤ 2 ^ cntN ν S → 2 ^ cntN ν S < i + n → ∀ (u : mS) (H : Heap) (locs : List Loc) (ls : Array Slot), mAg μ u → mRt ν S u → onOk ν S u i 0 → mW g A m0 ad u H → va_S A s.heap H locs → lh ls 5 (xl [(0, .ref m0), (2, .int (nI i))]) → W p l e (xrm 3 0 0) s m args below meth c H locs 0 0 Q (F0 m 98 ls []) := by
    intro n
    induction n with
    | zero => intro i h1 h2; exact absurd h2 (by omega)
    | succ n ih =>
      intro i h1 h2 u H locs ls hG hT hon hM hS hl
      have hRu := hG.R hR
      refine lv_iload_n hx hb dX3_layRoute_98 rfl (lh_at hl rfl) ?_
      refine n_const hx hb 1 dX3_layRoute_99 (by decide +kernel) ?_
      refine lv_aload_n hx hb dX3_layRoute_100 rfl (lh_at hl rfl) ?_
      refine m_getI hF hE hM 16 (by decide) q1330 rfl (by exact hT.1) dX3_layRoute_101 ?_
      refine n_ishl hx hb (by omega) (by exact pw32 (by omega)) dX3_layRoute_104 ?_
      rw [shl1]
      refine n_icmp_ge (tgt := 184) hx hb dX3_layRoute_105 (by decide) (by omega) (by omega) (fun c1 => ?_) (fun c1 => ?_)
      · have e : i = 2 ^ cntN ν S := by omega
        subst e
        exact hQ ▸ x_vret hx hb hr hlk hS _ ⟨hG, hT, hon⟩ hM dX3_layRoute_184
      · have hi : i < 2 ^ cntN ν S := by omega
        have inner : ∀ (n2 k : Nat), k ≤ 10 → 10 < k + n2 → ∀ (u : mS) (H : Heap) (locs : List Loc) (ls : Array Slot), mAg μ u → mRt ν S u → onOk ν S u i k → mW g A m0 ad u H → va_S A s.heap H locs → lh ls 5 (xl [(0, .ref m0), (2, .int (nI i)), (3, .int (nI k))]) → W p l e (xrm 3 0 0) s m args below meth c H locs 0 0 Q (F0 m 110 ls []) := by
          intro n2
          induction n2 with
          | zero => intro k h1 h2; exact absurd h2 (by omega)
          | succ n2 ih2 =>
            intro k h3 h4 u H locs ls hG hT hon hM hS hl
            have hRu := hG.R hR
            refine lv_iload_n hx hb dX3_layRoute_110 rfl (lh_at hl rfl) ?_
            refine n_bipush hx hb 10 dX3_layRoute_111 (by decide +kernel) ?_
            refine n_icmp_ge (tgt := 178) hx hb dX3_layRoute_113 (by decide) (by omega) (by omega) (fun c2 => ?_) (fun c2 => ?_)
            · refine n_iinc hx hb 1 dX3_layRoute_178 hl rfl (by decide +kernel) (by decide) (fun ls hl => ?_)
              refine lv_goto (tgt := 98) hx hb dX3_layRoute_181 (by decide) ?_
              refine ih (i + 1) (by omega) (by omega) _ _ _ _ hG hT ?_ hM hS (lh_sub hl _ ⟨rfl, rfl, trivial⟩)
              intro left last hlt hla
              refine hon left last ?_ hla
              rcases hlt with hlt | hlt
              · rcases Nat.lt_or_ge left i with q | q
                · exact Or.inl q
                · refine Or.inr ⟨by omega, ?_⟩
                  rcases hla with hla | hla <;> omega
              · omega
            · have hk : k < 10 := by omega
              have store : ∀ (u : mS) (x : Int32) (H : Heap) (locs : List Loc) (ls : Array Slot), mAg μ u → mRt ν S u → onOk ν S u i k → ((k = 9 ∨ (k < cntN ν S ∧ i.testBit k = false)) → x = nI (dN ν S i k)) → mW g A m0 ad u H → va_S A s.heap H locs → lh ls 5 (xl [(0, .ref m0), (2, .int (nI i)), (3, .int (nI k))]) → W p l e (xrm 3 0 0) s m args below meth c H locs 0 0 Q (F0 m 171 ls [.int x, .int (nI (10 * i + k)), .ref (ad 18)]) := by
                intro u x H locs ls hG hT hon hxx hM hS hl
                refine m_ast hF hE hM hS (by decide) (by show _ < 5120; omega) dX3_layRoute_171 (fun H locs hM hS => ?_)
                refine n_iinc hx hb 1 dX3_layRoute_172 hl rfl (by decide +kernel) (by decide) (fun ls hl => ?_)
                refine lv_goto (tgt := 110) hx hb dX3_layRoute_175 (by decide) ?_
                refine ih2 (k + 1) (by omega) (by omega) (m_setA u 18 (upd (u.2.1 18) (10 * i + k) x)) _ _ _ (hG.a (by decide)) hT ?_ hM hS (lh_sub hl _ ⟨rfl, rfl, rfl, trivial⟩)
                intro left last hlt hla
                show upd (u.2.1 18) (10 * i + k) x (10 * left + last) = _
                by_cases e : 10 * left + last = 10 * i + k
                · have e1 : left = i ∧ last = k := by
                    rcases hla with q | q <;> omega
                  obtain ⟨rfl, rfl⟩ := e1
                  rw [pk_us]
                  exact hxx hla
                · rw [pk_un e]
                  refine hon left last ?_ hla
                  rcases hlt with q | ⟨q1, q2⟩
                  · exact Or.inl q
                  · refine Or.inr ⟨q1, ?_⟩
                    omega
              have yes : ∀ (ls : Array Slot), (k = 9 ∨ (k < cntN ν S ∧ i.testBit k = false)) → lh ls 5 (xl [(0, .ref m0), (2, .int (nI i)), (3, .int (nI k)), (4, .int (nI 1))]) → W p l e (xrm 3 0 0) s m args below meth c H locs 0 0 Q (F0 m 145 ls []) := by
                intro ls hc hl
                refine lv_aload_n hx hb dX3_layRoute_145 rfl (lh_at hl rfl) ?_
                refine m_getA hF hE hM 18 (by decide) q1332 rfl dX3_layRoute_146 ?_
                refine n_bipush hx hb 10 dX3_layRoute_149 (by decide +kernel) ?_
                refine lv_iload_n hx hb dX3_layRoute_151 rfl (lh_at hl rfl) ?_
                refine n_imul hx hb dX3_layRoute_152 ?_
                refine lv_iload_n hx hb dX3_layRoute_153 rfl (lh_at hl rfl) ?_
                refine n_iadd hx hb dX3_layRoute_154 ?_
                refine lv_iload hx hb dX3_layRoute_155 (lh_at hl rfl) ?_
                refine n_if_eq (tgt := 169) hx hb dX3_layRoute_157 (by decide) (by decide) (fun c9 => ?_) (fun c9 => ?_)
                · omega
                · refine lv_aload_n hx hb dX3_layRoute_160 rfl (lh_at hl rfl) ?_
                  refine lv_iload_n hx hb dX3_layRoute_161 rfl (lh_at hl rfl) ?_
                  refine lv_iload_n hx hb dX3_layRoute_162 rfl (lh_at hl rfl) ?_
                  have hk9 : k = 9 ∨ k < cntN ν S := hc.imp id (fun q => q.1)
                  have hpre : ∀ j, j < cntN ν S → i.testBit j = true → u.2.1 18 (10 * (i - 2 ^ j) + j) = nI (dN ν S (i - 2 ^ j) j) := by
                    intro j hj hbj
                    have h5 := bit_le hbj
                    have h6 := Nat.two_pow_pos j
                    exact hon _ _ (Or.inl (by omega)) (Or.inr ⟨hj, sub_bit hbj⟩)
                  refine m_calli (As := [.int (nI i), .int (nI k)]) hF hE hM hS hl (mk_wayOn l g A m0 ad u ν S hRu hO hT i k hi hk9 hpre) q1467 q1469 qs28 q1470 ⟨rfl, by decide +kernel, by decide +kernel, by show _ = some 2; decide +kernel⟩ rfl rfl ⟨Nat.le_of_ble_eq_true rfl, Nat.le_of_ble_eq_true rfl⟩ rfl (Nat.le_of_ble_eq_true rfl) dX3_layRoute_163 ⟨Nat.le_of_ble_eq_true rfl, Nat.le_of_ble_eq_true rfl⟩ (fun r u2 H locs hq hM hS => ?_)
                  obtain ⟨rfl, hu⟩ := hq
                  rw [hu] at hM
                  refine lv_goto (tgt := 171) hx hb dX3_layRoute_166 (by decide) ?_
                  exact store _ _ _ _ _ hG hT hon (fun _ => rfl) hM hS (lh_sub hl _ ⟨rfl, rfl, rfl, trivial⟩)
              have no : ∀ (ls : Array Slot), ¬ (k = 9 ∨ (k < cntN ν S ∧ i.testBit k = false)) → lh ls 5 (xl [(0, .ref m0), (2, .int (nI i)), (3, .int (nI k)), (4, .int (nI 0))]) → W p l e (xrm 3 0 0) s m args below meth c H locs 0 0 Q (F0 m 145 ls []) := by
                intro ls hc hl
                refine lv_aload_n hx hb dX3_layRoute_145 rfl (lh_at hl rfl) ?_
                refine m_getA hF hE hM 18 (by decide) q1332 rfl dX3_layRoute_146 ?_
                refine n_bipush hx hb 10 dX3_layRoute_149 (by decide +kernel) ?_
                refine lv_iload_n hx hb dX3_layRoute_151 rfl (lh_at hl rfl) ?_
                refine n_imul hx hb dX3_layRoute_152 ?_
                refine lv_iload_n hx hb dX3_layRoute_153 rfl (lh_at hl rfl) ?_
                refine n_iadd hx hb dX3_layRoute_154 ?_
                refine lv_iload hx hb dX3_layRoute_155 (lh_at hl rfl) ?_
                refine n_if_eq (tgt := 169) hx hb dX3_layRoute_157 (by decide) (by decide) (fun c9 => ?_) (fun c9 => ?_)
                · refine lv_ldc (v := nI 1000000000) hx hb hown (hts _ q1475) dX3_layRoute_169 ?_
                  exact store _ _ _ _ _ hG hT hon (fun z => absurd z hc) hM hS (lh_sub hl _ ⟨rfl, rfl, rfl, trivial⟩)
                · omega
              refine lv_iload_n hx hb dX3_layRoute_116 rfl (lh_at hl rfl) ?_
              refine n_bipush hx hb 9 dX3_layRoute_117 (by decide +kernel) ?_
              refine n_icmp_eq (tgt := 138) hx hb dX3_layRoute_119 (by decide) (by omega) (by omega) (fun c3 => ?_) (fun c3 => ?_)
              · refine n_const hx hb 1 dX3_layRoute_138 (by decide +kernel) ?_
                refine lv_goto (tgt := 143) hx hb dX3_layRoute_139 (by decide) ?_
                refine x_istore hx hb dX3_layRoute_143 hl (by decide) (fun ls hl => ?_)
                exact yes _ (Or.inl c3) (lh_sub hl _ ⟨rfl, rfl, rfl, rfl, trivial⟩)
              · refine lv_iload_n hx hb dX3_layRoute_122 rfl (lh_at hl rfl) ?_
                refine lv_aload_n hx hb dX3_layRoute_123 rfl (lh_at hl rfl) ?_
                refine m_getI hF hE hM 16 (by decide) q1330 rfl (by exact hT.1) dX3_layRoute_124 ?_
                refine n_icmp_ge (tgt := 142) hx hb dX3_layRoute_127 (by decide) (by omega) (by omega) (fun c4 => ?_) (fun c4 => ?_)
                · refine n_const hx hb 0 dX3_layRoute_142 (by decide +kernel) ?_
                  refine x_istore hx hb dX3_layRoute_143 hl (by decide) (fun ls hl => ?_)
                  exact no _ (by omega) (lh_sub hl _ ⟨rfl, rfl, rfl, rfl, trivial⟩)
                · refine lv_iload_n hx hb dX3_layRoute_130 rfl (lh_at hl rfl) ?_
                  refine lv_iload_n hx hb dX3_layRoute_131 rfl (lh_at hl rfl) ?_
                  refine n_ishr hx hb (by omega) (by omega) dX3_layRoute_132 ?_
                  refine n_const hx hb 1 dX3_layRoute_133 (by decide +kernel) ?_
                  refine n_iand hx hb dX3_layRoute_134 ?_
                  refine n_if_ne (tgt := 142) hx hb dX3_layRoute_135 (by decide) (by have := and1_lt i k; omega) (fun c5 => ?_) (fun c5 => ?_)
                  · refine n_const hx hb 0 dX3_layRoute_142 (by decide +kernel) ?_
                    refine x_istore hx hb dX3_layRoute_143 hl (by decide) (fun ls hl => ?_)
                    exact no _ (fun z => by
                      rcases z with z | z
                      · exact c3 z
                      · exact c5 (bit_and0.mpr z.2)) (lh_sub hl _ ⟨rfl, rfl, rfl, rfl, trivial⟩)
                  · refine n_const hx hb 1 dX3_layRoute_138 (by decide +kernel) ?_
                    refine lv_goto (tgt := 143) hx hb dX3_layRoute_139 (by decide) ?_
                    refine x_istore hx hb dX3_layRoute_143 hl (by decide) (fun ls hl => ?_)
                    exact yes _ (Or.inr ⟨by omega, bit_and0.mp c5⟩) (lh_sub hl _ ⟨rfl, rfl, rfl, rfl, trivial⟩)
        refine n_const hx hb 0 dX3_layRoute_108 (by decide +kernel) ?_
        refine x_istore_n hx hb dX3_layRoute_109 rfl hl (by decide) (fun ls hl => ?_)
        exact inner 11 0 (by omega) (by omega) _ _ _ _ hG hT hon hM hS (lh_sub hl _ ⟨rfl, rfl, rfl, trivial⟩)
  -- the products, one by one
  have prods : ∀ (n i : Nat), i ≤ 20 → 20 < i + n → ∀ (u : mS) (H : Heap) (locs : List Loc) (ls : Array Slot), mAg μ u → u.1 16 = nI (laysF (vPl ν) S i).1 → (∀ k, k < (laysF (vPl ν) S i).1 → u.2.1 17 k = nI ((laysF (vPl ν) S i).2 k)) → mW g A m0 ad u H → va_S A s.heap H locs → lh ls 5 (xl [(0, .ref m0), (1, .int (nI S)), (2, .int (nI i))]) → W p l e (xrm 3 0 0) s m args below meth c H locs 0 0 Q (F0 m 7 ls []) := by
    intro n
    induction n with
    | zero => intro i h1 h2; exact absurd h2 (by omega)
    | succ n ih =>
      intro i h1 h2 u H locs ls hG h16 h17 hM hS hl
      have hRu := hG.R hR
      refine lv_iload_n hx hb dX3_layRoute_7 rfl (lh_at hl rfl) ?_
      refine n_bipush hx hb 20 dX3_layRoute_8 (by decide +kernel) ?_
      refine n_icmp_ge (tgt := 96) hx hb dX3_layRoute_10 (by decide) (by omega) (by omega) (fun c1 => ?_) (fun c1 => ?_)
      · have e : i = 20 := by omega
        subst e
        refine n_const hx hb 0 dX3_layRoute_96 (by decide +kernel) ?_
        refine x_istore_n hx hb dX3_layRoute_97 rfl hl (by decide) (fun ls hl => ?_)
        exact sets (2 ^ cntN ν S + 1) 0 (by omega) (by omega) _ _ _ _ hG ⟨h16, h17⟩ (fun left last q => by omega) hM hS (lh_sub hl _ ⟨rfl, rfl, trivial⟩)
      · have hi : i < 20 := by omega
        refine lv_iload_n hx hb dX3_layRoute_13 rfl (lh_at hl rfl) ?_
        refine lv_iload_n hx hb dX3_layRoute_14 rfl (lh_at hl rfl) ?_
        refine n_ishr hx hb (by omega) (by omega) dX3_layRoute_15 ?_
        refine n_const hx hb 1 dX3_layRoute_16 (by decide +kernel) ?_
        refine n_iand hx hb dX3_layRoute_17 ?_
        refine n_const hx hb 1 dX3_layRoute_18 (by decide +kernel) ?_
        refine n_icmp_ne (tgt := 90) hx hb dX3_layRoute_19 (by decide) (by have := and1_lt S i; omega) (by omega) (fun c2 => ?_) (fun c2 => ?_)
        · have hb0 : ¬ S.testBit i = true := fun z => c2 (bit_and.mpr z)
          have e : laysF (vPl ν) S (i + 1) = laysF (vPl ν) S i := by simp only [laysF, if_neg hb0]
          refine n_iinc hx hb 1 dX3_layRoute_90 hl rfl (by decide +kernel) (by decide) (fun ls hl => ?_)
          refine lv_goto (tgt := 7) hx hb dX3_layRoute_93 (by decide) ?_
          exact ih (i + 1) (by omega) (by omega) _ _ _ _ hG (by rw [e]; exact h16) (by rw [e]; exact h17) hM hS (lh_sub hl _ ⟨rfl, rfl, rfl, trivial⟩)
        · have hb1 : S.testBit i = true := bit_and.mp c2
          have hlt : (laysF (vPl ν) S i).1 < cntN ν S := laysF_lt hi hb1
          have hpi : vPl ν i ≠ 0 := hO.2.1 i hi hb1
          have hpi2 : vPl ν i < 600 := by
            rcases hRu.plOk hi with q | q
            · exact absurd q hpi
            · exact (q.lt hR.A.2.2 hR.P.2.2).1
          generalize hr : laysF (vPl ν) S i = r at h16 h17 hlt
          have hnext : laysF (vPl ν) S (i + 1) = (r.1 + 1, insF r.2 i (insPos (vPl ν) r.2 i r.1)) := by simp only [laysF, if_pos hb1, hr]
          have hin : ∀ k, k < r.1 → r.2 k < 20 ∧ vPl ν (r.2 k) ≠ 0 ∧ vPl ν (r.2 k) < 600 := by
            intro k hk
            have h3 := laysF_in (pl := vPl ν) (S := S) i k (by rw [hr]; exact hk)
            rw [hr] at h3
            have h4 : r.2 k < 20 := by omega
            have h5 := hO.2.1 _ h4 h3.2
            refine ⟨h4, h5, ?_⟩
            rcases hRu.plOk h4 with q | q
            · exact absurd q h5
            · exact (q.lt hR.A.2.2 hR.P.2.2).1
          -- the stops behind move up
          have shift : ∀ (n2 k : Nat), k ≤ r.1 → k < n2 → ∀ (u : mS) (H : Heap) (locs : List Loc) (ls : Array Slot), mAg μ u → u.1 16 = nI r.1 → insPos (vPl ν) r.2 i k = insPos (vPl ν) r.2 i r.1 → (∀ x, x < k → u.2.1 17 x = nI (r.2 x)) → (∀ x, k < x → x ≤ r.1 → u.2.1 17 x = nI (r.2 (x - 1))) → mW g A m0 ad u H → va_S A s.heap H locs → lh ls 5 (xl [(0, .ref m0), (1, .int (nI S)), (2, .int (nI i)), (3, .int (nI k))]) → W p l e (xrm 3 0 0) s m args below meth c H locs 0 0 Q (F0 m 27 ls []) := by
            intro n2
            induction n2 with
            | zero => intro k h1 h2; exact absurd h2 (by omega)
            | succ n2 ih2 =>
              intro k hk hkn u H locs ls hG h16 hpos hlo hhi hM hS hl
              have hRu := hG.R hR
              have stop : k = insPos (vPl ν) r.2 i r.1 → ∀ ls, lh ls 5 (xl [(0, .ref m0), (1, .int (nI S)), (2, .int (nI i)), (3, .int (nI k))]) → W p l e (xrm 3 0 0) s m args below meth c H locs 0 0 Q (F0 m 73 ls []) := by
                intro hkJ ls hl
                refine lv_aload_n hx hb dX3_layRoute_73 rfl (lh_at hl rfl) ?_
                refine m_getA hF hE hM 17 (by decide) q1331 rfl dX3_layRoute_74 ?_
                refine lv_iload_n hx hb dX3_layRoute_77 rfl (lh_at hl rfl) ?_
                refine lv_iload_n hx hb dX3_layRoute_78 rfl (lh_at hl rfl) ?_
                refine m_ast hF hE hM hS (by decide) (by show _ < 9; omega) dX3_layRoute_79 (fun H locs hM hS => ?_)
                refine lv_aload_n hx hb dX3_layRoute_80 rfl (lh_at hl rfl) ?_
                refine lv_dup hx hb dX3_layRoute_81 rfl ?_
                refine m_getI hF hE hM 16 (by decide) q1330 rfl (by exact h16) dX3_layRoute_82 ?_
                refine n_const hx hb 1 dX3_layRoute_85 (by decide +kernel) ?_
                refine n_iadd hx hb dX3_layRoute_86 ?_
                refine m_putI hF hE hM hS 16 (by decide) q1330 rfl (by decide +kernel) rfl dX3_layRoute_87 (fun H locs hM hS => ?_)
                refine n_iinc hx hb 1 dX3_layRoute_90 hl rfl (by decide +kernel) (by decide) (fun ls hl => ?_)
                refine lv_goto (tgt := 7) hx hb dX3_layRoute_93 (by decide) ?_
                refine ih (i + 1) (by omega) (by omega) _ _ _ _ (hG.a (k := 17) (by decide)).i16 ?_ ?_ hM hS (lh_sub hl _ ⟨rfl, rfl, rfl, trivial⟩)
                · rw [hnext]
                  rfl
                · rw [hnext]
                  intro x hx
                  show upd (u.2.1 17) k (nI i) x = nI (insF r.2 i (insPos (vPl ν) r.2 i r.1) x)
                  rw [← hkJ]
                  unfold insF
                  by_cases e1 : x = k
                  · subst e1
                    rw [pk_us, if_neg (by omega), if_pos rfl]
                  · rw [pk_un e1]
                    by_cases e2 : x < k
                    · rw [if_pos e2, hlo x e2]
                    · rw [if_neg e2, if_neg e1, hhi x (by omega) (by have : x < r.1 + 1 := hx; omega)]
              refine lv_iload_n hx hb dX3_layRoute_27 rfl (lh_at hl rfl) ?_
              refine n_if_le (tgt := 73) hx hb dX3_layRoute_28 (by decide) (by omega) (fun c3 => ?_) (fun c3 => ?_)
              · have e : k = 0 := by omega
                subst e
                exact stop (by rw [← hpos]; rfl) _ hl
              · have hk0 : k - 1 < r.1 := by omega
                have h4 := hin (k - 1) hk0
                refine lv_aload_n hx hb dX3_layRoute_31 rfl (lh_at hl rfl) ?_
                refine m_getA hF hE hM 5 (by decide) q1319 rfl dX3_layRoute_32 ?_
                refine lv_aload_n hx hb dX3_layRoute_35 rfl (lh_at hl rfl) ?_
                refine m_getA hF hE hM 17 (by decide) q1331 rfl dX3_layRoute_36 ?_
                refine lv_iload_n hx hb dX3_layRoute_39 rfl (lh_at hl rfl) ?_
                refine n_const hx hb 1 dX3_layRoute_40 (by decide +kernel) ?_
                refine n_isub hx hb (by omega) dX3_layRoute_41 ?_
                refine m_ald hF hE hM (by decide) (by show _ < 9; omega) (by exact hlo (k - 1) (by omega)) dX3_layRoute_42 ?_
                refine m_ald hF hE hM (by decide) (by simp only [mLen]; omega) (by exact (hRu.pl h4.1).trans (eP_pos h4.2.1)) dX3_layRoute_43 ?_
                refine lv_aload_n hx hb dX3_layRoute_44 rfl (lh_at hl rfl) ?_
                refine m_getA hF hE hM 5 (by decide) q1319 rfl dX3_layRoute_45 ?_
                refine lv_iload_n hx hb dX3_layRoute_48 rfl (lh_at hl rfl) ?_
                refine m_ald hF hE hM (by decide) (by simp only [mLen]; omega) (by exact (hRu.pl hi).trans (eP_pos hpi)) dX3_layRoute_49 ?_
                have hk1 : k - 1 + 1 = k := by omega
                have hpk : insPos (vPl ν) r.2 i k = if vPl ν i < vPl ν (r.2 (k - 1)) then insPos (vPl ν) r.2 i (k - 1) else k := by
                  rw [← hk1]
                  rfl
                refine n_icmp_le (tgt := 73) hx hb dX3_layRoute_50 (by decide) (by omega) (by omega) (fun c4 => ?_) (fun c4 => ?_)
                · exact stop (by rw [← hpos, hpk, if_neg (by omega)]) _ hl
                · rw [if_pos (by omega)] at hpk
                  refine lv_aload_n hx hb dX3_layRoute_53 rfl (lh_at hl rfl) ?_
                  refine m_getA hF hE hM 17 (by decide) q1331 rfl dX3_layRoute_54 ?_
                  refine lv_iload_n hx hb dX3_layRoute_57 rfl (lh_at hl rfl) ?_
                  refine lv_aload_n hx hb dX3_layRoute_58 rfl (lh_at hl rfl) ?_
                  refine m_getA hF hE hM 17 (by decide) q1331 rfl dX3_layRoute_59 ?_
                  refine lv_iload_n hx hb dX3_layRoute_62 rfl (lh_at hl rfl) ?_
                  refine n_const hx hb 1 dX3_layRoute_63 (by decide +kernel) ?_
                  refine n_isub hx hb (by omega) dX3_layRoute_64 ?_
                  refine m_ald hF hE hM (by decide) (by show _ < 9; omega) (by exact hlo (k - 1) (by omega)) dX3_layRoute_65 ?_
                  refine m_ast hF hE hM hS (by decide) (by show _ < 9; omega) dX3_layRoute_66 (fun H locs hM hS => ?_)
                  refine n_idec hx hb dX3_layRoute_67 hl rfl (by omega) (by decide) (fun ls hl => ?_)
                  refine lv_goto (tgt := 27) hx hb dX3_layRoute_70 (by decide) ?_
                  refine ih2 (k - 1) (by omega) (by omega) _ _ _ _ (hG.a (k := 17) (by decide)) h16 (by rw [← hpk]; exact hpos) ?_ ?_ hM hS (lh_sub hl _ ⟨rfl, rfl, rfl, rfl, trivial⟩)
                  · intro x hx
                    show upd (u.2.1 17) k _ x = _
                    rw [pk_un (by omega)]
                    exact hlo x (by omega)
                  · intro x hx hx2
                    show upd (u.2.1 17) k _ x = _
                    by_cases e : x = k
                    · subst e
                      rw [pk_us]
                    · rw [pk_un e]
                      exact hhi x (by omega) hx2
          refine lv_aload_n hx hb dX3_layRoute_22 rfl (lh_at hl rfl) ?_
          refine m_getI hF hE hM 16 (by decide) q1330 rfl (by exact h16) dX3_layRoute_23 ?_
          refine x_istore_n hx hb dX3_layRoute_26 rfl hl (by decide) (fun ls hl => ?_)
          exact shift (r.1 + 1) r.1 (Nat.le_refl _) (Nat.lt_succ_self _) _ _ _ _ hG h16 rfl (fun x hx => h17 x hx) (fun x h3 h4 => by omega) hM hS (lh_sub hl _ ⟨rfl, rfl, rfl, rfl, trivial⟩)
  refine lv_aload_n hx hb dX3_layRoute_0 rfl (lh_at hl rfl) ?_
  refine n_const hx hb 0 dX3_layRoute_1 (by decide +kernel) ?_
  refine m_putI hF hE hM hS 16 (by decide) q1330 rfl (by decide +kernel) rfl dX3_layRoute_2 (fun H locs hM hS => ?_)
  refine n_const hx hb 0 dX3_layRoute_5 (by decide +kernel) ?_
  refine x_istore_n hx hb dX3_layRoute_6 rfl hl (by decide) (fun ls hl => ?_)
  exact prods 21 0 (by omega) (by omega) _ _ _ _ (mAg.rf.i16) rfl (fun k hk => absurd hk (Nat.not_lt_zero k)) hM hS (lh_sub hl _ ⟨rfl, rfl, rfl, trivial⟩)
