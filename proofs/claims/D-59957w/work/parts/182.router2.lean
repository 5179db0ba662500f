/-! the router: least, leastFromStart, length -/
set_option maxRecDepth 100000
theorem nI_clear {s k : Nat} (hs : s < 2 ^ 31) (hk : k < 31) (hb : s.testBit k = true) : nI s &&& (nI (1 <<< k) ^^^ (-1)) = nI (s - 2 ^ k) := by
  rw [shl1]
  apply nI_inj
  have e1 : (nI s &&& (nI (2 ^ k) ^^^ (-1))).toBitVec = (nI s).toBitVec &&& ((nI (2 ^ k)).toBitVec ^^^ (-1 : Int32).toBitVec) := rfl
  rw [e1, nI_bv, nI_bv, nI_bv]
  have e2 : (-1 : Int32).toBitVec = BitVec.allOnes 32 := by decide
  rw [e2]
  apply BitVec.eq_of_getLsbD_eq
  intro i hi
  rw [BitVec.getLsbD_and, BitVec.getLsbD_xor, BitVec.getLsbD_allOnes, BitVec.getLsbD_ofNat, BitVec.getLsbD_ofNat, BitVec.getLsbD_ofNat, Nat.testBit_two_pow]
  by_cases hik : i = k
  · subst hik
    rw [sub_bit hb]
    simp [hi]
  · rw [sub_bit_ne hb hik]
    have h2 : ¬ k = i := fun z => hik z.symm
    simp [hi, h2]
theorem dN_far {ν : nS} {S left last : Nat} (hV : vOk ν) (hO : okSet ν S) (hl : left < 2 ^ cntN ν S) (ha : last = 9 ∨ last < cntN ν S) (h0 : left ≠ 0) : dN ν S left last = minF 1000000 left (fun k => stepN ν S last k + dN ν S (left - 2 ^ k) k) (cntN ν S) := by
  have h512 := pow9 hO.2.2
  have h1 := dN_small hV hO left left last (Nat.le_refl _) hl ha
  have h2 : dN ν S left last = minF (if left = 0 then stepN ν S last 9 else 1000000000) left (fun k => stepN ν S last k + dN ν S (left - 2 ^ k) k) (cntN ν S) := dpN_eq
  obtain ⟨k, hk, hb, hv⟩ := dN_att hV hO hl ha h0
  have h3 : minF 1000000 left (fun k => stepN ν S last k + dN ν S (left - 2 ^ k) k) (cntN ν S) ≤ stepN ν S last k + dN ν S (left - 2 ^ k) k := minF_le_v _ hk hb
  rcases minF_att (init := 1000000) (S := left) (v := fun k => stepN ν S last k + dN ν S (left - 2 ^ k) k) (cntN ν S) with q | ⟨j, j1, j2, j3⟩
  · omega
  · have h4 : minF (if left = 0 then stepN ν S last 9 else 1000000000) left (fun k => stepN ν S last k + dN ν S (left - 2 ^ k) k) (cntN ν S) ≤ stepN ν S last j + dN ν S (left - 2 ^ j) j := minF_le_v _ j1 j2
    have h5 : minF 1000000 left (fun k => stepN ν S last k + dN ν S (left - 2 ^ k) k) (cntN ν S) = stepN ν S last j + dN ν S (left - 2 ^ j) j := j3
    omega
theorem minF_no {i S k : Nat} {v : Nat → Nat} (h : ¬ S.testBit k = true) : minF i S v (k + 1) = minF i S v k := by
  conv => lhs; unfold minF
  rw [if_neg h]
theorem minF_yes {i S k : Nat} {v : Nat → Nat} (h : S.testBit k = true) : minF i S v (k + 1) = if v k < minF i S v k then v k else minF i S v k := by
  conv => lhs; unfold minF
  rw [if_pos h]
theorem min_if {m v : Nat} : min m v = if v < m then v else m := by
  by_cases h : v < m
  · rw [if_pos h, Nat.min_eq_right (by omega)]
  · rw [if_neg h, Nat.min_eq_left (by omega)]
/-- the rows are right for the sets below i, and of i for the places below k -/
def rT (ν : nS) (S : Nat) (σ : rS) (i k : Nat) : Prop := ∀ left last, (left < i ∨ (left = i ∧ last < k)) → last < cntN ν S → left.testBit last = false → σ.2.2 left last = nI (dN ν S left last)
theorem rT.at {ν : nS} {S : Nat} {σ : rS} {i k set j : Nat} (h : rT ν S σ i k) (hs : set ≤ i) (hj : j < cntN ν S) (hb : set.testBit j = true) : σ.2.2 (set - 2 ^ j) j = nI (dN ν S (set - 2 ^ j) j) := by
  have h1 := bit_le hb
  have h2 := Nat.two_pow_pos j
  exact h _ _ (Or.inl (by omega)) hj (sub_bit hb)
theorem xk_least (l : Launch) (g : xg) (A : Nat → Prop) (w : xw_W) (ad : Nat → Nat) (σ : rS) (ν : nS) (S set a : Nat) (hB : rB g w ad ν) (hV : vOk ν) (hO : okSet ν S) (hσ : rP ν S σ) (hs : set < 2 ^ cntN ν S) (hs0 : set ≠ 0) (ha : a < cntN ν S)
    (hT : ∀ j, j < cntN ν S → set.testBit j = true → σ.2.2 (set - 2 ^ j) j = nI (dN ν S (set - 2 ^ j) j)) :
    Met l yX2_least (ws_ yX2_least cX2_least 5 (some .int)) (xrm 2 0 0) (rPc g A w ad σ [.int (nI set), .int (nI a)]) (rQi g A w ad (fun r u => r = nI (dN ν S set a) ∧ u = σ)) 0 0 A := by
  have hD := hO.2.2
  have h512 := pow9 hD
  have hpa := pl_ok hV hO ha
  have ha6 := hpa.lt hV.1.2 hV.2.1.2
  obtain ⟨wk, al, h0⟩ := hB.x0 (σ := σ)
  have hfar := dN_far hV hO hs (Or.inr ha) hs0
  have hsm : ∀ j, j < cntN ν S → set.testBit j = true → stepN ν S a j + dN ν S (set - 2 ^ j) j ≤ 90000 := by
    intro j hj hb
    have h3 := sub_lt2 (k := j) hs
    have h1 := dN_small hV hO (set - 2 ^ j) (set - 2 ^ j) j (Nat.le_refl _) h3 (Or.inr hj)
    have h2 := stepN_le hV hO (Or.inr ha) (Or.inr hj)
    omega
  refine x_start rfl (Nat.le_of_ble_eq_true rfl) ?_
  intro p e s m below meth c hx hb hr hlk hml hown hts hnm hE hM hS ls hl
  have hF : xFix p m c cX2_least 5 s _ RX2 := ⟨hx, hb, hml, hown, hts⟩
  generalize hargs : List.toArray _ = args at hts hF ⊢
  generalize hQ : MQ below _ _ s _ _ A = Q
  have J : ∀ (n k : Nat), k ≤ cntN ν S → cntN ν S < k + n → ∀ (H : Heap) (locs : List Loc) (ls : Array Slot), xw g A (rW g w ad σ) H → va_S A s.heap H locs → lh ls 5 (xl [(0, .ref (ad 8)), (1, .int (nI set)), (2, .int (nI a)), (3, .int (nI (minF 1000000 set (fun k => stepN ν S a k + dN ν S (set - 2 ^ k) k) k))), (4, .int (nI k))]) → W p l e (xrm 2 0 0) s m args below meth c H locs 0 0 Q (F0 m 6 ls []) := by
    intro n
    induction n with
    | zero => intro k h1 h2; exact absurd h2 (by omega)
    | succ n ih =>
      intro k h1 h2 H locs ls hM hS hl
      have hmle : minF 1000000 set (fun k => stepN ν S a k + dN ν S (set - 2 ^ k) k) k ≤ 1000000 := minF_le k
      refine lv_iload hx hb dX2_least_6 (lh_at hl rfl) ?_
      refine lv_aload_n hx hb dX2_least_8 rfl (lh_at hl rfl) ?_
      refine r_many hF hE hM q120 (by exact hσ.1) dX2_least_9 ?_
      refine n_icmp_ge (tgt := 73) hx hb dX2_least_12 (by decide) (by omega) (by omega) (fun c1 => ?_) (fun c1 => ?_)
      · refine lv_iload_n hx hb dX2_least_73 rfl (lh_at hl rfl) ?_
        refine hQ ▸ x_iret hx hb hr hlk hS σ ⟨?_, rfl⟩ hM dX2_least_74
        rw [hfar, show k = cntN ν S by omega]
      · have hk : k < cntN ν S := by omega
        refine lv_iload_n hx hb dX2_least_15 rfl (lh_at hl rfl) ?_
        refine lv_iload hx hb dX2_least_16 (lh_at hl rfl) ?_
        refine n_ishr hx hb (by omega) (by omega) dX2_least_18 ?_
        refine n_const hx hb 1 dX2_least_19 (by decide +kernel) ?_
        refine n_iand hx hb dX2_least_20 ?_
        refine n_const hx hb 1 dX2_least_21 (by decide +kernel) ?_
        refine n_icmp_ne (tgt := 67) hx hb dX2_least_22 (by decide) (by have := and1_lt set k; omega) (by omega) (fun c2 => ?_) (fun c2 => ?_)
        · have hb0 : ¬ set.testBit k = true := fun z => c2 (bit_and.mpr z)
          refine n_iinc hx hb 1 dX2_least_67 hl rfl (by decide +kernel) (by decide) (fun ls hl => ?_)
          refine lv_goto (tgt := 6) hx hb dX2_least_70 (by decide) ?_
          refine ih (k + 1) (by omega) (by omega) H locs ls hM hS (lh_sub hl _ ⟨rfl, rfl, rfl, ?_, rfl, trivial⟩)
          show _ = some (Value.int (nI (minF 1000000 set (fun k => stepN ν S a k + dN ν S (set - 2 ^ k) k) (k + 1))))
          rw [minF_no hb0]
          rfl
        · have hb1 : set.testBit k = true := bit_and.mp c2
          have hpk := pl_ok hV hO hk
          have hk6 := hpk.lt hV.1.2 hV.2.1.2
          have hsk := hsm k hk hb1
          have hsl := sub_lt2 (k := k) hs
          refine lv_iload_n hx hb dX2_least_25 rfl (lh_at hl rfl) ?_
          refine lv_aload_n hx hb dX2_least_26 rfl (lh_at hl rfl) ?_
          refine r_own hF hE hM 3 (by decide) q122 rfl dX2_least_27 ?_
          refine lv_aload_n hx hb dX2_least_30 rfl (lh_at hl rfl) ?_
          refine r_own hF hE hM 0 (by decide) q118 rfl dX2_least_31 ?_
          refine lv_iload_n hx hb dX2_least_34 rfl (lh_at hl rfl) ?_
          refine r_pald hF hE hM (by omega) (by exact hσ.2 a ha) dX2_least_35 ?_
          refine lv_aload_n hx hb dX2_least_36 rfl (lh_at hl rfl) ?_
          refine r_own hF hE hM 0 (by decide) q118 rfl dX2_least_37 ?_
          refine lv_iload hx hb dX2_least_40 (lh_at hl rfl) ?_
          refine r_pald hF hE hM (by omega) (by exact hσ.2 k hk) dX2_least_42 ?_
          refine x_calli (x_runVN (As := [.int (nI (vPl ν (stpN ν S a))), .int (nI (vPl ν (stpN ν S k)))]) hF hE hS hM hl (xk_between l g A (rW g w ad σ) (ad 0) (vPl ν (stpN ν S a)) (vPl ν (stpN ν S k)) ν ad wk al h0 hV.2.2.1.2 hV.2.1.2 (by omega) (by omega) (by omega) (by omega)) (xw.recv hE hM (by first | assumption | exact va_up_s | rfl | (refine (va_up_n ?_).trans ?_; rotate_left; (first | assumption | exact va_up_s | rfl | (refine (va_up_n ?_).trans ?_; rotate_left; (first | assumption | exact va_up_s | rfl | (refine (va_up_n ?_).trans ?_; rotate_left; (first | assumption | exact va_up_s | rfl | (refine (va_up_n ?_).trans ?_; rotate_left; (first | assumption | exact va_up_s | rfl | (refine (va_up_n ?_).trans ?_; rotate_left; (assumption); omega)); omega)); omega)); omega)); omega)) rfl) q1035 q926 qs6 q38 q927 ⟨rfl, by decide +kernel, by decide +kernel, by show _ = some 2; decide +kernel⟩ rfl rfl ⟨Nat.le_of_ble_eq_true rfl, Nat.le_of_ble_eq_true rfl⟩ rfl (Nat.le_of_ble_eq_true rfl) dX2_least_43 ⟨Nat.le_of_ble_eq_true rfl, Nat.le_of_ble_eq_true rfl⟩) hS (fun r uu H locs hq hM hS => ?_)
          have hst : wayN (vC ν 2) (vC ν 1) (vPl ν (stpN ν S a)) (vPl ν (stpN ν S k)) = stepN ν S a k := by
            unfold stepN ptN
            rw [if_neg (by omega), if_neg (by omega)]
          rw [hst] at hq
          subst hq
          refine lv_aload_n hx hb dX2_least_46 rfl (lh_at hl rfl) ?_
          refine r_own hF hE hM 1 (by decide) q119 rfl dX2_least_47 ?_
          refine lv_iload_n hx hb dX2_least_50 rfl (lh_at hl rfl) ?_
          refine n_const hx hb 1 dX2_least_51 (by decide +kernel) ?_
          refine lv_iload hx hb dX2_least_52 (lh_at hl rfl) ?_
          refine n_ishl hx hb (by omega) (by exact pw32 (by omega)) dX2_least_54 ?_
          refine lv_iconst (v := -1) hx hb dX2_least_55 (by decide +kernel) ?_
          refine lv_ixor hx hb dX2_least_56 ?_
          refine lv_iand hx hb dX2_least_57 ?_
          refine x_top (nI_clear (by omega) (by omega) hb1) ?_
          refine r_aald hF hE hM hB (by omega) dX2_least_58 ?_
          refine lv_iload hx hb dX2_least_59 (lh_at hl rfl) ?_
          refine r_rald hF hE hM (by omega) (by omega) (by exact hT k hk hb1) dX2_least_61 ?_
          refine n_iadd hx hb dX2_least_62 ?_
          refine n_min hx hb hml hl hown (hts _ q1036) (hts _ q133) (hts _ q43) (hts _ q134) (by omega) (by omega) (Nat.le_of_ble_eq_true rfl) (Nat.le_of_ble_eq_true rfl) (Nat.le_of_ble_eq_true rfl) (Nat.le_of_ble_eq_true rfl) dX2_least_63 ?_
          rw [min_if]
          refine x_istore_n hx hb dX2_least_66 rfl hl (by decide) (fun ls hl => ?_)
          refine n_iinc hx hb 1 dX2_least_67 hl rfl (by decide +kernel) (by decide) (fun ls hl => ?_)
          refine lv_goto (tgt := 6) hx hb dX2_least_70 (by decide) ?_
          refine ih (k + 1) (by omega) (by omega) H locs ls hM hS (lh_sub hl _ ⟨rfl, rfl, rfl, ?_, rfl, trivial⟩)
          show _ = some (Value.int (nI (minF 1000000 set (fun k => stepN ν S a k + dN ν S (set - 2 ^ k) k) (k + 1))))
          rw [minF_yes hb1]
          rfl
  refine lv_ldc (v := nI 1000000) hx hb hown (hts _ q1034) dX2_least_0 ?_
  refine x_istore_n hx hb dX2_least_2 rfl hl (by decide) (fun ls hl => ?_)
  refine n_const hx hb 0 dX2_least_3 (by decide +kernel) ?_
  refine x_istore hx hb dX2_least_4 hl (by decide) (fun ls hl => ?_)
  exact J (cntN ν S + 1) 0 (by omega) (by omega) _ _ ls hM hS (lh_sub hl _ ⟨rfl, rfl, rfl, rfl, rfl, trivial⟩)
theorem full_bit {d k : Nat} (h : k < d) : (2 ^ d - 1).testBit k = true := by
  rw [Nat.testBit_two_pow_sub_one]
  exact decide_eq_true h
theorem xk_leastFromStart (l : Launch) (g : xg) (A : Nat → Prop) (w : xw_W) (ad : Nat → Nat) (σ : rS) (ν : nS) (S : Nat) (hB : rB g w ad ν) (hV : vOk ν) (hO : okSet ν S) (hσ : rP ν S σ) (hc0 : cntN ν S ≠ 0)
    (hT : ∀ j, j < cntN ν S → σ.2.2 (2 ^ cntN ν S - 1 - 2 ^ j) j = nI (dN ν S (2 ^ cntN ν S - 1 - 2 ^ j) j)) :
    Met l yX2_leastFromStart (ws_ yX2_leastFromStart cX2_leastFromStart 3 (some .int)) (xrm 2 0 0) (rPc g A w ad σ []) (rQi g A w ad (fun r u => r = nI (lenN ν S) ∧ u = σ)) 0 0 A := by
  have hD := hO.2.2
  have h512 := pow9 hD
  have hpos := Nat.two_pow_pos (cntN ν S)
  obtain ⟨wk, al, h0⟩ := hB.x0 (σ := σ)
  have h2p : 2 ^ 1 ≤ 2 ^ cntN ν S := Nat.pow_le_pow_right (by decide) (by omega)
  have hfar : lenN ν S = _ := dN_far (last := 9) hV hO (by omega : 2 ^ cntN ν S - 1 < 2 ^ cntN ν S) (Or.inl rfl) (by omega)
  have hsm : ∀ j, j < cntN ν S → stepN ν S 9 j + dN ν S (2 ^ cntN ν S - 1 - 2 ^ j) j ≤ 90000 := by
    intro j hj
    have h3 := sub_lt2 (k := j) (by omega : 2 ^ cntN ν S - 1 < 2 ^ cntN ν S)
    have h1 := dN_small hV hO (2 ^ cntN ν S - 1 - 2 ^ j) (2 ^ cntN ν S - 1 - 2 ^ j) j (Nat.le_refl _) h3 (Or.inr hj)
    have h2 := stepN_le hV hO (Or.inl (rfl : 9 = 9)) (Or.inr hj)
    omega
  refine x_start rfl (Nat.le_of_ble_eq_true rfl) ?_
  intro p e s m below meth c hx hb hr hlk hml hown hts hnm hE hM hS ls hl
  have hF : xFix p m c cX2_leastFromStart 3 s _ RX2 := ⟨hx, hb, hml, hown, hts⟩
  generalize hargs : List.toArray _ = args at hts hF ⊢
  generalize hQ : MQ below _ _ s _ _ A = Q
  have J : ∀ (n k : Nat), k ≤ cntN ν S → cntN ν S < k + n → ∀ (H : Heap) (locs : List Loc) (ls : Array Slot), xw g A (rW g w ad σ) H → va_S A s.heap H locs → lh ls 3 (xl [(0, .ref (ad 8)), (1, .int (nI (minF 1000000 (2 ^ cntN ν S - 1) (fun k => stepN ν S 9 k + dN ν S (2 ^ cntN ν S - 1 - 2 ^ k) k) k))), (2, .int (nI k))]) → W p l e (xrm 2 0 0) s m args below meth c H locs 0 0 Q (F0 m 5 ls []) := by
    intro n
    induction n with
    | zero => intro k h1 h2; exact absurd h2 (by omega)
    | succ n ih =>
      intro k h1 h2 H locs ls hM hS hl
      have hmle : minF 1000000 (2 ^ cntN ν S - 1) (fun k => stepN ν S 9 k + dN ν S (2 ^ cntN ν S - 1 - 2 ^ k) k) k ≤ 1000000 := minF_le k
      refine lv_iload_n hx hb dX2_leastFromStart_5 rfl (lh_at hl rfl) ?_
      refine lv_aload_n hx hb dX2_leastFromStart_6 rfl (lh_at hl rfl) ?_
      refine r_many hF hE hM q120 (by exact hσ.1) dX2_leastFromStart_7 ?_
      refine n_icmp_ge (tgt := 59) hx hb dX2_leastFromStart_10 (by decide) (by omega) (by omega) (fun c1 => ?_) (fun c1 => ?_)
      · refine lv_iload_n hx hb dX2_leastFromStart_59 rfl (lh_at hl rfl) ?_
        refine hQ ▸ x_iret hx hb hr hlk hS σ ⟨?_, rfl⟩ hM dX2_leastFromStart_60
        rw [hfar, show k = cntN ν S by omega]
      · have hk : k < cntN ν S := by omega
        have hb1 := full_bit hk
        have hpk := pl_ok hV hO hk
        have hk6 := hpk.lt hV.1.2 hV.2.1.2
        have hsk := hsm k hk
        have hsl := sub_lt2 (k := k) (by omega : 2 ^ cntN ν S - 1 < 2 ^ cntN ν S)
        refine lv_iload_n hx hb dX2_leastFromStart_13 rfl (lh_at hl rfl) ?_
        refine lv_aload_n hx hb dX2_leastFromStart_14 rfl (lh_at hl rfl) ?_
        refine r_own hF hE hM 3 (by decide) q122 rfl dX2_leastFromStart_15 ?_
        refine lv_aload_n hx hb dX2_leastFromStart_18 rfl (lh_at hl rfl) ?_
        refine r_own hF hE hM 0 (by decide) q118 rfl dX2_leastFromStart_19 ?_
        refine lv_iload_n hx hb dX2_leastFromStart_22 rfl (lh_at hl rfl) ?_
        refine r_pald hF hE hM (by omega) (by exact hσ.2 k hk) dX2_leastFromStart_23 ?_
        refine x_calli (x_runVN (As := [.int (nI (vPl ν (stpN ν S k)))]) hF hE hS hM hl (xk_fromStart l g A (rW g w ad σ) (ad 0) (vPl ν (stpN ν S k)) ν ad wk al h0 (by omega)) (xw.recv hE hM (by first | assumption | exact va_up_s | rfl | (refine (va_up_n ?_).trans ?_; rotate_left; (first | assumption | exact va_up_s | rfl | (refine (va_up_n ?_).trans ?_; rotate_left; (first | assumption | exact va_up_s | rfl | (refine (va_up_n ?_).trans ?_; rotate_left; (first | assumption | exact va_up_s | rfl | (refine (va_up_n ?_).trans ?_; rotate_left; (first | assumption | exact va_up_s | rfl | (refine (va_up_n ?_).trans ?_; rotate_left; (assumption); omega)); omega)); omega)); omega)); omega)) rfl) q1029 q603 qs1 q38 q604 ⟨rfl, by decide +kernel, by decide +kernel, by show _ = some 1; decide +kernel⟩ rfl rfl ⟨Nat.le_of_ble_eq_true rfl, Nat.le_of_ble_eq_true rfl⟩ rfl (Nat.le_of_ble_eq_true rfl) dX2_leastFromStart_24 ⟨Nat.le_of_ble_eq_true rfl, Nat.le_of_ble_eq_true rfl⟩) hS (fun r uu H locs hq hM hS => ?_)
        have hst : vC ν 2 * (vPl ν (stpN ν S k) / 100) + vPl ν (stpN ν S k) % 100 = stepN ν S 9 k := by
          rw [w0_eq hpk hV]
          unfold stepN ptN
          rw [if_pos rfl, if_neg (by omega)]
        rw [hst] at hq
        subst hq
        refine lv_aload_n hx hb dX2_leastFromStart_27 rfl (lh_at hl rfl) ?_
        refine r_own hF hE hM 1 (by decide) q119 rfl dX2_leastFromStart_28 ?_
        refine n_const hx hb 1 dX2_leastFromStart_31 (by decide +kernel) ?_
        refine lv_aload_n hx hb dX2_leastFromStart_32 rfl (lh_at hl rfl) ?_
        refine r_many hF hE hM q120 (by exact hσ.1) dX2_leastFromStart_33 ?_
        refine n_ishl hx hb (by omega) (by exact pw32 (by omega)) dX2_leastFromStart_36 ?_
        rw [shl1]
        refine n_const hx hb 1 dX2_leastFromStart_37 (by decide +kernel) ?_
        refine n_isub hx hb (by omega) dX2_leastFromStart_38 ?_
        refine n_const hx hb 1 dX2_leastFromStart_39 (by decide +kernel) ?_
        refine lv_iload_n hx hb dX2_leastFromStart_40 rfl (lh_at hl rfl) ?_
        refine n_ishl hx hb (by omega) (by exact pw32 (by omega)) dX2_leastFromStart_41 ?_
        refine lv_iconst (v := -1) hx hb dX2_leastFromStart_42 (by decide +kernel) ?_
        refine lv_ixor hx hb dX2_leastFromStart_43 ?_
        refine lv_iand hx hb dX2_leastFromStart_44 ?_
        refine x_top (nI_clear (by omega) (by omega) hb1) ?_
        refine r_aald hF hE hM hB (by omega) dX2_leastFromStart_45 ?_
        refine lv_iload_n hx hb dX2_leastFromStart_46 rfl (lh_at hl rfl) ?_
        refine r_rald hF hE hM (by omega) (by omega) (by exact hT k hk) dX2_leastFromStart_47 ?_
        refine n_iadd hx hb dX2_leastFromStart_48 ?_
        refine n_min hx hb hml hl hown (hts _ q1036) (hts _ q133) (hts _ q43) (hts _ q134) (by omega) (by omega) (Nat.le_of_ble_eq_true rfl) (Nat.le_of_ble_eq_true rfl) (Nat.le_of_ble_eq_true rfl) (Nat.le_of_ble_eq_true rfl) dX2_leastFromStart_49 ?_
        rw [min_if]
        refine x_istore_n hx hb dX2_leastFromStart_52 rfl hl (by decide) (fun ls hl => ?_)
        refine n_iinc hx hb 1 dX2_leastFromStart_53 hl rfl (by decide +kernel) (by decide) (fun ls hl => ?_)
        refine lv_goto (tgt := 5) hx hb dX2_leastFromStart_56 (by decide) ?_
        refine ih (k + 1) (by omega) (by omega) H locs ls hM hS (lh_sub hl _ ⟨rfl, ?_, rfl, trivial⟩)
        show _ = some (Value.int (nI (minF 1000000 (2 ^ cntN ν S - 1) (fun k => stepN ν S 9 k + dN ν S (2 ^ cntN ν S - 1 - 2 ^ k) k) (k + 1))))
        rw [minF_yes hb1]
        rfl
  refine lv_ldc (v := nI 1000000) hx hb hown (hts _ q1034) dX2_leastFromStart_0 ?_
  refine x_istore_n hx hb dX2_leastFromStart_2 rfl hl (by decide) (fun ls hl => ?_)
  refine n_const hx hb 0 dX2_leastFromStart_3 (by decide +kernel) ?_
  refine x_istore_n hx hb dX2_leastFromStart_4 rfl hl (by decide) (fun ls hl => ?_)
  exact J (cntN ν S + 1) 0 (by omega) (by omega) _ _ ls hM hS (lh_sub hl _ ⟨rfl, rfl, rfl, trivial⟩)
