/-! the router: stop, byTrying -/
set_option maxRecDepth 100000
def eA (a : Nat) : Int32 := if a = 9 then -1 else nI a
theorem eA_ok {a d : Nat} (hd : d ≤ 9) (h : a = 9 ∨ a < d) : (a = 9 ∧ eA a = -1) ∨ (a < d ∧ eA a = nI a) := by
  unfold eA
  rcases h with h | h
  · exact Or.inl ⟨h, by rw [if_pos h]⟩
  · exact Or.inr ⟨h, by rw [if_neg (by omega)]⟩
theorem eA_lt {a : Nat} (h : a < 9) : eA a = nI a := by
  unfold eA
  rw [if_neg (by omega)]
theorem xk_stop (l : Launch) (g : xg) (A : Nat → Prop) (w : xw_W) (ad : Nat → Nat) (σ : rS) (ν : nS) (S t : Nat) (hB : rB g w ad ν) (hV : vOk ν) (hO : okSet ν S) (ht : t < cntN ν S) :
    Met l yX2_stop (ws_ yX2_stop cX2_stop 8 (some .int)) (xrm 4 0 0) (rPc g A w ad σ [.int (nI S), .int (nI t)]) (rQi g A w ad (fun r u => r = nI (ptN ν S (pathN ν S (t + 1)).2))) 0 0 A := by
  have hD := hO.2.2
  have h512 := pow9 hD
  have hpos := Nat.two_pow_pos (cntN ν S)
  refine x_start rfl (Nat.le_of_ble_eq_true rfl) ?_
  intro p e s m below meth c hx hb hr hlk hml hown hts hnm hE hM hS ls hl
  have hF : xFix p m c cX2_stop 8 s _ RX2 := ⟨hx, hb, hml, hown, hts⟩
  generalize hargs : List.toArray _ = args at hts hF ⊢
  generalize hQ : MQ below _ _ s _ _ A = Q
  refine lv_aload_n hx hb dX2_stop_0 rfl (lh_at hl rfl) ?_
  refine lv_iload_n hx hb dX2_stop_1 rfl (lh_at hl rfl) ?_
  refine x_calli (x_runV (As := [.int (nI S)]) hF hE hS hM hl (xk_length l g A w ad σ ν S hB hV hO) (xw.recv hE hM rW_8 rfl) q1300 q1022 q1023 q42 q1024 ⟨rfl, by decide +kernel, by decide +kernel, by show _ = some 1; decide +kernel⟩ rfl rfl ⟨Nat.le_of_ble_eq_true rfl, Nat.le_of_ble_eq_true rfl⟩ rfl (Nat.le_of_ble_eq_true rfl) dX2_stop_2 ⟨Nat.le_of_ble_eq_true rfl, Nat.le_of_ble_eq_true rfl⟩) hS (fun r u H locs hq hM hS => ?_)
  obtain ⟨rfl, hG, hT⟩ := hq
  have hstep : ∀ a b, (a = 9 ∨ a < cntN ν S) → b < cntN ν S → _ := fun a b ha hb => xk_step l g A w ad u ν S a b (eA a) hB hV hO hG hb (eA_ok hD ha)
  have outer : ∀ (n k : Nat), k ≤ t + 1 → t + 1 < k + n → ∀ (H : Heap) (locs : List Loc) (ls : Array Slot), xw g A (rW g w ad u) H → va_S A s.heap H locs → lh ls 8 (xl [(0, .ref (ad 8)), (2, .int (nI t)), (3, .int (nI (dN ν S (pathN ν S k).1 (pathN ν S k).2))), (4, .int (nI (pathN ν S k).1)), (5, .int (eA (pathN ν S k).2)), (6, .int (nI k))]) → W p l e (xrm 4 0 0) s m args below meth c H locs 0 0 Q (F0 m 22 ls []) := by
    intro n
    induction n with
    | zero => intro k h1 h2; exact absurd h2 (by omega)
    | succ n ih =>
      intro k h1 h2 H locs ls hM hS hl
      obtain ⟨p1, p2, p3⟩ := pathN_ok hV hO k (by omega)
      refine lv_iload hx hb dX2_stop_22 (lh_at hl rfl) ?_
      refine lv_iload_n hx hb dX2_stop_24 rfl (lh_at hl rfl) ?_
      refine n_icmp_gt (tgt := 109) hx hb dX2_stop_25 (by decide) (by omega) (by omega) (fun c1 => ?_) (fun c1 => ?_)
      · have e : k = t + 1 := by omega
        subst e
        obtain ⟨q1, q2, q3⟩ := pathN_ok hV hO t (by omega)
        obtain ⟨-, n1, -, -⟩ := nextN_ok hV hO q1 q2 (pathN_left hV hO ht)
        have e5 : eA (pathN ν S (t + 1)).2 = nI (pathN ν S (t + 1)).2 := eA_lt (by show nextN ν S _ _ < 9; omega)
        rw [e5] at hl
        have h5 : (pathN ν S (t + 1)).2 < cntN ν S := n1
        refine lv_aload_n hx hb dX2_stop_109 rfl (lh_at hl rfl) ?_
        refine r_own hF hE hM 0 (by decide) q118 rfl dX2_stop_110 ?_
        refine lv_iload hx hb dX2_stop_113 (lh_at hl rfl) ?_
        refine r_pald hF hE hM (by omega) (by exact hG.2 _ h5) dX2_stop_115 ?_
        refine hQ ▸ x_iret hx hb hr hlk hS u ?_ hM dX2_stop_116
        unfold ptN
        rw [if_neg (by omega)]
      · have hk : k < cntN ν S := by omega
        have hl0 := pathN_left hV hO hk
        obtain ⟨-, n1, n2, n3⟩ := nextN_ok hV hO p1 p2 hl0
        have hsub := dN_small hV hO _ _ _ (Nat.le_refl _) p1 p2
        unfold isNext at n2
        simp only [Bool.and_eq_true, decide_eq_true_eq] at n2
        have hnx : pathN ν S (k + 1) = ((pathN ν S k).1 - 2 ^ nextN ν S (pathN ν S k).1 (pathN ν S k).2, nextN ν S (pathN ν S k).1 (pathN ν S k).2) := rfl
        generalize nextN ν S (pathN ν S k).1 (pathN ν S k).2 = nx at n1 n2 n3 hnx
        generalize pathN ν S k = tp at p1 p2 p3 hl0 hsub n2 n3 hnx hl
        have inner : ∀ (n2' j : Nat), j ≤ nx → nx < j + n2' → ∀ (H : Heap) (locs : List Loc) (ls : Array Slot), xw g A (rW g w ad u) H → va_S A s.heap H locs → lh ls 8 (xl [(0, .ref (ad 8)), (2, .int (nI t)), (3, .int (nI (dN ν S tp.1 tp.2))), (4, .int (nI tp.1)), (5, .int (eA tp.2)), (6, .int (nI k)), (7, .int (nI j))]) → W p l e (xrm 4 0 0) s m args below meth c H locs 0 0 Q (F0 m 31 ls []) := by
          intro n2'
          induction n2' with
          | zero => intro j h1 h2; exact absurd h2 (by omega)
          | succ n2' ih2 =>
            intro j j1 j2 H locs ls hM hS hl
            have hj : j < cntN ν S := by omega
            have goon : j ≠ nx → ∀ (H : Heap) (locs : List Loc) (ls : Array Slot), xw g A (rW g w ad u) H → va_S A s.heap H locs → lh ls 8 (xl [(0, .ref (ad 8)), (2, .int (nI t)), (3, .int (nI (dN ν S tp.1 tp.2))), (4, .int (nI tp.1)), (5, .int (eA tp.2)), (6, .int (nI k)), (7, .int (nI j))]) → W p l e (xrm 4 0 0) s m args below meth c H locs 0 0 Q (F0 m 71 ls []) := by
              intro hne H locs ls hM hS hl
              refine n_iinc hx hb 1 dX2_stop_71 hl rfl (by decide +kernel) (by decide) (fun ls hl => ?_)
              refine lv_goto (tgt := 31) hx hb dX2_stop_74 (by decide) ?_
              exact ih2 (j + 1) (by omega) (by omega) H locs ls hM hS (lh_sub hl _ ⟨rfl, rfl, rfl, rfl, rfl, rfl, rfl, trivial⟩)
            refine lv_iload hx hb dX2_stop_31 (lh_at hl rfl) ?_
            refine lv_iload hx hb dX2_stop_33 (lh_at hl rfl) ?_
            refine n_ishr hx hb (by omega) (by omega) dX2_stop_35 ?_
            refine n_const hx hb 1 dX2_stop_36 (by decide +kernel) ?_
            refine n_iand hx hb dX2_stop_37 ?_
            refine n_if_eq (tgt := 71) hx hb dX2_stop_38 (by decide) (by have := and1_lt tp.1 j; omega) (fun c2 => ?_) (fun c2 => ?_)
            · refine goon (fun z => ?_) H locs ls hM hS (lh_sub hl _ ⟨rfl, rfl, rfl, rfl, rfl, rfl, rfl, trivial⟩)
              have hb0 := bit_and0.mp c2
              rw [z, n2.1] at hb0
              cases hb0
            · have hb1 : tp.1.testBit j = true := by
                cases hz : tp.1.testBit j with
                | true => rfl
                | false => exact absurd (bit_and0.mpr hz) c2
              have hsl := sub_lt2 (k := j) p1
              have hd2 := dN_small hV hO (tp.1 - 2 ^ j) (tp.1 - 2 ^ j) j (Nat.le_refl _) hsl (Or.inr hj)
              have hs2 := stepN_le hV hO p2 (Or.inr hj)
              refine lv_aload_n hx hb dX2_stop_41 rfl (lh_at hl rfl) ?_
              refine lv_iload hx hb dX2_stop_42 (lh_at hl rfl) ?_
              refine lv_iload hx hb dX2_stop_44 (lh_at hl rfl) ?_
              refine x_calli (x_runV (As := [.int (eA tp.2), .int (nI j)]) hF hE hS hM hl (hstep tp.2 j p2 hj) (xw.recv hE hM rW_8 rfl) q1265 q1267 qs18 q42 q1268 ⟨rfl, by decide +kernel, by decide +kernel, by show _ = some 2; decide +kernel⟩ rfl rfl ⟨Nat.le_of_ble_eq_true rfl, Nat.le_of_ble_eq_true rfl⟩ rfl (Nat.le_of_ble_eq_true rfl) dX2_stop_46 ⟨Nat.le_of_ble_eq_true rfl, Nat.le_of_ble_eq_true rfl⟩) hS (fun r u1 H locs hq2 hM hS => ?_)
              obtain ⟨rfl, he⟩ := hq2
              rw [he] at hM
              refine lv_aload_n hx hb dX2_stop_49 rfl (lh_at hl rfl) ?_
              refine r_own hF hE hM 1 (by decide) q119 rfl dX2_stop_50 ?_
              refine lv_iload hx hb dX2_stop_53 (lh_at hl rfl) ?_
              refine n_const hx hb 1 dX2_stop_55 (by decide +kernel) ?_
              refine lv_iload hx hb dX2_stop_56 (lh_at hl rfl) ?_
              refine n_ishl hx hb (by omega) (by exact pw32 (by omega)) dX2_stop_58 ?_
              refine lv_iconst (v := -1) hx hb dX2_stop_59 (by decide +kernel) ?_
              refine lv_ixor hx hb dX2_stop_60 ?_
              refine lv_iand hx hb dX2_stop_61 ?_
              refine x_top (nI_clear (by omega) (by omega) hb1) ?_
              refine r_aald hF hE hM hB (by omega) dX2_stop_62 ?_
              refine lv_iload hx hb dX2_stop_63 (lh_at hl rfl) ?_
              refine r_rald hF hE hM (by omega) (by omega) (by exact hT.at (by omega) hj hb1) dX2_stop_65 ?_
              refine n_iadd hx hb dX2_stop_66 ?_
              refine lv_iload_n hx hb dX2_stop_67 rfl (lh_at hl rfl) ?_
              refine n_icmp_eq (tgt := 77) hx hb dX2_stop_68 (by decide) (by omega) (by omega) (fun c3 => ?_) (fun c3 => ?_)
              · have hjn : j = nx := by
                  rcases Nat.lt_or_ge j nx with z | z
                  · have h9 := n3 j z
                    unfold isNext at h9
                    rw [hb1, decide_eq_true c3] at h9
                    cases h9
                  · omega
                subst hjn
                refine lv_iload_n hx hb dX2_stop_77 rfl (lh_at hl rfl) ?_
                refine lv_aload_n hx hb dX2_stop_78 rfl (lh_at hl rfl) ?_
                refine lv_iload hx hb dX2_stop_79 (lh_at hl rfl) ?_
                refine lv_iload hx hb dX2_stop_81 (lh_at hl rfl) ?_
                refine x_calli (x_runV (As := [.int (eA tp.2), .int (nI j)]) hF hE hS hM hl (hstep tp.2 j p2 hj) (xw.recv hE hM rW_8 rfl) q1265 q1267 qs18 q42 q1268 ⟨rfl, by decide +kernel, by decide +kernel, by show _ = some 2; decide +kernel⟩ rfl rfl ⟨Nat.le_of_ble_eq_true rfl, Nat.le_of_ble_eq_true rfl⟩ rfl (Nat.le_of_ble_eq_true rfl) dX2_stop_83 ⟨Nat.le_of_ble_eq_true rfl, Nat.le_of_ble_eq_true rfl⟩) hS (fun r u1 H locs hq2 hM hS => ?_)
                obtain ⟨rfl, he⟩ := hq2
                rw [he] at hM
                refine n_isub hx hb (by omega) dX2_stop_86 ?_
                refine x_istore_n hx hb dX2_stop_87 rfl hl (by decide) (fun ls hl => ?_)
                refine lv_iload hx hb dX2_stop_88 (lh_at hl rfl) ?_
                refine n_const hx hb 1 dX2_stop_90 (by decide +kernel) ?_
                refine lv_iload hx hb dX2_stop_91 (lh_at hl rfl) ?_
                refine n_ishl hx hb (by omega) (by exact pw32 (by omega)) dX2_stop_93 ?_
                refine lv_iconst (v := -1) hx hb dX2_stop_94 (by decide +kernel) ?_
                refine lv_ixor hx hb dX2_stop_95 ?_
                refine lv_iand hx hb dX2_stop_96 ?_
                refine x_top (nI_clear (by omega) (by omega) hb1) ?_
                refine x_istore hx hb dX2_stop_97 hl (by decide) (fun ls hl => ?_)
                refine lv_iload hx hb dX2_stop_99 (lh_at hl rfl) ?_
                refine x_istore hx hb dX2_stop_101 hl (by decide) (fun ls hl => ?_)
                refine n_iinc hx hb 1 dX2_stop_103 hl rfl (by decide +kernel) (by decide) (fun ls hl => ?_)
                refine lv_goto (tgt := 22) hx hb dX2_stop_106 (by decide) ?_
                refine ih (k + 1) (by omega) (by omega) H locs ls hM hS (lh_sub hl _ ⟨rfl, rfl, ?_, ?_, ?_, rfl, trivial⟩)
                · rw [hnx]
                  show _ = some (Value.int (nI (dN ν S (tp.1 - 2 ^ j) j)))
                  have h9 : dN ν S (tp.1 - 2 ^ j) j = dN ν S tp.1 tp.2 - stepN ν S tp.2 j := by omega
                  rw [h9]
                  rfl
                · rw [hnx]
                  rfl
                · rw [hnx]
                  show _ = some (Value.int (eA j))
                  rw [eA_lt (show j < 9 by omega)]
                  rfl
              · refine goon (fun z => c3 ?_) H locs ls hM hS (lh_sub hl _ ⟨rfl, rfl, rfl, rfl, rfl, rfl, rfl, trivial⟩)
                rw [z]
                exact n2.2
        refine n_const hx hb 0 dX2_stop_28 (by decide +kernel) ?_
        refine x_istore hx hb dX2_stop_29 hl (by decide) (fun ls hl => ?_)
        exact inner (nx + 1) 0 (by omega) (by omega) H locs ls hM hS (lh_sub hl _ ⟨rfl, rfl, rfl, rfl, rfl, rfl, rfl, trivial⟩)
  refine x_istore_n hx hb dX2_stop_5 rfl hl (by decide) (fun ls hl => ?_)
  refine n_const hx hb 1 dX2_stop_6 (by decide +kernel) ?_
  refine lv_aload_n hx hb dX2_stop_7 rfl (lh_at hl rfl) ?_
  refine r_many hF hE hM q120 (by exact hG.1) dX2_stop_8 ?_
  refine n_ishl hx hb (by omega) (by exact pw32 (by omega)) dX2_stop_11 ?_
  rw [shl1]
  refine n_const hx hb 1 dX2_stop_12 (by decide +kernel) ?_
  refine n_isub hx hb (by omega) dX2_stop_13 ?_
  refine x_istore hx hb dX2_stop_14 hl (by decide) (fun ls hl => ?_)
  refine lv_iconst (v := -1) hx hb dX2_stop_16 (by decide +kernel) ?_
  refine x_istore hx hb dX2_stop_17 hl (by decide) (fun ls hl => ?_)
  refine n_const hx hb 0 dX2_stop_19 (by decide +kernel) ?_
  refine x_istore hx hb dX2_stop_20 hl (by decide) (fun ls hl => ?_)
  exact outer (t + 2) 0 (by omega) (by omega) H locs ls hM hS (lh_sub hl _ ⟨rfl, rfl, rfl, rfl, rfl, rfl, trivial⟩)
theorem cntB_le {S : Nat} : ∀ d, cntB S d ≤ d
  | 0 => Nat.le_refl _
  | d + 1 => by
    have := cntB_le (S := S) d
    unfold cntB
    split <;> omega
theorem xk_byTrying (l : Launch) (g : xg) (A : Nat → Prop) (w : xw_W) (ad : Nat → Nat) (σ : rS) (ν : nS) (S : Nat) (hB : rB g w ad ν) (hV : vOk ν) (hO : okSet ν S) (hG : rP ν S σ) : ∀ (d set a : Nat), set < 2 ^ cntN ν S → (a = 9 ∨ a < cntN ν S) → (set = 0 → a ≠ 9) → cntB set (cntN ν S) = d →
    Met l yX2_byTrying (ws_ yX2_byTrying cX2_byTrying 5 (some .int)) (xrm (3+d) 0 0) (rPc g A w ad σ [.int (nI set), .int (eA a)]) (rQi g A w ad (fun r u => r = nI (dN ν S set a) ∧ u = σ)) 0 0 A := by
  have hD := hO.2.2
  have h512 := pow9 hD
  intro d
  induction d with
  | zero =>
    intro set a hs ha h09 hd
    have hs0 : set = 0 := by
      cases Nat.eq_zero_or_pos set with
      | inl h => exact h
      | inr h =>
        obtain ⟨k, hk, hb⟩ := has_bit hs (by omega)
        have := cntB_sub hb _ hk
        omega
    subst hs0
    have ha' : a < cntN ν S := ha.resolve_left (h09 rfl)
    have hpa := pl_ok hV hO ha'
    have ha6 := hpa.lt hV.1.2 hV.2.1.2
    rw [eA_lt (show a < 9 by omega)]
    obtain ⟨wk, al, h0⟩ := hB.x0 (σ := σ)
    refine x_start rfl (Nat.le_of_ble_eq_true rfl) ?_
    intro p e s m below meth c hx hb hr hlk hml hown hts hnm hE hM hS ls hl
    have hF : xFix p m c cX2_byTrying 5 s _ RX2 := ⟨hx, hb, hml, hown, hts⟩
    generalize hargs : List.toArray _ = args at hts hF ⊢
    generalize hQ : MQ below _ _ s _ _ A = Q
    refine lv_iload_n hx hb dX2_byTrying_0 rfl (lh_at hl rfl) ?_
    refine n_if_ne (tgt := 18) hx hb dX2_byTrying_1 (by decide) (by omega) (fun c1 => ?_) (fun c1 => ?_)
    · omega
    · refine lv_aload_n hx hb dX2_byTrying_4 rfl (lh_at hl rfl) ?_
      refine r_own hF hE hM 3 (by decide) q122 rfl dX2_byTrying_5 ?_
      refine lv_aload_n hx hb dX2_byTrying_8 rfl (lh_at hl rfl) ?_
      refine r_own hF hE hM 0 (by decide) q118 rfl dX2_byTrying_9 ?_
      refine lv_iload_n hx hb dX2_byTrying_12 rfl (lh_at hl rfl) ?_
      refine r_pald hF hE hM (by omega) (by exact hG.2 a ha') dX2_byTrying_13 ?_
      refine x_calli (x_runVN (As := [.int (nI (vPl ν (stpN ν S a)))]) hF hE hS hM hl (xk_fromStart l g A (rW g w ad σ) (ad 0) (vPl ν (stpN ν S a)) ν ad wk al h0 (by omega)) (xw.recv hE hM (by first | assumption | exact va_up_s | rfl | (refine (va_up_n ?_).trans ?_; rotate_left; (first | assumption | exact va_up_s | rfl | (refine (va_up_n ?_).trans ?_; rotate_left; (first | assumption | exact va_up_s | rfl | (refine (va_up_n ?_).trans ?_; rotate_left; (first | assumption | exact va_up_s | rfl | (refine (va_up_n ?_).trans ?_; rotate_left; (first | assumption | exact va_up_s | rfl | (refine (va_up_n ?_).trans ?_; rotate_left; (assumption); omega)); omega)); omega)); omega)); omega)) rfl) q1029 q603 qs1 q38 q604 ⟨rfl, by decide +kernel, by decide +kernel, by show _ = some 1; decide +kernel⟩ rfl rfl ⟨Nat.le_of_ble_eq_true rfl, Nat.le_of_ble_eq_true rfl⟩ rfl (Nat.le_of_ble_eq_true rfl) dX2_byTrying_14 ⟨Nat.le_of_ble_eq_true rfl, Nat.le_of_ble_eq_true rfl⟩) hS (fun r uu H locs hq hM hS => ?_)
      refine hQ ▸ x_iret hx hb hr hlk hS σ ⟨?_, rfl⟩ hM dX2_byTrying_17
      rw [hq, w0_eq hpa hV]
      congr 1
      unfold dN
      rw [dpN_eq, minF_0, if_pos rfl]
      unfold stepN ptN
      rw [if_neg (by omega), if_pos rfl]
      exact wayN_comm
  | succ d ihd =>
    intro set a hs ha h09 hd
    have hs0 : set ≠ 0 := by
      intro z
      rw [z, cntB_0] at hd
      omega
    have hfar := dN_far hV hO hs ha hs0
    have hsm : ∀ j, j < cntN ν S → set.testBit j = true → stepN ν S a j + dN ν S (set - 2 ^ j) j ≤ 90000 := by
      intro j hj hb
      have h3 := sub_lt2 (k := j) hs
      have h1 := dN_small hV hO (set - 2 ^ j) (set - 2 ^ j) j (Nat.le_refl _) h3 (Or.inr hj)
      have h2 := stepN_le hV hO ha (Or.inr hj)
      omega
    have hstep : ∀ b, b < cntN ν S → _ := fun b hb => xk_step l g A w ad σ ν S a b (eA a) hB hV hO hG hb (eA_ok hD ha)
    have hd9 : d + 1 ≤ 9 := by
      have := cntB_le (S := set) (cntN ν S)
      omega
    refine x_start rfl (Nat.le_of_ble_eq_true rfl) ?_
    intro p e s m below meth c hx hb hr hlk hml hown hts hnm hE hM hS ls hl
    have hF : xFix p m c cX2_byTrying 5 s _ RX2 := ⟨hx, hb, hml, hown, hts⟩
    generalize hargs : List.toArray _ = args at hts hF ⊢
    generalize hQ : MQ below _ _ s _ _ A = Q
    have J : ∀ (n k : Nat), k ≤ cntN ν S → cntN ν S < k + n → ∀ (H : Heap) (locs : List Loc) (ls : Array Slot), xw g A (rW g w ad σ) H → va_S A s.heap H locs → lh ls 5 (xl [(0, .ref (ad 8)), (1, .int (nI set)), (2, .int (eA a)), (3, .int (nI (minF 1000000 set (fun k => stepN ν S a k + dN ν S (set - 2 ^ k) k) k))), (4, .int (nI k))]) → W p l e (xrm (3 + (d + 1)) 0 0) s m args below meth c H locs 0 0 Q (F0 m 24 ls []) := by
      intro n
      induction n with
      | zero => intro k h1 h2; exact absurd h2 (by omega)
      | succ n ih =>
        intro k h1 h2 H locs ls hM hS hl
        have hmle : minF 1000000 set (fun k => stepN ν S a k + dN ν S (set - 2 ^ k) k) k ≤ 1000000 := minF_le k
        refine lv_iload hx hb dX2_byTrying_24 (lh_at hl rfl) ?_
        refine lv_aload_n hx hb dX2_byTrying_26 rfl (lh_at hl rfl) ?_
        refine r_many hF hE hM q120 (by exact hG.1) dX2_byTrying_27 ?_
        refine n_icmp_ge (tgt := 76) hx hb dX2_byTrying_30 (by decide) (by omega) (by omega) (fun c1 => ?_) (fun c1 => ?_)
        · refine lv_iload_n hx hb dX2_byTrying_76 rfl (lh_at hl rfl) ?_
          refine hQ ▸ x_iret hx hb hr hlk hS σ ⟨?_, rfl⟩ hM dX2_byTrying_77
          rw [hfar, show k = cntN ν S by omega]
        · have hk : k < cntN ν S := by omega
          refine lv_iload_n hx hb dX2_byTrying_33 rfl (lh_at hl rfl) ?_
          refine lv_iload hx hb dX2_byTrying_34 (lh_at hl rfl) ?_
          refine n_ishr hx hb (by omega) (by omega) dX2_byTrying_36 ?_
          refine n_const hx hb 1 dX2_byTrying_37 (by decide +kernel) ?_
          refine n_iand hx hb dX2_byTrying_38 ?_
          refine n_const hx hb 1 dX2_byTrying_39 (by decide +kernel) ?_
          refine n_icmp_ne (tgt := 70) hx hb dX2_byTrying_40 (by decide) (by have := and1_lt set k; omega) (by omega) (fun c2 => ?_) (fun c2 => ?_)
          · have hb0 : ¬ set.testBit k = true := fun z => c2 (bit_and.mpr z)
            refine n_iinc hx hb 1 dX2_byTrying_70 hl rfl (by decide +kernel) (by decide) (fun ls hl => ?_)
            refine lv_goto (tgt := 24) hx hb dX2_byTrying_73 (by decide) ?_
            refine ih (k + 1) (by omega) (by omega) H locs ls hM hS (lh_sub hl _ ⟨rfl, rfl, rfl, ?_, rfl, trivial⟩)
            show _ = some (Value.int (nI (minF 1000000 set (fun k => stepN ν S a k + dN ν S (set - 2 ^ k) k) (k + 1))))
            rw [minF_no hb0]
            rfl
          · have hb1 : set.testBit k = true := bit_and.mp c2
            have hsk := hsm k hk hb1
            have hsl := sub_lt2 (k := k) hs
            have hcb := cntB_sub hb1 _ hk
            refine lv_iload_n hx hb dX2_byTrying_43 rfl (lh_at hl rfl) ?_
            refine lv_aload_n hx hb dX2_byTrying_44 rfl (lh_at hl rfl) ?_
            refine lv_iload_n hx hb dX2_byTrying_45 rfl (lh_at hl rfl) ?_
            refine lv_iload hx hb dX2_byTrying_46 (lh_at hl rfl) ?_
            refine x_calli (x_runV (As := [.int (eA a), .int (nI k)]) hF hE hS hM hl (hstep k hk) (xw.recv hE hM rW_8 rfl) q1265 q1267 qs18 q42 q1268 ⟨rfl, by decide +kernel, by decide +kernel, by show _ = some 2; decide +kernel⟩ rfl rfl (by simp only [xrm]; omega) rfl (Nat.le_of_ble_eq_true rfl) dX2_byTrying_48 (by simp only [xrm]; omega)) hS (fun r u1 H locs hq2 hM hS => ?_)
            obtain ⟨rfl, he⟩ := hq2
            rw [he] at hM
            refine lv_aload_n hx hb dX2_byTrying_51 rfl (lh_at hl rfl) ?_
            refine lv_iload_n hx hb dX2_byTrying_52 rfl (lh_at hl rfl) ?_
            refine n_const hx hb 1 dX2_byTrying_53 (by decide +kernel) ?_
            refine lv_iload hx hb dX2_byTrying_54 (lh_at hl rfl) ?_
            refine n_ishl hx hb (by omega) (by exact pw32 (by omega)) dX2_byTrying_56 ?_
            refine lv_iconst (v := -1) hx hb dX2_byTrying_57 (by decide +kernel) ?_
            refine lv_ixor hx hb dX2_byTrying_58 ?_
            refine lv_iand hx hb dX2_byTrying_59 ?_
            refine x_top (nI_clear (by omega) (by omega) hb1) ?_
            have hrec := ihd (set - 2 ^ k) k hsl (Or.inr hk) (fun _ => by omega) (by omega)
            rw [eA_lt (show k < 9 by omega)] at hrec
            refine lv_iload hx hb dX2_byTrying_60 (lh_at hl rfl) ?_
            refine x_calli (x_runV (As := [.int (nI (set - 2 ^ k)), .int (nI k)]) hF hE hS hM hl (hrec) (xw.recv hE hM rW_8 rfl) q1269 q1262 q1263 q42 q1264 ⟨rfl, by decide +kernel, by decide +kernel, by show _ = some 2; decide +kernel⟩ rfl rfl (by simp only [xrm]; omega) rfl (Nat.le_of_ble_eq_true rfl) dX2_byTrying_62 (by simp only [xrm]; omega)) hS (fun r u1 H locs hq2 hM hS => ?_)
            obtain ⟨rfl, he⟩ := hq2
            rw [he] at hM
            refine n_iadd hx hb dX2_byTrying_65 ?_
            refine n_min hx hb hml hl hown (hts _ q1036) (hts _ q133) (hts _ q43) (hts _ q134) (by omega) (by omega) (by simp only [xrm]; omega) (by simp [xrm]; omega) (by simp only [xrm]; omega) (by simp only [xrm]; omega) dX2_byTrying_66 ?_
            rw [min_if]
            refine x_istore_n hx hb dX2_byTrying_69 rfl hl (by decide) (fun ls hl => ?_)
            refine n_iinc hx hb 1 dX2_byTrying_70 hl rfl (by decide +kernel) (by decide) (fun ls hl => ?_)
            refine lv_goto (tgt := 24) hx hb dX2_byTrying_73 (by decide) ?_
            refine ih (k + 1) (by omega) (by omega) H locs ls hM hS (lh_sub hl _ ⟨rfl, rfl, rfl, ?_, rfl, trivial⟩)
            show _ = some (Value.int (nI (minF 1000000 set (fun k => stepN ν S a k + dN ν S (set - 2 ^ k) k) (k + 1))))
            rw [minF_yes hb1]
            rfl
    refine lv_iload_n hx hb dX2_byTrying_0 rfl (lh_at hl rfl) ?_
    refine n_if_ne (tgt := 18) hx hb dX2_byTrying_1 (by decide) (by omega) (fun c1 => ?_) (fun c1 => ?_)
    · refine lv_ldc (v := nI 1000000) hx hb hown (hts _ q1034) dX2_byTrying_18 ?_
      refine x_istore_n hx hb dX2_byTrying_20 rfl hl (by decide) (fun ls hl => ?_)
      refine n_const hx hb 0 dX2_byTrying_21 (by decide +kernel) ?_
      refine x_istore hx hb dX2_byTrying_22 hl (by decide) (fun ls hl => ?_)
      exact J (cntN ν S + 1) 0 (by omega) (by omega) _ _ ls hM hS (lh_sub hl _ ⟨rfl, rfl, rfl, rfl, rfl, trivial⟩)
    · omega
