/-! the router: length -/
set_option maxRecDepth 100000
theorem wayN_comm {G P a b : Nat} : wayN G P a b = wayN G P b a := by
  unfold wayN
  by_cases h : a / 100 = b / 100
  · rw [if_pos h, if_pos h.symm]
    split <;> split <;> omega
  · have h2 : ¬ b / 100 = a / 100 := fun z => h z.symm
    rw [if_neg h, if_neg h2, Nat.add_comm (b % 100) (a % 100)]
    have e : (if b / 100 ≤ a / 100 then a / 100 - b / 100 else b / 100 - a / 100) = (if a / 100 ≤ b / 100 then b / 100 - a / 100 else a / 100 - b / 100) := by
      split <;> split <;> omega
    rw [e]
theorem rT.next {ν : nS} {S : Nat} {σ : rS} {i : Nat} (h : rT ν S σ i (cntN ν S)) : rT ν S σ (i + 1) 0 := by
  intro left last hl hc hb
  rcases hl with hl | ⟨-, hl⟩
  · by_cases e : left = i
    · exact h left last (Or.inr ⟨e, hc⟩) hc hb
    · exact h left last (Or.inl (by omega)) hc hb
  · exact absurd hl (Nat.not_lt_zero _)
theorem rT.skip {ν : nS} {S : Nat} {σ : rS} {i k : Nat} (h : rT ν S σ i k) (hb0 : i.testBit k = true) : rT ν S σ i (k + 1) := by
  intro left last hl hc hb
  rcases hl with hl | ⟨e, hl⟩
  · exact h left last (Or.inl hl) hc hb
  · subst e
    by_cases e2 : last = k
    · subst e2
      rw [hb0] at hb
      cases hb
    · exact h left last (Or.inr ⟨rfl, by omega⟩) hc hb
theorem rT.put {ν : nS} {S : Nat} {σ : rS} {i k : Nat} {x : Int32} (h : rT ν S σ i k) (hx : x = nI (dN ν S i k)) : rT ν S (σ.1, σ.2.1, va_up σ.2.2 i (upd (σ.2.2 i) k x)) i (k + 1) := by
  intro left last hl hc hb
  show va_up σ.2.2 i (upd (σ.2.2 i) k x) left last = _
  rcases hl with hl | ⟨e, hl⟩
  · rw [va_up_n (by omega)]
    exact h left last (Or.inl hl) hc hb
  · subst e
    rw [va_up_s]
    by_cases e2 : last = k
    · subst e2
      rw [pk_us, hx]
    · rw [pk_un e2]
      exact h left last (Or.inr ⟨rfl, by omega⟩) hc hb
theorem xk_length (l : Launch) (g : xg) (A : Nat → Prop) (w : xw_W) (ad : Nat → Nat) (σ : rS) (ν : nS) (S : Nat) (hB : rB g w ad ν) (hV : vOk ν) (hO : okSet ν S) :
    Met l yX2_length (ws_ yX2_length cX2_length 4 (some .int)) (xrm 3 0 0) (rPc g A w ad σ [.int (nI S)]) (rQi g A w ad (fun r u => r = nI (lenN ν S) ∧ rP ν S u ∧ rT ν S u (2 ^ cntN ν S) 0)) 0 0 A := by
  have hD := hO.2.2
  have h512 := pow9 hD
  have hpos := Nat.two_pow_pos (cntN ν S)
  refine x_start rfl (Nat.le_of_ble_eq_true rfl) ?_
  intro p e s m below meth c hx hb hr hlk hml hown hts hnm hE hM hS ls hl
  have hF : xFix p m c cX2_length 4 s _ RX2 := ⟨hx, hb, hml, hown, hts⟩
  generalize hargs : List.toArray _ = args at hts hF ⊢
  generalize hQ : MQ below _ _ s _ _ A = Q
  refine lv_aload_n hx hb dX2_length_0 rfl (lh_at hl rfl) ?_
  refine lv_iload_n hx hb dX2_length_1 rfl (lh_at hl rfl) ?_
  refine x_callv (x_runV (As := [.int (nI S)]) hF hE hS hM hl (xk_lays l g A w ad σ ν S hB hV hO) (xw.recv hE hM rW_8 rfl) q1025 q1027 qs9 q42 q1028 ⟨rfl, by decide +kernel, by decide +kernel, by show _ = some 1; decide +kernel⟩ rfl rfl ⟨Nat.le_of_ble_eq_true rfl, Nat.le_of_ble_eq_true rfl⟩ rfl (Nat.le_of_ble_eq_true rfl) dX2_length_2 ⟨Nat.le_of_ble_eq_true rfl, Nat.le_of_ble_eq_true rfl⟩) hS (fun u0 H locs hq hM hS => ?_)
  have sets : ∀ (n i : Nat), i ≤ 2 ^ cntN ν S → 2 ^ cntN ν S < i + n → ∀ (u : rS) (H : Heap) (locs : List Loc) (ls : Array Slot), rP ν S u → rT ν S u i 0 → xw g A (rW g w ad u) H → va_S A s.heap H locs → lh ls 4 (xl [(0, .ref (ad 8)), (2, .int (nI i))]) → W p l e (xrm 3 0 0) s m args below meth c H locs 0 0 Q (F0 m 7 ls []) := by
    intro n
    induction n with
    | zero => intro i h1 h2; exact absurd h2 (by omega)
    | succ n ih =>
      intro i h1 h2 u H locs ls hG hT hM hS hl
      refine lv_iload_n hx hb dX2_length_7 rfl (lh_at hl rfl) ?_
      refine n_const hx hb 1 dX2_length_8 (by decide +kernel) ?_
      refine lv_aload_n hx hb dX2_length_9 rfl (lh_at hl rfl) ?_
      refine r_many hF hE hM q120 (by exact hG.1) dX2_length_10 ?_
      refine n_ishl hx hb (by omega) (by exact pw32 (by omega)) dX2_length_13 ?_
      rw [shl1]
      refine n_icmp_ge (tgt := 81) hx hb dX2_length_14 (by decide) (by omega) (by omega) (fun c1 => ?_) (fun c1 => ?_)
      · have e : i = 2 ^ cntN ν S := by omega
        subst e
        refine lv_aload_n hx hb dX2_length_81 rfl (lh_at hl rfl) ?_
        refine r_many hF hE hM q120 (by exact hG.1) dX2_length_82 ?_
        refine n_if_ne (tgt := 92) hx hb dX2_length_85 (by decide) (by omega) (fun c2 => ?_) (fun c2 => ?_)
        · refine lv_aload_n hx hb dX2_length_92 rfl (lh_at hl rfl) ?_
          refine x_calli (x_runV (As := []) hF hE hS hM hl (xk_leastFromStart l g A w ad u ν S hB hV hO hG c2 (fun j hj => hT.at (by omega) hj (full_bit hj))) (xw.recv hE hM rW_8 rfl) q1037 q1039 qs11 q42 q1040 ⟨rfl, by decide +kernel, by decide +kernel, by show _ = some 0; decide +kernel⟩ rfl rfl ⟨Nat.le_of_ble_eq_true rfl, Nat.le_of_ble_eq_true rfl⟩ rfl (Nat.le_of_ble_eq_true rfl) dX2_length_93 ⟨Nat.le_of_ble_eq_true rfl, Nat.le_of_ble_eq_true rfl⟩) hS (fun r u1 H locs hq2 hM hS => ?_)
          obtain ⟨hq2, he⟩ := hq2
          rw [he] at hM
          exact hQ ▸ x_iret hx hb hr hlk hS _ ⟨hq2, hG, hT⟩ hM dX2_length_96
        · refine n_const hx hb 0 dX2_length_88 (by decide +kernel) ?_
          refine lv_goto (tgt := 96) hx hb dX2_length_89 (by decide) ?_
          refine hQ ▸ x_iret hx hb hr hlk hS _ ⟨?_, hG, hT⟩ hM dX2_length_96
          congr 1
          unfold lenN dN
          rw [c2, dpN_eq]
          show 0 = minF (if 2 ^ 0 - 1 = 0 then stepN ν S 9 9 else 1000000000) (2 ^ 0 - 1) _ 0
          unfold minF
          rw [if_pos rfl]
          unfold stepN ptN wayN
          simp
      · have hi : i < 2 ^ cntN ν S := by omega
        have inner : ∀ (n2 k : Nat), k ≤ cntN ν S → cntN ν S < k + n2 → ∀ (u : rS) (H : Heap) (locs : List Loc) (ls : Array Slot), rP ν S u → rT ν S u i k → xw g A (rW g w ad u) H → va_S A s.heap H locs → lh ls 4 (xl [(0, .ref (ad 8)), (2, .int (nI i)), (3, .int (nI k))]) → W p l e (xrm 3 0 0) s m args below meth c H locs 0 0 Q (F0 m 19 ls []) := by
          intro n2
          induction n2 with
          | zero => intro k h1 h2; exact absurd h2 (by omega)
          | succ n2 ih2 =>
            intro k h3 h4 u H locs ls hG hT hM hS hl
            refine lv_iload_n hx hb dX2_length_19 rfl (lh_at hl rfl) ?_
            refine lv_aload_n hx hb dX2_length_20 rfl (lh_at hl rfl) ?_
            refine r_many hF hE hM q120 (by exact hG.1) dX2_length_21 ?_
            refine n_icmp_ge (tgt := 75) hx hb dX2_length_24 (by decide) (by omega) (by omega) (fun c2 => ?_) (fun c2 => ?_)
            · refine n_iinc hx hb 1 dX2_length_75 hl rfl (by decide +kernel) (by decide) (fun ls hl => ?_)
              refine lv_goto (tgt := 7) hx hb dX2_length_78 (by decide) ?_
              have e : k = cntN ν S := by omega
              subst e
              exact ih (i + 1) (by omega) (by omega) u H locs ls hG hT.next hM hS (lh_sub hl _ ⟨rfl, rfl, trivial⟩)
            · have hk : k < cntN ν S := by omega
              have hpk := pl_ok hV hO hk
              have hk6 := hpk.lt hV.1.2 hV.2.1.2
              refine lv_iload_n hx hb dX2_length_27 rfl (lh_at hl rfl) ?_
              refine lv_iload_n hx hb dX2_length_28 rfl (lh_at hl rfl) ?_
              refine n_ishr hx hb (by omega) (by omega) dX2_length_29 ?_
              refine n_const hx hb 1 dX2_length_30 (by decide +kernel) ?_
              refine n_iand hx hb dX2_length_31 ?_
              refine n_if_ne (tgt := 69) hx hb dX2_length_32 (by decide) (by have := and1_lt i k; omega) (fun c3 => ?_) (fun c3 => ?_)
              · refine n_iinc hx hb 1 dX2_length_69 hl rfl (by decide +kernel) (by decide) (fun ls hl => ?_)
                refine lv_goto (tgt := 19) hx hb dX2_length_72 (by decide) ?_
                have hb1 : i.testBit k = true := by
                  cases hz : i.testBit k with
                  | true => rfl
                  | false => exact absurd (bit_and0.mpr hz) c3
                exact ih2 (k + 1) (by omega) (by omega) u H locs ls hG (hT.skip hb1) hM hS (lh_sub hl _ ⟨rfl, rfl, rfl, trivial⟩)
              · have store : ∀ (u : rS) (x : Int32) (H : Heap) (locs : List Loc) (ls : Array Slot), rP ν S u → rT ν S u i k → x = nI (dN ν S i k) → xw g A (rW g w ad u) H → va_S A s.heap H locs → lh ls 4 (xl [(0, .ref (ad 8)), (2, .int (nI i)), (3, .int (nI k))]) → W p l e (xrm 3 0 0) s m args below meth c H locs 0 0 Q (F0 m 68 ls [.int x, .int (nI k), .ref (ad (1000 + i))]) := by
                  intro u x H locs ls hG hT hxx hM hS hl
                  refine r_rast hF hE hM hS (by omega) (by omega) dX2_length_68 (fun H locs hM hS => ?_)
                  refine n_iinc hx hb 1 dX2_length_69 hl rfl (by decide +kernel) (by decide) (fun ls hl => ?_)
                  refine lv_goto (tgt := 19) hx hb dX2_length_72 (by decide) ?_
                  exact ih2 (k + 1) (by omega) (by omega) _ H locs ls (by exact hG) (hT.put hxx) hM hS (lh_sub hl _ ⟨rfl, rfl, rfl, trivial⟩)
                refine lv_aload_n hx hb dX2_length_35 rfl (lh_at hl rfl) ?_
                refine r_own hF hE hM 1 (by decide) q119 rfl dX2_length_36 ?_
                refine lv_iload_n hx hb dX2_length_39 rfl (lh_at hl rfl) ?_
                refine r_aald hF hE hM hB (by omega) dX2_length_40 ?_
                refine lv_iload_n hx hb dX2_length_41 rfl (lh_at hl rfl) ?_
                refine lv_iload_n hx hb dX2_length_42 rfl (lh_at hl rfl) ?_
                refine n_if_ne (tgt := 62) hx hb dX2_length_43 (by decide) (by omega) (fun c4 => ?_) (fun c4 => ?_)
                · refine lv_aload_n hx hb dX2_length_62 rfl (lh_at hl rfl) ?_
                  refine lv_iload_n hx hb dX2_length_63 rfl (lh_at hl rfl) ?_
                  refine lv_iload_n hx hb dX2_length_64 rfl (lh_at hl rfl) ?_
                  refine x_calli (x_runV (As := [.int (nI i), .int (nI k)]) hF hE hS hM hl (xk_least l g A w ad u ν S i k hB hV hO hG hi c4 hk (fun j hj hbj => hT.at (Nat.le_refl _) hj hbj)) (xw.recv hE hM rW_8 rfl) q1030 q1032 qs10 q42 q1033 ⟨rfl, by decide +kernel, by decide +kernel, by show _ = some 2; decide +kernel⟩ rfl rfl ⟨Nat.le_of_ble_eq_true rfl, Nat.le_of_ble_eq_true rfl⟩ rfl (Nat.le_of_ble_eq_true rfl) dX2_length_65 ⟨Nat.le_of_ble_eq_true rfl, Nat.le_of_ble_eq_true rfl⟩) hS (fun r u1 H locs hq2 hM hS => ?_)
                  obtain ⟨hq2, he⟩ := hq2
                  rw [he] at hM
                  exact store _ r H locs ls hG hT hq2 hM hS (lh_sub hl _ ⟨rfl, rfl, rfl, trivial⟩)
                · refine lv_aload_n hx hb dX2_length_46 rfl (lh_at hl rfl) ?_
                  refine r_own hF hE hM 3 (by decide) q122 rfl dX2_length_47 ?_
                  refine lv_aload_n hx hb dX2_length_50 rfl (lh_at hl rfl) ?_
                  refine r_own hF hE hM 0 (by decide) q118 rfl dX2_length_51 ?_
                  refine lv_iload_n hx hb dX2_length_54 rfl (lh_at hl rfl) ?_
                  refine r_pald hF hE hM (by omega) (by exact hG.2 k hk) dX2_length_55 ?_
                  obtain ⟨wk, al, h0⟩ := hB.x0 (σ := u)
                  refine x_calli (x_runVN (As := [.int (nI (vPl ν (stpN ν S k)))]) hF hE hS hM hl (xk_fromStart l g A (rW g w ad u) (ad 0) (vPl ν (stpN ν S k)) ν ad wk al h0 (by omega)) (xw.recv hE hM (by first | assumption | exact va_up_s | rfl | (refine (va_up_n ?_).trans ?_; rotate_left; (first | assumption | exact va_up_s | rfl | (refine (va_up_n ?_).trans ?_; rotate_left; (first | assumption | exact va_up_s | rfl | (refine (va_up_n ?_).trans ?_; rotate_left; (first | assumption | exact va_up_s | rfl | (refine (va_up_n ?_).trans ?_; rotate_left; (first | assumption | exact va_up_s | rfl | (refine (va_up_n ?_).trans ?_; rotate_left; (assumption); omega)); omega)); omega)); omega)); omega)) rfl) q1029 q603 qs1 q38 q604 ⟨rfl, by decide +kernel, by decide +kernel, by show _ = some 1; decide +kernel⟩ rfl rfl ⟨Nat.le_of_ble_eq_true rfl, Nat.le_of_ble_eq_true rfl⟩ rfl (Nat.le_of_ble_eq_true rfl) dX2_length_56 ⟨Nat.le_of_ble_eq_true rfl, Nat.le_of_ble_eq_true rfl⟩) hS (fun r uu H locs hq2 hM hS => ?_)
                  refine lv_goto (tgt := 68) hx hb dX2_length_59 (by decide) ?_
                  refine store u r H locs ls hG hT ?_ hM hS (lh_sub hl _ ⟨rfl, rfl, rfl, trivial⟩)
                  rw [hq2, c4, w0_eq hpk hV]
                  congr 1
                  unfold dN
                  rw [dpN_eq, minF_0, if_pos rfl]
                  unfold stepN ptN
                  rw [if_neg (by omega), if_pos rfl]
                  exact wayN_comm
        refine n_const hx hb 0 dX2_length_17 (by decide +kernel) ?_
        refine x_istore_n hx hb dX2_length_18 rfl hl (by decide) (fun ls hl => ?_)
        exact inner (cntN ν S + 1) 0 (by omega) (by omega) u H locs ls hG hT hM hS (lh_sub hl _ ⟨rfl, rfl, rfl, trivial⟩)
  refine n_const hx hb 0 dX2_length_5 (by decide +kernel) ?_
  refine x_istore_n hx hb dX2_length_6 rfl hl (by decide) (fun ls hl => ?_)
  exact sets (2 ^ cntN ν S + 1) 0 (by omega) (by omega) u0 H locs ls hq.1 (fun left last h => by omega) hM hS (lh_sub hl _ ⟨rfl, rfl, trivial⟩)
