/-! the router: through the aisles -/
set_option maxRecDepth 100000
theorem i32_m1mul (x : Int32) : (nI 0 - nI 1) * x + x = 0 := by
  have h : nI 0 - nI 1 = -1 := by decide
  rw [h]
  apply Int32.toInt_inj.mp
  rw [Int32.toInt_add, Int32.toInt_mul, Int32.toInt_zero, show (-1 : Int32).toInt = -1 by decide, Int.bmod_add_bmod]
  have : -1 * x.toInt + x.toInt = 0 := by omega
  rw [this]
  rfl
theorem thruI_eq {ν : nS} {S c la : Nat} (h1 : withN ν S (vC ν 0) = c + 1) (h2 : lastN ν S (vC ν 0) = la) : thruI ν S = nI (vC ν 2 * la + c * (vC ν 1 + 1) + (if (c + 1) % 2 = 1 then 2 * farN ν S la 20 else vC ν 1 + 1) + vC ν 2 * la) := by
  have e : nI (c + 1) - nI 1 = nI c := pk_sub (a := c + 1) (b := 1) (by omega)
  unfold thruI
  rw [h1, h2, e, pk_mul, nI_add, nI_add]
  congr 1
  rw [Nat.mul_assoc 2, Nat.mul_comm la]
  omega
theorem xk_through (l : Launch) (g : xg) (A : Nat → Prop) (w : xw_W) (ad : Nat → Nat) (σ : rS) (ν : nS) (S : Nat) (hB : rB g w ad ν) (hV : vOk ν) (hO : okSet ν S) (hσ : rP ν S σ) :
    Met l yX2_through (ws_ yX2_through cX2_through 7 (some .int)) (xrm 0 0 0) (rPc g A w ad σ []) (rQi g A w ad (fun r u => r = thruI ν S ∧ u = σ)) 0 0 A := by
  have hD := hO.2.2
  have hpl : ∀ k, k < cntN ν S → okPl (vC ν 0) (vC ν 1) (plP ν S k) := fun k hk => pl_ok hV hO hk
  have hps : ∀ k, k < cntN ν S → plP ν S k < 600 := fun k hk => ((hpl k hk).lt hV.1.2 hV.2.1.2).1
  have hp1 : ∀ q, q < 20 → S.testBit q = true → 1 ≤ vPl ν q % 100 := by
    intro q hq hb
    rcases hV.2.2.2.2.2.2.1 q hq with z | z
    · exact absurd z (hO.2.1 q hq hb)
    · exact z.2.1
  have hA : ∀ j, j < cntN ν S → plP ν S j / 100 < vC ν 0 := fun j hj => (hpl j hj).1
  have hso := plP_sorted (ν := ν) (S := S)
  have hP20 := hV.2.1.2
  have hG9 := hV.2.2.1.2
  refine x_start rfl (Nat.le_of_ble_eq_true rfl) ?_
  intro p e s m below meth c hx hb hr hlk hml hown hts hnm hE hM hS ls hl
  have hF : xFix p m c cX2_through 7 s _ RX2 := ⟨hx, hb, hml, hown, hts⟩
  generalize hargs : List.toArray _ = args at hts hF ⊢
  generalize hQ : MQ below _ _ s _ _ A = Q
  have fin : ∀ (L a : Nat), nI (L + vC ν 2 * a) = thruI ν S → ∀ (ls : Array Slot), xw g A (rW g w ad σ) s.heap → lh ls 7 (xl [(0, .ref (ad 8)), (1, .int (nI L)), (2, .int (nI a)), (4, .int (nI (cntN ν S)))]) → W p l e (xrm 0 0 0) s m args below meth c s.heap [] 0 0 Q (F0 m 9 ls []) := by
    intro L a he ls hM hl
    refine lv_iload hx hb dX2_through_9 (lh_at hl rfl) ?_
    refine lv_aload_n hx hb dX2_through_11 rfl (lh_at hl rfl) ?_
    refine r_many hF hE hM q120 (by exact hσ.1) dX2_through_12 ?_
    refine n_icmp_ge (tgt := 175) hx hb dX2_through_15 (by decide) (by omega) (by omega) (fun c1 => ?_) (fun c1 => ?_)
    · refine lv_iload_n hx hb dX2_through_175 rfl (lh_at hl rfl) ?_
      refine lv_aload_n hx hb dX2_through_176 rfl (lh_at hl rfl) ?_
      refine r_own hF hE hM 3 (by decide) q122 rfl dX2_through_177 ?_
      refine r_gap hF hE hM hB q142 dX2_through_180 ?_
      refine lv_iload_n hx hb dX2_through_183 rfl (lh_at hl rfl) ?_
      refine n_imul hx hb dX2_through_184 ?_
      refine n_iadd hx hb dX2_through_185 ?_
      exact hQ ▸ x_iret hx hb hr hlk hS σ ⟨he, rfl⟩ hM dX2_through_186
    · omega
  have J : ∀ (n k : Nat), k < cntN ν S → cntN ν S ≤ k + n → ∀ (ls : Array Slot), lh ls 7 (xl [(0, .ref (ad 8)), (1, .int (nI (vC ν 2 * thA (plP ν S) (cntN ν S) k + thC (plP ν S) (cntN ν S) k * (vC ν 1 + 1)))), (2, .int (nI (thA (plP ν S) (cntN ν S) k))), (3, .int (nI (if thC (plP ν S) (cntN ν S) k % 2 = 0 then 1 else 0))), (4, .int (nI k))]) → W p l e (xrm 0 0 0) s m args below meth c s.heap [] 0 0 Q (F0 m 9 ls []) := by
    intro n
    induction n with
    | zero => intro k h1 h2; exact absurd h2 (by omega)
    | succ n ih =>
      intro k h1 h2 ls hl
      have hpk : vPl ν (stpN ν S k) < 600 := hps k h1
      have hak : thA (plP ν S) (cntN ν S) k ≤ vPl ν (stpN ν S k) / 100 := thA_le hso k h1
      have hsig := hσ.2 k h1
      have notL : ¬ isLst (plP ν S) (cntN ν S) k = true → ∀ (ls : Array Slot), lh ls 7 (xl [(0, .ref (ad 8)), (1, .int (nI (vC ν 2 * thA (plP ν S) (cntN ν S) k + thC (plP ν S) (cntN ν S) k * (vC ν 1 + 1)))), (2, .int (nI (thA (plP ν S) (cntN ν S) k))), (3, .int (nI (if thC (plP ν S) (cntN ν S) k % 2 = 0 then 1 else 0))), (4, .int (nI k))]) → W p l e (xrm 0 0 0) s m args below meth c s.heap [] 0 0 Q (F0 m 59 ls [.int (nI 0)]) := by
        intro hL ls hl
        have hk1 : k + 1 < cntN ν S := by
          rcases Nat.lt_or_ge (k + 1) (cntN ν S) with z | z
          · exact z
          · refine absurd ?_ hL
            unfold isLst
            rw [decide_eq_true (show k + 1 = cntN ν S by omega)]
            rfl
        have eC : thC (plP ν S) (cntN ν S) (k + 1) = thC (plP ν S) (cntN ν S) k := by
          conv => lhs; unfold thC
          rw [if_neg hL]
        have eA : thA (plP ν S) (cntN ν S) (k + 1) = thA (plP ν S) (cntN ν S) k := by
          conv => lhs; unfold thA
          rw [if_neg hL]
        refine x_istore hx hb dX2_through_59 hl (by decide) (fun ls hl => ?_)
        refine lv_iload hx hb dX2_through_61 (lh_at hl rfl) ?_
        refine n_if_eq (tgt := 169) hx hb dX2_through_63 (by decide) (by omega) (fun c1 => ?_) (fun c1 => ?_)
        · refine n_iinc hx hb 1 dX2_through_169 hl rfl (by decide +kernel) (by decide) (fun ls hl => ?_)
          refine lv_goto (tgt := 9) hx hb dX2_through_172 (by decide) ?_
          refine ih (k + 1) hk1 (by omega) _ (lh_sub hl _ ⟨rfl, ?_, ?_, ?_, rfl, trivial⟩)
          · rw [eA, eC]
            rfl
          · rw [eA]
            rfl
          · rw [eC]
            rfl
        · exact absurd rfl c1
      have yesL : isLst (plP ν S) (cntN ν S) k = true → ∀ (ls : Array Slot), lh ls 7 (xl [(0, .ref (ad 8)), (1, .int (nI (vC ν 2 * thA (plP ν S) (cntN ν S) k + thC (plP ν S) (cntN ν S) k * (vC ν 1 + 1)))), (2, .int (nI (thA (plP ν S) (cntN ν S) k))), (3, .int (nI (if thC (plP ν S) (cntN ν S) k % 2 = 0 then 1 else 0))), (4, .int (nI k))]) → W p l e (xrm 0 0 0) s m args below meth c s.heap [] 0 0 Q (F0 m 59 ls [.int (nI 1)]) := by
        intro hL ls hl
        have eC : thC (plP ν S) (cntN ν S) (k + 1) = thC (plP ν S) (cntN ν S) k + 1 := by
          conv => lhs; unfold thC
          rw [if_pos hL]
        have eA : thA (plP ν S) (cntN ν S) (k + 1) = plP ν S k / 100 := by
          conv => lhs; unfold thA
          rw [if_pos hL]
        generalize hc9 : thC (plP ν S) (cntN ν S) k = c9 at *
        generalize ha9 : thA (plP ν S) (cntN ν S) k = a9 at *
        have hmul : vC ν 2 * a9 + vC ν 2 * (plP ν S k / 100 - a9) = vC ν 2 * (plP ν S k / 100) := by
          have hak2 : a9 ≤ plP ν S k / 100 := hak
          rw [← Nat.mul_add]
          congr 1
          omega
        refine x_istore hx hb dX2_through_59 hl (by decide) (fun ls hl => ?_)
        refine lv_iload hx hb dX2_through_61 (lh_at hl rfl) ?_
        refine n_if_eq (tgt := 169) hx hb dX2_through_63 (by decide) (by omega) (fun c1 => ?_) (fun c1 => ?_)
        · exact absurd c1 (by decide)
        · refine lv_iload_n hx hb dX2_through_66 rfl (lh_at hl rfl) ?_
          refine lv_aload_n hx hb dX2_through_67 rfl (lh_at hl rfl) ?_
          refine r_own hF hE hM 3 (by decide) q122 rfl dX2_through_68 ?_
          refine r_gap hF hE hM hB q142 dX2_through_71 ?_
          refine lv_aload_n hx hb dX2_through_74 rfl (lh_at hl rfl) ?_
          refine r_own hF hE hM 0 (by decide) q118 rfl dX2_through_75 ?_
          refine lv_iload hx hb dX2_through_78 (lh_at hl rfl) ?_
          refine r_pald hF hE hM (by omega) (by exact hsig) dX2_through_80 ?_
          refine n_bipush hx hb 100 dX2_through_81 (by decide +kernel) ?_
          refine n_idiv hx hb (by omega) (by decide) (by decide) dX2_through_83 ?_
          refine lv_iload_n hx hb dX2_through_84 rfl (lh_at hl rfl) ?_
          refine n_isub hx hb (by omega) dX2_through_85 ?_
          refine n_imul hx hb dX2_through_86 ?_
          refine n_iadd hx hb dX2_through_87 ?_
          refine x_istore_n hx hb dX2_through_88 rfl hl (by decide) (fun ls hl => ?_)
          refine lv_aload_n hx hb dX2_through_89 rfl (lh_at hl rfl) ?_
          refine r_own hF hE hM 0 (by decide) q118 rfl dX2_through_90 ?_
          refine lv_iload hx hb dX2_through_93 (lh_at hl rfl) ?_
          refine r_pald hF hE hM (by omega) (by exact hsig) dX2_through_95 ?_
          refine n_bipush hx hb 100 dX2_through_96 (by decide +kernel) ?_
          refine n_idiv hx hb (by omega) (by decide) (by decide) dX2_through_98 ?_
          refine x_istore_n hx hb dX2_through_99 rfl hl (by decide) (fun ls hl => ?_)
          refine lv_iload hx hb dX2_through_100 (lh_at hl rfl) ?_
          refine lv_aload_n hx hb dX2_through_102 rfl (lh_at hl rfl) ?_
          refine r_many hF hE hM q120 (by exact hσ.1) dX2_through_103 ?_
          refine n_const hx hb 1 dX2_through_106 (by decide +kernel) ?_
          refine n_isub hx hb (by omega) dX2_through_107 ?_
          have hlen : vC ν 2 * a9 + c9 * (vC ν 1 + 1) + vC ν 2 * (vPl ν (stpN ν S k) / 100 - a9) = vC ν 2 * (plP ν S k / 100) + c9 * (vC ν 1 + 1) := by
            have : vC ν 2 * a9 + vC ν 2 * (vPl ν (stpN ν S k) / 100 - a9) = vC ν 2 * (plP ν S k / 100) := hmul
            omega
          rw [hlen] at hl
          -- from 120, not back
          have noBack : ∀ (ls : Array Slot), (k + 1 = cntN ν S → c9 % 2 ≠ 0) → lh ls 7 (xl [(0, .ref (ad 8)), (1, .int (nI (vC ν 2 * (plP ν S k / 100) + c9 * (vC ν 1 + 1)))), (2, .int (nI (plP ν S k / 100))), (3, .int (nI (if c9 % 2 = 0 then 1 else 0))), (4, .int (nI k))]) → W p l e (xrm 0 0 0) s m args below meth c s.heap [] 0 0 Q (F0 m 120 ls [.int (nI 0)]) := by
            intro ls hbk hl
            refine x_istore hx hb dX2_through_120 hl (by decide) (fun ls hl => ?_)
            refine lv_iload_n hx hb dX2_through_122 rfl (lh_at hl rfl) ?_
            refine lv_iload hx hb dX2_through_123 (lh_at hl rfl) ?_
            refine n_if_eq (tgt := 143) hx hb dX2_through_125 (by decide) (by omega) (fun c3 => ?_) (fun c3 => ?_)
            · refine lv_aload_n hx hb dX2_through_143 rfl (lh_at hl rfl) ?_
              refine r_own hF hE hM 3 (by decide) q122 rfl dX2_through_144 ?_
              refine r_positions hF hE hM hB q140 dX2_through_147 ?_
              refine n_const hx hb 1 dX2_through_150 (by decide +kernel) ?_
              refine n_iadd hx hb dX2_through_151 ?_
              refine n_iadd hx hb dX2_through_152 ?_
              refine x_istore_n hx hb dX2_through_153 rfl hl (by decide) (fun ls hl => ?_)
              refine lv_iload hx hb dX2_through_154 (lh_at hl rfl) ?_
              rw [show vC ν 2 * (plP ν S k / 100) + c9 * (vC ν 1 + 1) + (vC ν 1 + 1) = vC ν 2 * (plP ν S k / 100) + (c9 + 1) * (vC ν 1 + 1) by rw [Nat.add_mul, Nat.one_mul]; omega] at hl
              refine n_if_ne (tgt := 163) hx hb dX2_through_156 (by decide) (by omega) (fun c4 => ?_) (fun c4 => ?_)
              · exact absurd rfl c4
              · refine lv_iload_n hx hb dX2_through_159 rfl (lh_at hl rfl) ?_
                have nx : ∀ (f : Nat) (ls : Array Slot), f = (if (c9 + 1) % 2 = 0 then 1 else 0) → lh ls 7 (xl [(0, .ref (ad 8)), (1, .int (nI (vC ν 2 * (plP ν S k / 100) + (c9 + 1) * (vC ν 1 + 1)))), (2, .int (nI (plP ν S k / 100))), (4, .int (nI k))]) → W p l e (xrm 0 0 0) s m args below meth c s.heap [] 0 0 Q (F0 m 168 ls [.int (nI f)]) := by
                  intro f ls hf hl
                  refine x_istore_n hx hb dX2_through_168 rfl hl (by decide) (fun ls hl => ?_)
                  refine n_iinc hx hb 1 dX2_through_169 hl rfl (by decide +kernel) (by decide) (fun ls hl => ?_)
                  refine lv_goto (tgt := 9) hx hb dX2_through_172 (by decide) ?_
                  by_cases hk1 : k + 1 = cntN ν S
                  · rw [hk1] at hl
                    refine fin _ _ ?_ _ hM (lh_sub hl _ ⟨rfl, rfl, rfl, rfl, trivial⟩)
                    have hk2 : cntN ν S - 1 = k := by omega
                    have w1 : withN ν S (vC ν 0) = c9 + 1 := by
                      rw [with_C hp1 hA]
                      rw [hk1] at eC
                      exact eC
                    have w2 : lastN ν S (vC ν 0) = plP ν S k / 100 := by
                      rw [last_C hp1 hA (by omega), hk2]
                    have := hbk hk1
                    rw [thruI_eq w1 w2, if_neg (by omega)]
                    congr 1
                    rw [Nat.add_mul c9]
                    omega
                  · refine ih (k + 1) (by omega) (by omega) _ (lh_sub hl _ ⟨rfl, ?_, ?_, ?_, rfl, trivial⟩)
                    · rw [eA, eC]
                      rfl
                    · rw [eA]
                      rfl
                    · rw [eC, ← hf]
                      rfl
                refine n_if_ne (tgt := 167) hx hb dX2_through_160 (by decide) (by split <;> omega) (fun c5 => ?_) (fun c5 => ?_)
                · refine n_const hx hb 0 dX2_through_167 (by decide +kernel) ?_
                  refine nx 0 _ ?_ (lh_sub hl _ ⟨rfl, rfl, rfl, rfl, trivial⟩)
                  rw [if_neg]
                  intro z
                  rw [if_neg (by omega)] at c5
                  exact c5 rfl
                · refine n_const hx hb 1 dX2_through_163 (by decide +kernel) ?_
                  refine lv_goto (tgt := 168) hx hb dX2_through_164 (by decide) ?_
                  refine nx 1 _ ?_ (lh_sub hl _ ⟨rfl, rfl, rfl, rfl, trivial⟩)
                  rw [if_pos]
                  by_cases z : c9 % 2 = 0
                  · rw [if_pos z] at c5
                    exact absurd c5 (by decide)
                  · omega
            · exact absurd rfl c3
          refine n_icmp_ne (tgt := 119) hx hb dX2_through_108 (by decide) (by omega) (by omega) (fun c2 => ?_) (fun c2 => ?_)
          · refine n_const hx hb 0 dX2_through_119 (by decide +kernel) ?_
            exact noBack _ (fun z => by omega) (lh_sub hl _ ⟨rfl, rfl, rfl, rfl, rfl, trivial⟩)
          · refine lv_iload_n hx hb dX2_through_111 rfl (lh_at hl rfl) ?_
            refine n_if_eq (tgt := 119) hx hb dX2_through_112 (by decide) (by split <;> omega) (fun c3 => ?_) (fun c3 => ?_)
            · refine n_const hx hb 0 dX2_through_119 (by decide +kernel) ?_
              refine noBack _ (fun _ z => ?_) (lh_sub hl _ ⟨rfl, rfl, rfl, rfl, rfl, trivial⟩)
              rw [if_pos z] at c3
              exact absurd c3 (by decide)
            · have hev : c9 % 2 = 0 := by
                by_cases z : c9 % 2 = 0
                · exact z
                · rw [if_neg z] at c3
                  exact absurd rfl c3
              have hk1 : k + 1 = cntN ν S := by omega
              refine n_const hx hb 1 dX2_through_115 (by decide +kernel) ?_
              refine lv_goto (tgt := 120) hx hb dX2_through_116 (by decide) ?_
              refine x_istore hx hb dX2_through_120 hl (by decide) (fun ls hl => ?_)
              refine lv_iload_n hx hb dX2_through_122 rfl (lh_at hl rfl) ?_
              refine lv_iload hx hb dX2_through_123 (lh_at hl rfl) ?_
              refine n_if_eq (tgt := 143) hx hb dX2_through_125 (by decide) (by omega) (fun c4 => ?_) (fun c4 => ?_)
              · exact absurd c4 (by decide)
              · refine n_const hx hb 2 dX2_through_128 (by decide +kernel) ?_
                refine lv_aload_n hx hb dX2_through_129 rfl (lh_at hl rfl) ?_
                refine r_own hF hE hM 0 (by decide) q118 rfl dX2_through_130 ?_
                refine lv_iload hx hb dX2_through_133 (lh_at hl rfl) ?_
                refine r_pald hF hE hM (by omega) (by exact hsig) dX2_through_135 ?_
                refine n_bipush hx hb 100 dX2_through_136 (by decide +kernel) ?_
                refine n_irem hx hb (by omega) (by decide) (by decide) dX2_through_138 ?_
                refine n_imul hx hb dX2_through_139 ?_
                refine lv_goto (tgt := 152) hx hb dX2_through_140 (by decide) ?_
                refine n_iadd hx hb dX2_through_152 ?_
                refine x_istore_n hx hb dX2_through_153 rfl hl (by decide) (fun ls hl => ?_)
                refine lv_iload hx hb dX2_through_154 (lh_at hl rfl) ?_
                refine n_if_ne (tgt := 163) hx hb dX2_through_156 (by decide) (by omega) (fun c5 => ?_) (fun c5 => ?_)
                · refine n_const hx hb 1 dX2_through_163 (by decide +kernel) ?_
                  refine lv_goto (tgt := 168) hx hb dX2_through_164 (by decide) ?_
                  refine x_istore_n hx hb dX2_through_168 rfl hl (by decide) (fun ls hl => ?_)
                  refine n_iinc hx hb 1 dX2_through_169 hl rfl (by decide +kernel) (by decide) (fun ls hl => ?_)
                  refine lv_goto (tgt := 9) hx hb dX2_through_172 (by decide) ?_
                  rw [hk1] at hl
                  refine fin _ _ ?_ _ hM (lh_sub hl _ ⟨rfl, rfl, rfl, rfl, trivial⟩)
                  have hk2 : cntN ν S - 1 = k := by omega
                  have w1 : withN ν S (vC ν 0) = c9 + 1 := by
                    rw [with_C hp1 hA]
                    rw [hk1] at eC
                    exact eC
                  have w2 : lastN ν S (vC ν 0) = plP ν S k / 100 := by
                    rw [last_C hp1 hA (by omega), hk2]
                  have w3 := far_C (ν := ν) (S := S) (by omega)
                  rw [hk2] at w3
                  rw [thruI_eq w1 w2, if_pos (by omega), w3]
                · exact absurd c5 (by decide)
      refine lv_iload hx hb dX2_through_9 (lh_at hl rfl) ?_
      refine lv_aload_n hx hb dX2_through_11 rfl (lh_at hl rfl) ?_
      refine r_many hF hE hM q120 (by exact hσ.1) dX2_through_12 ?_
      refine n_icmp_ge (tgt := 175) hx hb dX2_through_15 (by decide) (by omega) (by omega) (fun c1 => ?_) (fun c1 => ?_)
      · omega
      · refine lv_iload hx hb dX2_through_18 (lh_at hl rfl) ?_
        refine lv_aload_n hx hb dX2_through_20 rfl (lh_at hl rfl) ?_
        refine r_many hF hE hM q120 (by exact hσ.1) dX2_through_21 ?_
        refine n_const hx hb 1 dX2_through_24 (by decide +kernel) ?_
        refine n_isub hx hb (by omega) dX2_through_25 ?_
        refine n_icmp_eq (tgt := 54) hx hb dX2_through_26 (by decide) (by omega) (by omega) (fun c2 => ?_) (fun c2 => ?_)
        · refine n_const hx hb 1 dX2_through_54 (by decide +kernel) ?_
          refine lv_goto (tgt := 59) hx hb dX2_through_55 (by decide) ?_
          refine yesL ?_ _ (lh_sub hl _ ⟨rfl, rfl, rfl, rfl, rfl, trivial⟩)
          unfold isLst
          rw [decide_eq_true (show k + 1 = cntN ν S by omega)]
          rfl
        · have hk1 : k + 1 < cntN ν S := by omega
          have hpk1 : vPl ν (stpN ν S (k + 1)) < 600 := hps (k + 1) hk1
          refine lv_aload_n hx hb dX2_through_29 rfl (lh_at hl rfl) ?_
          refine r_own hF hE hM 0 (by decide) q118 rfl dX2_through_30 ?_
          refine lv_iload hx hb dX2_through_33 (lh_at hl rfl) ?_
          refine n_const hx hb 1 dX2_through_35 (by decide +kernel) ?_
          refine n_iadd hx hb dX2_through_36 ?_
          refine r_pald hF hE hM (by omega) (by exact hσ.2 (k + 1) hk1) dX2_through_37 ?_
          refine n_bipush hx hb 100 dX2_through_38 (by decide +kernel) ?_
          refine n_idiv hx hb (by omega) (by decide) (by decide) dX2_through_40 ?_
          refine lv_aload_n hx hb dX2_through_41 rfl (lh_at hl rfl) ?_
          refine r_own hF hE hM 0 (by decide) q118 rfl dX2_through_42 ?_
          refine lv_iload hx hb dX2_through_45 (lh_at hl rfl) ?_
          refine r_pald hF hE hM (by omega) (by exact hsig) dX2_through_47 ?_
          refine n_bipush hx hb 100 dX2_through_48 (by decide +kernel) ?_
          refine n_idiv hx hb (by omega) (by decide) (by decide) dX2_through_50 ?_
          refine n_icmp_eq (tgt := 58) hx hb dX2_through_51 (by decide) (by omega) (by omega) (fun c3 => ?_) (fun c3 => ?_)
          · refine n_const hx hb 0 dX2_through_58 (by decide +kernel) ?_
            refine notL (fun z => ?_) _ (lh_sub hl _ ⟨rfl, rfl, rfl, rfl, rfl, trivial⟩)
            unfold isLst at z
            simp only [Bool.or_eq_true, decide_eq_true_eq] at z
            rcases z with z | z
            · omega
            · exact z c3
          · refine n_const hx hb 1 dX2_through_54 (by decide +kernel) ?_
            refine lv_goto (tgt := 59) hx hb dX2_through_55 (by decide) ?_
            refine yesL ?_ _ (lh_sub hl _ ⟨rfl, rfl, rfl, rfl, rfl, trivial⟩)
            unfold isLst
            have c4 : plP ν S (k + 1) / 100 ≠ plP ν S k / 100 := c3
            rw [decide_eq_true c4, Bool.or_true]
  refine n_const hx hb 0 dX2_through_0 (by decide +kernel) ?_
  refine x_istore_n hx hb dX2_through_1 rfl hl (by decide) (fun ls hl => ?_)
  refine n_const hx hb 0 dX2_through_2 (by decide +kernel) ?_
  refine x_istore_n hx hb dX2_through_3 rfl hl (by decide) (fun ls hl => ?_)
  refine n_const hx hb 1 dX2_through_4 (by decide +kernel) ?_
  refine x_istore_n hx hb dX2_through_5 rfl hl (by decide) (fun ls hl => ?_)
  refine n_const hx hb 0 dX2_through_6 (by decide +kernel) ?_
  refine x_istore hx hb dX2_through_7 hl (by decide) (fun ls hl => ?_)
  by_cases h0 : cntN ν S = 0
  · refine fin 0 0 ?_ _ hM (lh_sub hl _ ⟨rfl, rfl, rfl, ?_, trivial⟩)
    · obtain ⟨h1, h2⟩ := no_C hp1 h0 (vC ν 0)
      unfold thruI
      rw [h1, h2, if_neg (by decide), Int32.add_assoc, i32_m1mul, Int32.add_zero, Nat.mul_zero, Nat.mul_zero, Nat.zero_mul]
    · show _ = some (Value.int (nI (cntN ν S)))
      rw [h0]
      rfl
  · refine J (cntN ν S) 0 (by omega) (by omega) _ (lh_sub hl _ ⟨rfl, ?_, rfl, rfl, rfl, trivial⟩)
    show _ = some (Value.int (nI (vC ν 2 * 0 + 0 * (vC ν 1 + 1))))
    rw [Nat.mul_zero, Nat.zero_mul]
    rfl
