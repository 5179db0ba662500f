/-! Integer.bitCount of a set of products -/
set_option maxRecDepth 100000
section XU
variable {p : Program} {l : Launch} {e : Env} {R : Room} {s : State} {m : MethodId} {args : Array Value} {below : List Frame} {meth : Method} {c : Code} {H : Heap} {locs : List Loc} {cells slots : Nat} {Q : State → Prop}
variable {cc : ByteArray} {pc : Nat} {ls : Array Slot} {rest : List Value}
theorem n_iushr (hexec : p.tables.exec = Jvm.exec) (hb : c.code = cc) {x y : Nat} (hx : x < 2 ^ 31) (hs : (((nI y).toUInt32 &&& Int32.toUInt32 31).toBitVec % 32).toNat = y) (hdg : decode cc pc = .ok (.iushr, 1))
    (k : W p l e R s m args below meth c H locs cells slots Q (F0 m (pc + 1) ls (.int (nI (x / 2 ^ y)) :: rest))) : W p l e R s m args below meth c H locs cells slots Q (F0 m pc ls (.int (nI y) :: .int (nI x) :: rest)) :=
  lv_iushr hexec hb hdg (pk_ushrN (by omega) (nI y) y hs) k
end XU
/-- a byte's ones, by the three steps -/
def bc1 (x : Nat) : Nat := x - (x / 2 &&& 85)
def bc2 (x : Nat) : Nat := (x &&& 51) + (x / 4 &&& 51)
def bc3 (x : Nat) : Nat := (x + x / 16) &&& 15
theorem and_cat {a c m M k : Nat} (ha : a < 2 ^ k) (hm : m < 2 ^ k) : (2 ^ k * c + a) &&& (2 ^ k * M + m) = 2 ^ k * (c &&& M) + (a &&& m) := by
  apply Nat.eq_of_testBit_eq
  intro i
  have h : (a &&& m) < 2 ^ k := Nat.lt_of_le_of_lt Nat.and_le_left ha
  rw [Nat.testBit_and, Nat.testBit_two_pow_mul_add _ ha, Nat.testBit_two_pow_mul_add _ hm, Nat.testBit_two_pow_mul_add _ h]
  by_cases hi : i < k
  · rw [if_pos hi, if_pos hi, if_pos hi, Nat.testBit_and]
  · rw [if_neg hi, if_neg hi, if_neg hi, Nat.testBit_and]
theorem and3 {a b d x y z : Nat} (ha : a < 256) (hb : b < 256) (hx : x < 256) (hy : y < 256) : (a + 256 * (b + 256 * d)) &&& (x + 256 * (y + 256 * z)) = (a &&& x) + 256 * ((b &&& y) + 256 * (d &&& z)) := by
  have h1 := and_cat (k := 8) (a := a) (c := b + 256 * d) (m := x) (M := y + 256 * z) ha hx
  have h2 := and_cat (k := 8) (a := b) (c := d) (m := y) (M := z) hb hy
  rw [show a + 256 * (b + 256 * d) = 2 ^ 8 * (b + 256 * d) + a by omega, show x + 256 * (y + 256 * z) = 2 ^ 8 * (y + 256 * z) + x by omega, h1, show b + 256 * d = 2 ^ 8 * d + b by omega, show y + 256 * z = 2 ^ 8 * z + y by omega, h2]
  omega
theorem bc_b1 : ∀ a, a < 256 → ∀ d, d < 2 → (a / 2 + 128 * d) &&& 85 = a / 2 &&& 85 := by decide +kernel
theorem bc_l1 : ∀ a, a < 256 → (a / 2 &&& 85) ≤ a := by decide +kernel
theorem bc_b2 : ∀ a, a < 171 → ∀ d, d < 4 → (a / 4 + 64 * d) &&& 51 = a / 4 &&& 51 := by decide +kernel
theorem bc_l2 : ∀ a, a < 256 → bc1 a < 171 ∧ bc2 (bc1 a) < 69 ∧ bc2 (bc1 a) % 16 ≤ 4 ∧ bc3 (bc2 (bc1 a)) ≤ 8 := by decide +kernel
theorem bc_b3 : ∀ a, a < 69 → ∀ d, d < 16 → (a + (a / 16 + 16 * d)) &&& 15 = (a + a / 16) &&& 15 := by decide +kernel
theorem bc_ok : ∀ a, a < 256 → bc3 (bc2 (bc1 a)) = cntB a 8 := by decide +kernel
theorem cntB_app {a c k : Nat} (ha : a < 2 ^ k) : ∀ d, cntB (2 ^ k * c + a) (k + d) = cntB a k + cntB c d
  | 0 => by
    show cntB (2 ^ k * c + a) k = cntB a k + 0
    rw [Nat.add_zero]
    refine cntB_congr k (fun i hi => ?_)
    rw [Nat.testBit_two_pow_mul_add _ ha, if_pos hi]
  | d + 1 => by
    have ih := cntB_app (c := c) ha d
    show cntB (2 ^ k * c + a) ((k + d) + 1) = _
    conv => lhs; unfold cntB
    conv => rhs; rhs; unfold cntB
    have e : (2 ^ k * c + a).testBit (k + d) = c.testBit d := by
      rw [Nat.testBit_two_pow_mul_add _ ha, if_neg (by omega), show k + d - k = d by omega]
    rw [e, ih]
    split <;> omega
theorem bc_sum {p q r : Nat} (hp : p ≤ 8) (hq : q ≤ 8) (hr : r ≤ 8) : ((p + 256 * (q + 256 * r) + (p + 256 * (q + 256 * r)) / 256) + (p + 256 * (q + 256 * r) + (p + 256 * (q + 256 * r)) / 256) / 65536) % 64 = p + (q + r) := by
  have e1 : (p + 256 * (q + 256 * r)) / 256 = q + 256 * r := by omega
  rw [e1]
  have e2 : (p + 256 * (q + 256 * r) + (q + 256 * r)) / 65536 = r := by omega
  rw [e2]
  omega
theorem bc_nat {S : Nat} (hS : S < 2 ^ 20) :
    ∃ x1 x2 x3 : Nat, (S / 2 &&& 1431655765) ≤ S ∧ x1 = S - (S / 2 &&& 1431655765) ∧ x1 < 2 ^ 24 ∧ x2 = (x1 &&& 858993459) + (x1 / 4 &&& 858993459) ∧ x2 < 2 ^ 24 ∧ x3 = (x2 + x2 / 16) &&& 252645135 ∧ x3 < 2 ^ 24 ∧ ((x3 + x3 / 256) + (x3 + x3 / 256) / 65536) % 64 = cntB S 20 := by
  obtain ⟨a, b, d, rfl, ha, hb, hd⟩ : ∃ a b d : Nat, S = a + 256 * (b + 256 * d) ∧ a < 256 ∧ b < 256 ∧ d < 16 := ⟨S % 256, S / 256 % 256, S / 65536, by omega, by omega, by omega, by omega⟩
  have hd2 : d < 256 := by omega
  have s1 : (a + 256 * (b + 256 * d)) / 2 &&& 1431655765 = (a / 2 &&& 85) + 256 * ((b / 2 &&& 85) + 256 * (d / 2 &&& 85)) := by
    have e1 : (a + 256 * (b + 256 * d)) / 2 = (a / 2 + 128 * (b % 2)) + 256 * ((b / 2 + 128 * (d % 2)) + 256 * (d / 2)) := by omega
    have e2 : d / 2 &&& 21845 = d / 2 &&& 85 := by
      have : ∀ d, d < 16 → d / 2 &&& 21845 = d / 2 &&& 85 := by decide +kernel
      exact this d hd
    rw [e1, show 1431655765 = 85 + 256 * (85 + 256 * 21845) by rfl, and3 (by omega) (by omega) (by decide) (by decide), bc_b1 a ha _ (by omega), bc_b1 b hb _ (by omega), e2]
  have l1 := bc_l1 a ha
  have l2 := bc_l1 b hb
  have l3 := bc_l1 d hd2
  have m1 := bc_l2 a ha
  have m2 := bc_l2 b hb
  have m3 := bc_l2 d hd2
  have x1e : a + 256 * (b + 256 * d) - ((a + 256 * (b + 256 * d)) / 2 &&& 1431655765) = bc1 a + 256 * (bc1 b + 256 * bc1 d) := by
    rw [s1]
    unfold bc1
    omega
  have hd1 : bc1 d ≤ 15 := by
    unfold bc1
    omega
  have s2 : bc2 (bc1 a) + 256 * (bc2 (bc1 b) + 256 * bc2 (bc1 d)) = ((bc1 a + 256 * (bc1 b + 256 * bc1 d)) &&& 858993459) + ((bc1 a + 256 * (bc1 b + 256 * bc1 d)) / 4 &&& 858993459) := by
    have e1 : (bc1 a + 256 * (bc1 b + 256 * bc1 d)) / 4 = (bc1 a / 4 + 64 * (bc1 b % 4)) + 256 * ((bc1 b / 4 + 64 * (bc1 d % 4)) + 256 * (bc1 d / 4)) := by omega
    have e2 : ∀ x, x < 16 → x &&& 13107 = x &&& 51 := by decide +kernel
    rw [e1, show 858993459 = 51 + 256 * (51 + 256 * 13107) by rfl, and3 (by omega) (by omega) (by decide) (by decide), and3 (by omega) (by omega) (by decide) (by decide), bc_b2 _ m1.1 _ (by omega), bc_b2 _ m2.1 _ (by omega), e2 _ (by omega), e2 _ (by omega)]
    unfold bc2
    omega
  have hd3 : bc2 (bc1 d) < 16 := by
    have : ∀ d, d < 16 → bc2 (bc1 d) < 16 ∨ bc2 (bc1 d) < 69 := by decide +kernel
    have h2 : ∀ x, x < 16 → bc2 x < 16 := by decide +kernel
    exact h2 _ (by omega)
  have s3 : bc3 (bc2 (bc1 a)) + 256 * (bc3 (bc2 (bc1 b)) + 256 * bc3 (bc2 (bc1 d))) = ((bc2 (bc1 a) + 256 * (bc2 (bc1 b) + 256 * bc2 (bc1 d))) + (bc2 (bc1 a) + 256 * (bc2 (bc1 b) + 256 * bc2 (bc1 d))) / 16) &&& 252645135 := by
    have e1 : (bc2 (bc1 a) + 256 * (bc2 (bc1 b) + 256 * bc2 (bc1 d))) + (bc2 (bc1 a) + 256 * (bc2 (bc1 b) + 256 * bc2 (bc1 d))) / 16 = (bc2 (bc1 a) + (bc2 (bc1 a) / 16 + 16 * (bc2 (bc1 b) % 16))) + 256 * ((bc2 (bc1 b) + (bc2 (bc1 b) / 16 + 16 * (bc2 (bc1 d) % 16))) + 256 * (bc2 (bc1 d) + bc2 (bc1 d) / 16)) := by omega
    have e2 : ∀ x, x < 16 → (x + x / 16) &&& 3855 = (x + x / 16) &&& 15 := by decide +kernel
    rw [e1, show 252645135 = 15 + 256 * (15 + 256 * 3855) by rfl, and3 (by omega) (by omega) (by decide) (by decide), bc_b3 _ m1.2.1 _ (by omega), bc_b3 _ m2.2.1 _ (by omega), e2 _ hd3]
    rfl
  refine ⟨bc1 a + 256 * (bc1 b + 256 * bc1 d), bc2 (bc1 a) + 256 * (bc2 (bc1 b) + 256 * bc2 (bc1 d)), bc3 (bc2 (bc1 a)) + 256 * (bc3 (bc2 (bc1 b)) + 256 * bc3 (bc2 (bc1 d))), ?_, x1e.symm, by omega, s2, by omega, s3, by omega, ?_⟩
  · rw [s1]
    omega
  · have hc : cntB (a + 256 * (b + 256 * d)) 20 = cntB a 8 + (cntB b 8 + cntB d 4) := by
      have h1 := cntB_app (k := 8) (a := a) (c := b + 256 * d) ha 12
      have h2 := cntB_app (k := 8) (a := b) (c := d) hb 4
      rw [show 2 ^ 8 * (b + 256 * d) + a = a + 256 * (b + 256 * d) by omega] at h1
      rw [show 2 ^ 8 * d + b = b + 256 * d by omega] at h2
      rw [← h2]
      exact h1
    have hc4 : cntB d 8 = cntB d 4 := by
      have : ∀ d, d < 16 → cntB d 8 = cntB d 4 := by decide +kernel
      exact this d hd
    rw [hc, ← hc4, ← bc_ok a ha, ← bc_ok b hb, ← bc_ok d hd2]
    exact bc_sum m1.2.2.2 m2.2.2.2 m3.2.2.2
theorem jk_bitCount (l : Launch) (g : xg) (A : Nat → Prop) (P : Heap → Prop) (S : Nat) (hS : S < 2 ^ 20) : Met l yJ17_bitCount (ws_ yJ17_bitCount cJ17_bitCount 1 (some .int)) (xrm 0 0 0) (xPc g A [.int (nI S)] P) (zQi A P (fun r => r = nI (cntB S 20))) 0 0 A := by
  obtain ⟨x1, x2, x3, h1, h2, h3, h4, h5, h6, h7, h8⟩ := bc_nat hS
  refine x_start rfl (Nat.le_of_ble_eq_true rfl) ?_
  intro p e s m below meth c hx hb hr hlk hml hown hts hnm hE hM hS ls hl
  have hF : xFix p m c cJ17_bitCount 1 s _ RJ17 := ⟨hx, hb, hml, hown, hts⟩
  generalize hargs : List.toArray _ = args at hts hF ⊢
  generalize hQ : MQ below _ _ s _ _ A = Q
  refine lv_iload_n hx hb dJ17_bitCount_0 rfl (lh_at hl rfl) ?_
  refine lv_iload_n hx hb dJ17_bitCount_1 rfl (lh_at hl rfl) ?_
  refine n_const hx hb 1 dJ17_bitCount_2 (by decide +kernel) ?_
  refine n_iushr hx hb (by omega) rfl dJ17_bitCount_3 ?_
  refine lv_ldcw (v := nI 1431655765) hx hb hown (hts _ q1003) dJ17_bitCount_4 ?_
  refine n_iand hx hb dJ17_bitCount_7 ?_
  refine n_isub hx hb (by omega) dJ17_bitCount_8 ?_
  rw [show S / 2 ^ 1 = S / 2 by rfl, ← h2]
  refine x_istore_n hx hb dJ17_bitCount_9 rfl hl (by decide) (fun ls hl => ?_)
  refine lv_iload_n hx hb dJ17_bitCount_10 rfl (lh_at hl rfl) ?_
  refine lv_ldcw (v := nI 858993459) hx hb hown (hts _ q1004) dJ17_bitCount_11 ?_
  refine n_iand hx hb dJ17_bitCount_14 ?_
  refine lv_iload_n hx hb dJ17_bitCount_15 rfl (lh_at hl rfl) ?_
  refine n_const hx hb 2 dJ17_bitCount_16 (by decide +kernel) ?_
  refine n_iushr hx hb (by omega) rfl dJ17_bitCount_17 ?_
  refine lv_ldcw (v := nI 858993459) hx hb hown (hts _ q1004) dJ17_bitCount_18 ?_
  refine n_iand hx hb dJ17_bitCount_21 ?_
  refine n_iadd hx hb dJ17_bitCount_22 ?_
  rw [show x1 / 2 ^ 2 = x1 / 4 by rfl, ← h4]
  refine x_istore_n hx hb dJ17_bitCount_23 rfl hl (by decide) (fun ls hl => ?_)
  refine lv_iload_n hx hb dJ17_bitCount_24 rfl (lh_at hl rfl) ?_
  refine lv_iload_n hx hb dJ17_bitCount_25 rfl (lh_at hl rfl) ?_
  refine n_const hx hb 4 dJ17_bitCount_26 (by decide +kernel) ?_
  refine n_iushr hx hb (by omega) rfl dJ17_bitCount_27 ?_
  refine n_iadd hx hb dJ17_bitCount_28 ?_
  refine lv_ldcw (v := nI 252645135) hx hb hown (hts _ q1005) dJ17_bitCount_29 ?_
  refine n_iand hx hb dJ17_bitCount_32 ?_
  rw [show x2 / 2 ^ 4 = x2 / 16 by rfl, ← h6]
  refine x_istore_n hx hb dJ17_bitCount_33 rfl hl (by decide) (fun ls hl => ?_)
  refine lv_iload_n hx hb dJ17_bitCount_34 rfl (lh_at hl rfl) ?_
  refine lv_iload_n hx hb dJ17_bitCount_35 rfl (lh_at hl rfl) ?_
  refine n_bipush hx hb 8 dJ17_bitCount_36 (by decide +kernel) ?_
  refine n_iushr hx hb (by omega) rfl dJ17_bitCount_38 ?_
  refine n_iadd hx hb dJ17_bitCount_39 ?_
  refine x_istore_n hx hb dJ17_bitCount_40 rfl hl (by decide) (fun ls hl => ?_)
  refine lv_iload_n hx hb dJ17_bitCount_41 rfl (lh_at hl rfl) ?_
  refine lv_iload_n hx hb dJ17_bitCount_42 rfl (lh_at hl rfl) ?_
  refine n_bipush hx hb 16 dJ17_bitCount_43 (by decide +kernel) ?_
  refine n_iushr hx hb (by omega) rfl dJ17_bitCount_45 ?_
  refine n_iadd hx hb dJ17_bitCount_46 ?_
  refine x_istore_n hx hb dJ17_bitCount_47 rfl hl (by decide) (fun ls hl => ?_)
  refine lv_iload_n hx hb dJ17_bitCount_48 rfl (lh_at hl rfl) ?_
  refine n_bipush hx hb 63 dJ17_bitCount_49 (by decide +kernel) ?_
  refine n_iand hx hb dJ17_bitCount_51 ?_
  refine hQ ▸ x_iret hx hb hr hlk hS () ?_ hM dJ17_bitCount_52
  rw [← h8]
  congr 1
  exact Nat.and_two_pow_sub_one_eq_mod _ 6
