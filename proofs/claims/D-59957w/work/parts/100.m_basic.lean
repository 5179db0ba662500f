/-! THE REFERENCE, its small methods: numbers and ways -/
set_option maxRecDepth 100000
section XT
variable {p : Program} {l : Launch} {e : Env} {R : Room} {s : State} {m : MethodId} {args : Array Value} {below : List Frame} {meth : Method} {c : Code} {H : Heap} {locs : List Loc} {cells slots : Nat} {Q : State → Prop} {pc : Nat} {ls : Array Slot} {rest : List Value}
/-- the number on top under another name -/
theorem x_top {x y : Int32} (h : x = y) (k : W p l e R s m args below meth c H locs cells slots Q (F0 m pc ls (.int y :: rest))) : W p l e R s m args below meth c H locs cells slots Q (F0 m pc ls (.int x :: rest)) := by
  subst h
  exact k
end XT
theorem nI_sub_toInt {a b : Nat} (ha : a < 2 ^ 30) (hb : b < 2 ^ 30) : (nI a - nI b).toInt = (a : Int) - b := pk_sub_toInt ha hb
theorem nI_sub0 {a b : Nat} (ha : a < 2 ^ 30) (hb : b < 2 ^ 30) : nI a - nI b = 0 ↔ a = b := by
  constructor
  · intro h
    have := nI_sub_toInt ha hb
    rw [h, Int32.toInt_zero] at this
    omega
  · rintro rfl
    exact Int32.sub_self _
theorem nI_sub_ge {a b : Nat} (ha : a < 2 ^ 30) (hb : b < 2 ^ 30) : 0 ≤ nI a - nI b ↔ b ≤ a := by
  rw [Int32.le_iff_toInt_le, nI_sub_toInt ha hb, Int32.toInt_zero]
  omega
theorem nI_nsub {a b : Nat} (h : a ≤ b) : -(nI a - nI b) = nI (b - a) := by
  rw [← pk_sub h]
  exact Int32.neg_sub
set_option maxHeartbeats 4000000 in
theorem mk_way (l : Launch) (g : xg) (A : Nat → Prop) (m0 : Nat) (ad : Nat → Nat) (μ : mS) (G P a b : Nat) (hG : μ.1 3 = nI G) (hP : μ.1 2 = nI P) (hG9 : G ≤ 9) (hP20 : P ≤ 20) (ha : a < 1000) (hb1 : b < 1000) (hap : a % 100 ≤ P) (hbp : b % 100 ≤ P) :
    Met l yX3_way (ws_ yX3_way cX3_way 8 (some .int)) (xrm 0 0 0) (mPc g A m0 ad μ [.int (nI a), .int (nI b)]) (mQi g A m0 ad (fun r u => r = nI (wayN G P a b) ∧ u = μ)) 0 0 A := by
  refine x_start rfl (Nat.le_of_ble_eq_true rfl) ?_
  intro p e s m below meth c hx hb hr hlk hml hown hts hnm hE hM hS ls hl
  have hF : xFix p m c cX3_way 8 s _ RX3 := ⟨hx, hb, hml, hown, hts⟩
  generalize hargs : List.toArray _ = args at hts hF ⊢
  generalize hQ : MQ below _ _ s _ _ A = Q
  refine lv_iload_n hx hb dX3_way_0 rfl (lh_at hl rfl) ?_
  refine n_bipush hx hb 100 dX3_way_1 (by decide +kernel) ?_
  refine n_idiv hx hb (by omega) (by decide) (by decide) dX3_way_3 ?_
  refine lv_iload_n hx hb dX3_way_4 rfl (lh_at hl rfl) ?_
  refine n_bipush hx hb 100 dX3_way_5 (by decide +kernel) ?_
  refine n_idiv hx hb (by omega) (by decide) (by decide) dX3_way_7 ?_
  refine lv_isub hx hb dX3_way_8 ?_
  refine x_istore_n hx hb dX3_way_9 rfl hl (by decide) (fun ls hl => ?_)
  refine lv_iload_n hx hb dX3_way_10 rfl (lh_at hl rfl) ?_
  refine n_bipush hx hb 100 dX3_way_11 (by decide +kernel) ?_
  refine n_irem hx hb (by omega) (by decide) (by decide) dX3_way_13 ?_
  refine x_istore hx hb dX3_way_14 hl (by decide) (fun ls hl => ?_)
  refine lv_iload_n hx hb dX3_way_16 rfl (lh_at hl rfl) ?_
  refine n_bipush hx hb 100 dX3_way_17 (by decide +kernel) ?_
  refine n_irem hx hb (by omega) (by decide) (by decide) dX3_way_19 ?_
  refine x_istore hx hb dX3_way_20 hl (by decide) (fun ls hl => ?_)
  refine lv_iload_n hx hb dX3_way_22 rfl (lh_at hl rfl) ?_
  refine lv_if_ne (tgt := 47) hx hb dX3_way_23 (by decide) (fun c1 => ?_) (fun c1 => ?_)
  · have hne : a / 100 ≠ b / 100 := fun z => c1 ((nI_sub0 (by omega) (by omega)).mpr z)
    refine lv_iload hx hb dX3_way_47 (lh_at hl rfl) ?_
    refine lv_iload hx hb dX3_way_49 (lh_at hl rfl) ?_
    refine n_iadd hx hb dX3_way_51 ?_
    refine x_istore hx hb dX3_way_52 hl (by decide) (fun ls hl => ?_)
    refine n_const hx hb 2 dX3_way_54 (by decide +kernel) ?_
    refine lv_aload_n hx hb dX3_way_55 rfl (lh_at hl rfl) ?_
    refine m_getI hF hE hM 2 (by decide) q1316 rfl (by first | assumption | rfl) dX3_way_56 ?_
    refine n_const hx hb 1 dX3_way_59 (by decide +kernel) ?_
    refine n_iadd hx hb dX3_way_60 ?_
    refine n_imul hx hb dX3_way_61 ?_
    refine lv_iload hx hb dX3_way_62 (lh_at hl rfl) ?_
    refine n_isub hx hb (by omega) dX3_way_64 ?_
    refine x_istore hx hb dX3_way_65 hl (by decide) (fun ls hl => ?_)
    refine lv_iload_n hx hb dX3_way_67 rfl (lh_at hl rfl) ?_
    have J : ∀ ls v, lh ls 8 (xl [(0, .ref m0), (6, .int (nI (a % 100 + b % 100))), (7, .int (nI (2 * (P + 1) - (a % 100 + b % 100))))]) → v = (if b / 100 ≤ a / 100 then a / 100 - b / 100 else b / 100 - a / 100) → W p l e (xrm 0 0 0) s m args below meth c s.heap [] 0 0 Q (F0 m 77 ls [.int (nI v)]) := by
      intro ls v hl hv
      refine lv_aload_n hx hb dX3_way_77 rfl (lh_at hl rfl) ?_
      refine m_getI hF hE hM 3 (by decide) q1317 rfl (by first | assumption | rfl) dX3_way_78 ?_
      refine n_imul hx hb dX3_way_81 ?_
      refine lv_iload hx hb dX3_way_82 (lh_at hl rfl) ?_
      refine lv_iload hx hb dX3_way_84 (lh_at hl rfl) ?_
      refine n_icmp_ge (tgt := 94) hx hb dX3_way_86 (by decide) (by omega) (by omega) (fun c2 => ?_) (fun c2 => ?_)
      · refine lv_iload hx hb dX3_way_94 (lh_at hl rfl) ?_
        refine n_iadd hx hb dX3_way_96 ?_
        exact hQ ▸ x_iret hx hb hr hlk hS μ ⟨by simp only [wayN]; rw [if_neg hne, ← hv, if_neg (by omega)], rfl⟩ hM dX3_way_97
      · refine lv_iload hx hb dX3_way_89 (lh_at hl rfl) ?_
        refine lv_goto (tgt := 96) hx hb dX3_way_91 (by decide) ?_
        refine n_iadd hx hb dX3_way_96 ?_
        exact hQ ▸ x_iret hx hb hr hlk hS μ ⟨by simp only [wayN]; rw [if_neg hne, ← hv, if_pos (by omega)], rfl⟩ hM dX3_way_97
    refine lv_if_ge (tgt := 76) hx hb dX3_way_68 (by decide) (fun c3 => ?_) (fun c3 => ?_)
    · have hge := (nI_sub_ge (by omega) (by omega)).mp c3
      refine lv_iload_n hx hb dX3_way_76 rfl (lh_at hl rfl) ?_
      refine x_top (pk_sub hge) ?_
      exact J _ _ (lh_sub hl _ ⟨rfl, rfl, rfl, trivial⟩) (by rw [if_pos hge])
    · have hlt : ¬ b / 100 ≤ a / 100 := fun z => c3 ((nI_sub_ge (by omega) (by omega)).mpr z)
      refine lv_iload_n hx hb dX3_way_71 rfl (lh_at hl rfl) ?_
      refine lv_ineg hx hb dX3_way_72 ?_
      refine x_top (nI_nsub (by omega)) ?_
      refine lv_goto (tgt := 77) hx hb dX3_way_73 (by decide) ?_
      exact J _ _ (lh_sub hl _ ⟨rfl, rfl, rfl, trivial⟩) (by rw [if_neg hlt])
  · have heq : a / 100 = b / 100 := (nI_sub0 (by omega) (by omega)).mp c1
    refine lv_iload hx hb dX3_way_26 (lh_at hl rfl) ?_
    refine lv_iload hx hb dX3_way_28 (lh_at hl rfl) ?_
    refine n_icmp_ge (tgt := 41) hx hb dX3_way_30 (by decide) (by omega) (by omega) (fun c2 => ?_) (fun c2 => ?_)
    · refine lv_iload hx hb dX3_way_41 (lh_at hl rfl) ?_
      refine lv_iload hx hb dX3_way_43 (lh_at hl rfl) ?_
      refine n_isub hx hb (by omega) dX3_way_45 ?_
      exact hQ ▸ x_iret hx hb hr hlk hS μ ⟨by simp only [wayN]; rw [if_pos heq, if_neg (by omega)], rfl⟩ hM dX3_way_46
    · refine lv_iload hx hb dX3_way_33 (lh_at hl rfl) ?_
      refine lv_iload hx hb dX3_way_35 (lh_at hl rfl) ?_
      refine n_isub hx hb (by omega) dX3_way_37 ?_
      refine lv_goto (tgt := 46) hx hb dX3_way_38 (by decide) ?_
      exact hQ ▸ x_iret hx hb hr hlk hS μ ⟨by simp only [wayN]; rw [if_pos heq, if_pos (by omega)], rfl⟩ hM dX3_way_46
set_option maxHeartbeats 4000000 in
theorem mk_thrown (l : Launch) (g : xg) (A : Nat → Prop) (m0 : Nat) (ad : Nat → Nat) (μ : mS) :
    Met l yX3_thrown (ws_ yX3_thrown cX3_thrown 1 (some .int)) (xrm 0 0 0) (mPc g A m0 ad μ []) (mQi g A m0 ad (fun r u => r = μ.1 0 ∧ u = μ)) 0 0 A := by
  refine x_start rfl (Nat.le_of_ble_eq_true rfl) ?_
  intro p e s m below meth c hx hb hr hlk hml hown hts hnm hE hM hS ls hl
  have hF : xFix p m c cX3_thrown 1 s _ RX3 := ⟨hx, hb, hml, hown, hts⟩
  generalize hargs : List.toArray _ = args at hts hF ⊢
  generalize hQ : MQ below _ _ s _ _ A = Q
  refine lv_aload_n hx hb dX3_thrown_0 rfl (lh_at hl rfl) ?_
  refine m_getI hF hE hM 0 (by decide) q1314 rfl (by first | assumption | rfl) dX3_thrown_1 ?_
  exact hQ ▸ x_iret hx hb hr hlk hS μ ⟨rfl, rfl⟩ hM dX3_thrown_4
set_option maxHeartbeats 4000000 in
theorem mk_fails (l : Launch) (g : xg) (A : Nat → Prop) (m0 : Nat) (ad : Nat → Nat) (μ : mS) (k : Int32) :
    Met l yX3_fails (ws_ yX3_fails cX3_fails 2 (some .int)) (xrm 0 0 0) (mPc g A m0 ad μ [.int k]) (mQi g A m0 ad (fun r u => r = 0 ∧ u = m_setI μ 0 k)) 0 0 A := by
  refine x_start rfl (Nat.le_of_ble_eq_true rfl) ?_
  intro p e s m below meth c hx hb hr hlk hml hown hts hnm hE hM hS ls hl
  have hF : xFix p m c cX3_fails 2 s _ RX3 := ⟨hx, hb, hml, hown, hts⟩
  generalize hargs : List.toArray _ = args at hts hF ⊢
  generalize hQ : MQ below _ _ s _ _ A = Q
  refine lv_aload_n hx hb dX3_fails_0 rfl (lh_at hl rfl) ?_
  refine lv_iload_n hx hb dX3_fails_1 rfl (lh_at hl rfl) ?_
  refine m_putI hF hE hM hS 0 (by decide) q1314 rfl (by decide +kernel) rfl dX3_fails_2 (fun H locs hM hS => ?_)
  refine lv_iconst (v := 0) hx hb dX3_fails_5 (by decide +kernel) ?_
  exact hQ ▸ x_iret hx hb hr hlk hS _ ⟨rfl, rfl⟩ hM dX3_fails_6
set_option maxHeartbeats 4000000 in
theorem zk_in (l : Launch) (g : xg) (A : Nat → Prop) (P : Heap → Prop) (v lo hi : Int32) :
    Met l yX3_in (ws_ yX3_in cX3_in 3 (some .boolean)) (xrm 0 0 0) (zPc g A P [.int v, .int lo, .int hi]) (zQi A P (fun r => r = if lo ≤ v ∧ v ≤ hi then 1 else 0)) 0 0 A := by
  refine x_start rfl (Nat.le_of_ble_eq_true rfl) ?_
  intro p e s m below meth c hx hb hr hlk hml hown hts hnm hE hM hS ls hl
  have hF : xFix p m c cX3_in 3 s _ RX3 := ⟨hx, hb, hml, hown, hts⟩
  generalize hargs : List.toArray _ = args at hts hF ⊢
  generalize hQ : MQ below _ _ s _ _ A = Q
  refine lv_iload_n hx hb dX3_in_0 rfl (lh_at hl rfl) ?_
  refine lv_iload_n hx hb dX3_in_1 rfl (lh_at hl rfl) ?_
  refine lv_icmp_lt (tgt := 14) hx hb dX3_in_2 (by decide) (fun c1 => ?_) (fun c1 => ?_)
  · have h1 : ¬ lo ≤ v := Int32.not_le.mpr c1
    refine lv_iconst (v := 0) hx hb dX3_in_14 (by decide +kernel) ?_
    exact hQ ▸ x_zret hx hb hr hlk hS () rfl (by rw [if_neg (fun z => h1 z.1)]) hM dX3_in_15
  · have h1 : lo ≤ v := Int32.not_lt.mp c1
    refine lv_iload_n hx hb dX3_in_5 rfl (lh_at hl rfl) ?_
    refine lv_iload_n hx hb dX3_in_6 rfl (lh_at hl rfl) ?_
    refine lv_icmp_gt (tgt := 14) hx hb dX3_in_7 (by decide) (fun c2 => ?_) (fun c2 => ?_)
    · have h2 : ¬ v ≤ hi := Int32.not_le.mpr c2
      refine lv_iconst (v := 0) hx hb dX3_in_14 (by decide +kernel) ?_
      exact hQ ▸ x_zret hx hb hr hlk hS () rfl (by rw [if_neg (fun z => h2 z.2)]) hM dX3_in_15
    · have h2 : v ≤ hi := Int32.not_lt.mp c2
      refine lv_iconst (v := 1) hx hb dX3_in_10 (by decide +kernel) ?_
      refine lv_goto (tgt := 15) hx hb dX3_in_11 (by decide) ?_
      exact hQ ▸ x_zret hx hb hr hlk hS () rfl (by rw [if_pos ⟨h1, h2⟩]) hM dX3_in_15
/-- 'in' from 0 to n - 1 -/
theorem in_xr {v : Int32} {n : Nat} (hn : n < 2 ^ 31) : (if (0 : Int32) ≤ v ∧ v ≤ nI n - 1 then (1 : Int32) else 0) = if (xr v n).isSome = true then 1 else 0 := by
  have h1 : (nI n - 1).toInt = (n : Int) - 1 := by
    rcases n with _ | n
    · decide
    · rw [nI_pred, nI_toInt (by omega)]
      omega
  unfold xr
  by_cases h : 0 ≤ v.toInt ∧ v.toInt < (n : Int)
  · rw [if_pos h, if_pos]
    · rfl
    · rw [Int32.le_iff_toInt_le, Int32.le_iff_toInt_le, h1, Int32.toInt_zero]
      omega
  · rw [if_neg h, if_neg]
    · rfl
    · rw [Int32.le_iff_toInt_le, Int32.le_iff_toInt_le, h1, Int32.toInt_zero]
      omega
set_option maxHeartbeats 4000000 in
theorem zk_isProduct (l : Launch) (g : xg) (A : Nat → Prop) (P : Heap → Prop) (v : Int32) :
    Met l yX3_isProduct (ws_ yX3_isProduct cX3_isProduct 1 (some .boolean)) (xrm 1 0 0) (zPc g A P [.int v]) (zQi A P (fun r => r = if (xr v 20).isSome = true then 1 else 0)) 0 0 A := by
  refine x_start rfl (Nat.le_of_ble_eq_true rfl) ?_
  intro p e s m below meth c hx hb hr hlk hml hown hts hnm hE hM hS ls hl
  have hF : xFix p m c cX3_isProduct 1 s _ RX3 := ⟨hx, hb, hml, hown, hts⟩
  generalize hargs : List.toArray _ = args at hts hF ⊢
  generalize hQ : MQ below _ _ s _ _ A = Q
  refine lv_iload_n hx hb dX3_isProduct_0 rfl (lh_at hl rfl) ?_
  refine lv_iconst (v := 0) hx hb dX3_isProduct_1 (by decide +kernel) ?_
  refine lv_bipush (v := 19) hx hb dX3_isProduct_2 (by decide +kernel) ?_
  refine z_calli (P := P) (As := [.int v, .int 0, .int 19]) hF hE hM hS hl (zk_in l g A P v 0 19) q1392 q1393 q44 q1394 ⟨by decide +kernel, by decide +kernel, by show _ = some 3; decide +kernel⟩ rfl rfl ⟨Nat.le_of_ble_eq_true rfl, Nat.le_of_ble_eq_true rfl⟩ rfl (Nat.le_of_ble_eq_true rfl) dX3_isProduct_4 ⟨Nat.le_of_ble_eq_true rfl, Nat.le_of_ble_eq_true rfl⟩ (fun r H locs hq hM hS => ?_)
  have hq : r = if (xr v 20).isSome = true then 1 else 0 := hq.trans (in_xr (n := 20) (by decide))
  have hz : narrow .boolean (.int r) = .int r := by rw [hq]; split <;> rfl
  exact hQ ▸ x_zret hx hb hr hlk hS () hz hq hM dX3_isProduct_7
set_option maxHeartbeats 4000000 in
theorem mk_isOrder (l : Launch) (g : xg) (A : Nat → Prop) (m0 : Nat) (ad : Nat → Nat) (μ : mS) (v : Int32) (n : Nat) (hn : μ.1 6 = nI n) (hn2 : n ≤ 40) :
    Met l yX3_isOrder (ws_ yX3_isOrder cX3_isOrder 2 (some .boolean)) (xrm 1 0 0) (mPc g A m0 ad μ [.int v]) (mQi g A m0 ad (fun r u => r = (if (xr v n).isSome = true then 1 else 0) ∧ u = μ)) 0 0 A := by
  refine x_start rfl (Nat.le_of_ble_eq_true rfl) ?_
  intro p e s m below meth c hx hb hr hlk hml hown hts hnm hE hM hS ls hl
  have hF : xFix p m c cX3_isOrder 2 s _ RX3 := ⟨hx, hb, hml, hown, hts⟩
  generalize hargs : List.toArray _ = args at hts hF ⊢
  generalize hQ : MQ below _ _ s _ _ A = Q
  refine lv_iload_n hx hb dX3_isOrder_0 rfl (lh_at hl rfl) ?_
  refine lv_iconst (v := 0) hx hb dX3_isOrder_1 (by decide +kernel) ?_
  refine lv_aload_n hx hb dX3_isOrder_2 rfl (lh_at hl rfl) ?_
  refine m_getI hF hE hM 6 (by decide) q1320 rfl (by first | assumption | rfl) dX3_isOrder_3 ?_
  refine lv_iconst (v := 1) hx hb dX3_isOrder_6 (by decide +kernel) ?_
  refine lv_isub hx hb dX3_isOrder_7 ?_
  refine z_calli (P := mW g A m0 ad μ) (As := [.int v, .int 0, .int (nI n - 1)]) hF hE hM hS hl (zk_in l g A (mW g A m0 ad μ) v 0 (nI n - 1)) q1392 q1393 q44 q1394 ⟨by decide +kernel, by decide +kernel, by show _ = some 3; decide +kernel⟩ rfl rfl ⟨Nat.le_of_ble_eq_true rfl, Nat.le_of_ble_eq_true rfl⟩ rfl (Nat.le_of_ble_eq_true rfl) dX3_isOrder_8 ⟨Nat.le_of_ble_eq_true rfl, Nat.le_of_ble_eq_true rfl⟩ (fun r H locs hq hM hS => ?_)
  have hq : r = if (xr v n).isSome = true then 1 else 0 := hq.trans (in_xr (by omega))
  have hz : narrow .boolean (.int r) = .int r := by rw [hq]; split <;> rfl
  exact hQ ▸ x_zret hx hb hr hlk hS _ hz ⟨hq, rfl⟩ hM dX3_isOrder_11
set_option maxHeartbeats 4000000 in
theorem mk_isBatch (l : Launch) (g : xg) (A : Nat → Prop) (m0 : Nat) (ad : Nat → Nat) (μ : mS) (v : Int32) (n : Nat) (hn : μ.1 13 = nI n) (hn2 : n ≤ 40) :
    Met l yX3_isBatch (ws_ yX3_isBatch cX3_isBatch 2 (some .boolean)) (xrm 1 0 0) (mPc g A m0 ad μ [.int v]) (mQi g A m0 ad (fun r u => r = (if (xr v n).isSome = true then 1 else 0) ∧ u = μ)) 0 0 A := by
  refine x_start rfl (Nat.le_of_ble_eq_true rfl) ?_
  intro p e s m below meth c hx hb hr hlk hml hown hts hnm hE hM hS ls hl
  have hF : xFix p m c cX3_isBatch 2 s _ RX3 := ⟨hx, hb, hml, hown, hts⟩
  generalize hargs : List.toArray _ = args at hts hF ⊢
  generalize hQ : MQ below _ _ s _ _ A = Q
  refine lv_iload_n hx hb dX3_isBatch_0 rfl (lh_at hl rfl) ?_
  refine lv_iconst (v := 0) hx hb dX3_isBatch_1 (by decide +kernel) ?_
  refine lv_aload_n hx hb dX3_isBatch_2 rfl (lh_at hl rfl) ?_
  refine m_getI hF hE hM 13 (by decide) q1327 rfl (by first | assumption | rfl) dX3_isBatch_3 ?_
  refine lv_iconst (v := 1) hx hb dX3_isBatch_6 (by decide +kernel) ?_
  refine lv_isub hx hb dX3_isBatch_7 ?_
  refine z_calli (P := mW g A m0 ad μ) (As := [.int v, .int 0, .int (nI n - 1)]) hF hE hM hS hl (zk_in l g A (mW g A m0 ad μ) v 0 (nI n - 1)) q1392 q1393 q44 q1394 ⟨by decide +kernel, by decide +kernel, by show _ = some 3; decide +kernel⟩ rfl rfl ⟨Nat.le_of_ble_eq_true rfl, Nat.le_of_ble_eq_true rfl⟩ rfl (Nat.le_of_ble_eq_true rfl) dX3_isBatch_8 ⟨Nat.le_of_ble_eq_true rfl, Nat.le_of_ble_eq_true rfl⟩ (fun r H locs hq hM hS => ?_)
  have hq : r = if (xr v n).isSome = true then 1 else 0 := hq.trans (in_xr (by omega))
  have hz : narrow .boolean (.int r) = .int r := by rw [hq]; split <;> rfl
  exact hQ ▸ x_zret hx hb hr hlk hS _ hz ⟨hq, rfl⟩ hM dX3_isBatch_11
