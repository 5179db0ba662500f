/-! Integer.stringSize, Integer.getChars: as many places as are written; StringBuilder.append(int), toString -/
set_option maxRecDepth 100000
theorem ii_toInt : ∀ i, i ≤ 9 → (Int32.ofInt (-(10 ^ i : Int))).toInt = -(10 ^ i : Int) := by decide +kernel
theorem jk_sizeLoop {p : Program} {l : Launch} {e : Env} {R : Room} {s : State} {m : MethodId} {args : Array Value} {below : List Frame} {meth : Method} {c : Code} {H : Heap} {locs : List Loc} {Q : State → Prop} {x : Int32} {d : Nat} (hd : d ≤ 1) (hx : p.tables.exec = Jvm.exec) (hb : c.code = cJ17_stringSize) (mm : Nat) (hxm : x.toInt = -(mm : Int)) (hm : mm ≤ 2 ^ 31)
    (kk : ∀ k pc ls, 1 ≤ k → k ≤ 10 → mm < 10 ^ k → decode cJ17_stringSize pc = .ok (.ireturn, 1) → W p l e R s m args below meth c H locs 0 0 Q (F0 m pc ls [.int (nI (k + d))])) :
    ∀ (j i : Nat) (ls : Array Slot), i + j = 10 → 1 ≤ i → lh ls 4 (xl [(0, .int x), (1, .int (nI d)), (2, .int (Int32.ofInt (-(10 ^ i : Int)))), (3, .int (nI i))]) → W p l e R s m args below meth c H locs 0 0 Q (F0 m 16 ls []) := by
  intro j
  induction j with
  | zero =>
    intro i ls hij hi hl
    have hi10 : i = 10 := by omega
    subst hi10
    refine lv_iload_n hx hb dJ17_stringSize_16 rfl (lh_at hl rfl) ?_
    refine n_bipush hx hb 10 dJ17_stringSize_17 (by decide +kernel) ?_
    refine n_icmp_ge (tgt := 42) hx hb dJ17_stringSize_19 (by decide) (by omega) (by omega) (fun c1 => ?_) (fun c1 => ?_)
    · refine n_bipush hx hb 10 dJ17_stringSize_42 (by decide +kernel) ?_
      refine lv_iload_n hx hb dJ17_stringSize_44 rfl (lh_at hl rfl) ?_
      refine n_iadd hx hb dJ17_stringSize_45 ?_
      rw [Nat.add_comm 10 d, Nat.add_comm d 10]
      exact kk 10 _ _ (by decide) (by decide) (by omega) dJ17_stringSize_46
    · omega
  | succ j ih =>
    intro i ls hij hi hl
    have hti := ii_toInt i (by omega)
    refine lv_iload_n hx hb dJ17_stringSize_16 rfl (lh_at hl rfl) ?_
    refine n_bipush hx hb 10 dJ17_stringSize_17 (by decide +kernel) ?_
    refine n_icmp_ge (tgt := 42) hx hb dJ17_stringSize_19 (by decide) (by omega) (by omega) (fun c1 => ?_) (fun c1 => ?_)
    · omega
    · refine lv_iload_n hx hb dJ17_stringSize_22 rfl (lh_at hl rfl) ?_
      refine lv_iload_n hx hb dJ17_stringSize_23 rfl (lh_at hl rfl) ?_
      refine lv_icmp_le (tgt := 31) hx hb dJ17_stringSize_24 (by decide) (fun c2 => ?_) (fun c2 => ?_)
      · refine n_bipush hx hb 10 dJ17_stringSize_31 (by decide +kernel) ?_
        refine lv_iload_n hx hb dJ17_stringSize_33 rfl (lh_at hl rfl) ?_
        refine lv_imul hx hb dJ17_stringSize_34 ?_
        have he : nI 10 * Int32.ofInt (-(10 ^ i : Int)) = Int32.ofInt (-(10 ^ (i + 1) : Int)) := by
          rw [show nI 10 = Int32.ofInt 10 from rfl, ← Int32.ofInt_mul]
          congr 1
          rw [Int.pow_succ]
          omega
        rw [he]
        refine x_istore_n hx hb dJ17_stringSize_35 rfl hl (by decide) (fun ls hl => ?_)
        refine n_iinc hx hb 1 dJ17_stringSize_36 hl rfl (by decide +kernel) (by decide) (fun ls hl => ?_)
        refine lv_goto (tgt := 16) hx hb dJ17_stringSize_39 (by decide) ?_
        exact ih (i + 1) _ (by omega) (by omega) (lh_sub hl _ ⟨rfl, rfl, rfl, rfl, trivial⟩)
      · refine lv_iload_n hx hb dJ17_stringSize_27 rfl (lh_at hl rfl) ?_
        refine lv_iload_n hx hb dJ17_stringSize_28 rfl (lh_at hl rfl) ?_
        refine n_iadd hx hb dJ17_stringSize_29 ?_
        refine kk i _ _ hi (by omega) ?_ dJ17_stringSize_30
        rw [Int32.le_iff_toInt_le, hxm, hti] at c2
        have h3 : ((10 ^ i : Nat) : Int) = (10 ^ i : Int) := by simp
        omega
/-- how many digits at most -/
def szO (x : Int32) (r : Nat) : Prop := ∃ (mm k d : Nat), mm ≤ 2 ^ 31 ∧ 1 ≤ k ∧ k ≤ 10 ∧ mm < 10 ^ k ∧ r = k + d ∧ ((x < 0 ∧ d = 1 ∧ x.toInt = -(mm : Int)) ∨ (¬ x < 0 ∧ d = 0 ∧ x.toInt = (mm : Int)))
theorem i32_neg_toInt {x : Int32} (h : 0 ≤ x.toInt) : (-x).toInt = -x.toInt := by
  have h2 := x.toInt_lt
  rw [Int32.toInt_neg]
  rw [Int.bmod_eq_of_le] <;> omega
theorem i32_m {x : Int32} (h : x < 0) : ∃ mm : Nat, mm ≤ 2 ^ 31 ∧ x.toInt = -(mm : Int) := by
  have h2 := x.le_toInt
  rw [Int32.lt_iff_toInt_lt, Int32.toInt_zero] at h
  exact ⟨(-x.toInt).toNat, by omega, by omega⟩
theorem i32_p {x : Int32} (h : ¬ x < 0) : ∃ mm : Nat, mm ≤ 2 ^ 31 ∧ x.toInt = (mm : Int) := by
  have h2 := x.toInt_lt
  rw [Int32.lt_iff_toInt_lt, Int32.toInt_zero] at h
  exact ⟨x.toInt.toNat, by omega, by omega⟩
theorem jk_stringSize (l : Launch) (g : xg) (A : Nat → Prop) (P : Heap → Prop) (x : Int32) :
    Met l yJ17_stringSize (ws_ yJ17_stringSize cJ17_stringSize 4 (some .int)) (xrm 0 0 0) (xPc g A [.int x] P) (zQi A P (fun r => ∃ n, szO x n ∧ r = nI n)) 0 0 A := by
  refine x_start rfl (Nat.le_of_ble_eq_true rfl) ?_
  intro p e s m below meth c hx hb hr hlk hml hown hts hnm hE hM hS ls hl
  have hF : xFix p m c cJ17_stringSize 4 s _ RJ17 := ⟨hx, hb, hml, hown, hts⟩
  generalize hargs : List.toArray _ = args at hts hF ⊢
  generalize hQ : MQ below _ _ s _ _ A = Q
  refine n_const hx hb 1 dJ17_stringSize_0 (by decide +kernel) ?_
  refine x_istore_n hx hb dJ17_stringSize_1 rfl hl (by decide) (fun ls hl => ?_)
  refine lv_iload_n hx hb dJ17_stringSize_2 rfl (lh_at hl rfl) ?_
  refine lv_if_lt (tgt := 11) hx hb dJ17_stringSize_3 (by decide) (fun c1 => ?_) (fun c1 => ?_)
  · obtain ⟨mm, h1, h2⟩ := i32_m c1
    refine lv_bipush (v := -10) hx hb dJ17_stringSize_11 (by decide +kernel) ?_
    refine x_istore_n hx hb dJ17_stringSize_13 rfl hl (by decide) (fun ls hl => ?_)
    refine n_const hx hb 1 dJ17_stringSize_14 (by decide +kernel) ?_
    refine x_istore_n hx hb dJ17_stringSize_15 rfl hl (by decide) (fun ls hl => ?_)
    refine jk_sizeLoop (d := 1) (by decide) hx hb mm h2 h1 (fun k pc ls k1 k2 k3 hdg => ?_) 9 1 _ rfl (Nat.le_refl _) (lh_sub hl _ ⟨rfl, rfl, rfl, rfl, trivial⟩)
    exact hQ ▸ x_iret hx hb hr hlk hS () ⟨k + 1, ⟨mm, k, 1, h1, k1, k2, k3, rfl, Or.inl ⟨c1, rfl, h2⟩⟩, rfl⟩ hM hdg
  · obtain ⟨mm, h1, h2⟩ := i32_p c1
    refine n_const hx hb 0 dJ17_stringSize_6 (by decide +kernel) ?_
    refine x_istore_n hx hb dJ17_stringSize_7 rfl hl (by decide) (fun ls hl => ?_)
    refine lv_iload_n hx hb dJ17_stringSize_8 rfl (lh_at hl rfl) ?_
    refine lv_ineg hx hb dJ17_stringSize_9 ?_
    refine x_istore_n hx hb dJ17_stringSize_10 rfl hl (by decide) (fun ls hl => ?_)
    refine lv_bipush (v := -10) hx hb dJ17_stringSize_11 (by decide +kernel) ?_
    refine x_istore_n hx hb dJ17_stringSize_13 rfl hl (by decide) (fun ls hl => ?_)
    refine n_const hx hb 1 dJ17_stringSize_14 (by decide +kernel) ?_
    refine x_istore_n hx hb dJ17_stringSize_15 rfl hl (by decide) (fun ls hl => ?_)
    refine jk_sizeLoop (d := 0) (by decide) hx hb mm (by rw [i32_neg_toInt (by omega), h2]) h1 (fun k pc ls k1 k2 k3 hdg => ?_) 9 1 _ rfl (Nat.le_refl _) (lh_sub hl _ ⟨rfl, rfl, rfl, rfl, trivial⟩)
    exact hQ ▸ x_iret hx hb hr hlk hS () ⟨k, ⟨mm, k, 0, h1, k1, k2, k3, rfl, Or.inr ⟨c1, rfl, h2⟩⟩, rfl⟩ hM hdg
theorem szO_le {x : Int32} {r : Nat} (h : szO x r) : 1 ≤ r ∧ r ≤ 11 := by
  obtain ⟨mm, k, d, h1, h2, h3, h4, h5, h6⟩ := h
  rcases h6 with h6 | h6 <;> omega
theorem i32_of {x : Int32} {n : Nat} (h : x.toInt = (n : Int)) (hn : n < 2 ^ 31) : x = nI n := by
  apply Int32.toInt_inj.mp
  rw [h, nI_toInt hn]
theorem i32_div100 {x : Int32} {mm : Nat} (h : x.toInt = -(mm : Int)) (hm : mm ≤ 2 ^ 31) : (x / nI 100).toInt = -((mm / 100 : Nat) : Int) := by
  rw [Int32.toInt_div, h, nI_toInt (by decide), Int.neg_tdiv]
  have h1 : ((mm : Int).tdiv ((100 : Nat) : Int)) = ((mm / 100 : Nat) : Int) := rfl
  rw [h1, Int.bmod_eq_of_le] <;> omega
theorem i32_rem100 {x q : Int32} {mm : Nat} (h : x.toInt = -(mm : Int)) (hm : mm ≤ 2 ^ 31) (hq : q.toInt = -((mm / 100 : Nat) : Int)) : q * nI 100 - x = nI (mm % 100) := by
  refine i32_of ?_ (by omega)
  have h1 : (q * nI 100).toInt = -(((mm / 100) * 100 : Nat) : Int) := by
    rw [Int32.toInt_mul, hq, nI_toInt (by decide), Int.bmod_eq_of_le] <;> omega
  rw [Int32.toInt_sub, h1, h, Int.bmod_eq_of_le] <;> omega
theorem i32_negS {x : Int32} {mm : Nat} (h : x.toInt = -(mm : Int)) (hm : mm < 2 ^ 31) : -x = nI mm := by
  refine i32_of ?_ (by omega)
  rw [Int32.toInt_neg, h, Int.bmod_eq_of_le] <;> omega
theorem xE.ones {g : xg} {A : Nat → Prop} {s : State} (hE : xE g A s) : xDig "DigitOnes" A s s.heap := hE.2.2.2.2.2.2.2.2.2.2.1
theorem xE.tens {g : xg} {A : Nat → Prop} {s : State} (hE : xE g A s) : xDig "DigitTens" A s s.heap := hE.2.2.2.2.2.2.2.2.2.1
theorem jk_charsLoop {p : Program} {l : Launch} {e : Env} {R : Room} {s : State} {m : MethodId} {args : Array Value} {below : List Frame} {meth : Method} {c : Code} {Q : State → Prop} {g : xg} {A : Nat → Prop} {w : xw_W} {nV v cap d : Nat} (hx : p.tables.exec = Jvm.exec) (hb : c.code = cJ17_getChars) (hown : s.vm.findClass RJ17 = some m.cls) (hts : ∀ w ∈ lw_all, w.before args s = true) (hE : xE g A s) (hc : cap ≤ 300)
    (kk : ∀ (H : Heap) (locs : List Loc) (ls : Array Slot) (mm k c2 : Nat) (x : Int32) (f : Nat → Int32), bF f → xw g A (va_up w nV (some (v, .inl (g.2 4, cap, .inl f)))) H → va_S A s.heap H locs → x.toInt = -(mm : Int) → mm < 100 → 1 ≤ k → mm < 10 ^ k → k + d ≤ c2 → c2 ≤ cap → lh ls 7 (xl [(0, .int x), (2, .ref v), (5, .int (nI c2)), (6, .int (nI d))]) → W p l e R s m args below meth c H locs 0 0 Q (F0 m 72 ls [])) :
    ∀ (k : Nat) (H : Heap) (locs : List Loc) (ls : Array Slot) (mm c2 : Nat) (x : Int32) (f : Nat → Int32), bF f → xw g A (va_up w nV (some (v, .inl (g.2 4, cap, .inl f)))) H → va_S A s.heap H locs → x.toInt = -(mm : Int) → mm ≤ 2 ^ 31 → 1 ≤ k → mm < 10 ^ k → k + d ≤ c2 → c2 ≤ cap → lh ls 7 (xl [(0, .int x), (2, .ref v), (5, .int (nI c2)), (6, .int (nI d))]) → W p l e R s m args below meth c H locs 0 0 Q (F0 m 22 ls []) := by
  intro k
  induction k using Nat.strongRecOn with
  | ind k ih =>
  intro H locs ls mm c2 x f hf hM hS hxm hm hk hmk hkc hcc hl
  obtain ⟨vO, bO, hO, hO'⟩ := hE.ones
  obtain ⟨vT, bT, hT, hT'⟩ := hE.tens
  refine lv_iload_n hx hb dJ17_getChars_22 rfl (lh_at hl rfl) ?_
  refine lv_bipush (v := -100) hx hb dJ17_getChars_23 (by decide +kernel) ?_
  refine lv_icmp_gt (tgt := 72) hx hb dJ17_getChars_25 (by decide) (fun c1 => ?_) (fun c1 => ?_)
  · rw [show ((-100 : Int32)) = Int32.ofInt (-100) from rfl] at c1
    have hlt : mm < 100 := by
      have h1 : (Int32.ofInt (-100)).toInt = -100 := by decide
      have h2 := Int32.lt_iff_toInt_lt.mp c1
      rw [h1, hxm] at h2
      omega
    exact kk H locs ls mm k c2 x f hf hM hS hxm hlt hk hmk hkc hcc hl
  · have hge : 100 ≤ mm := by
      have h1 : ((-100 : Int32)).toInt = -100 := by decide
      have h2 : ¬ ((-100 : Int32)).toInt < x.toInt := fun z => c1 (Int32.lt_iff_toInt_lt.mpr z)
      rw [h1, hxm] at h2
      omega
    have hk3 : 3 ≤ k := by
      rcases Nat.lt_or_ge k 3 with h | h
      · have : k = 1 ∨ k = 2 := by omega
        rcases this with rfl | rfl <;> omega
      · exact h
    have hq := i32_div100 hxm hm
    have hrm := i32_rem100 hxm hm hq
    refine lv_iload_n hx hb dJ17_getChars_28 rfl (lh_at hl rfl) ?_
    refine n_bipush hx hb 100 dJ17_getChars_29 (by decide +kernel) ?_
    refine lv_idiv hx hb dJ17_getChars_31 (by decide +kernel) ?_
    refine x_istore_n hx hb dJ17_getChars_32 rfl hl (by decide) (fun ls hl => ?_)
    refine lv_iload_n hx hb dJ17_getChars_33 rfl (lh_at hl rfl) ?_
    refine n_bipush hx hb 100 dJ17_getChars_34 (by decide +kernel) ?_
    refine lv_imul hx hb dJ17_getChars_36 ?_
    refine lv_iload_n hx hb dJ17_getChars_37 rfl (lh_at hl rfl) ?_
    refine lv_isub hx hb dJ17_getChars_38 ?_
    rw [hrm]
    refine x_istore hx hb dJ17_getChars_39 hl (by decide) (fun ls hl => ?_)
    refine lv_iload_n hx hb dJ17_getChars_41 rfl (lh_at hl rfl) ?_
    refine x_istore_n hx hb dJ17_getChars_42 rfl hl (by decide) (fun ls hl => ?_)
    refine lv_aload_n hx hb dJ17_getChars_43 rfl (lh_at hl rfl) ?_
    refine n_idec hx hb dJ17_getChars_44 hl rfl (by omega) (by decide) (fun ls hl => ?_)
    refine lv_iload hx hb dJ17_getChars_47 (lh_at hl rfl) ?_
    refine va_gets hx hb hO hS hown (hts _ q470) (fun _ h => h) dJ17_getChars_49 ?_
    refine lv_iload hx hb dJ17_getChars_52 (lh_at hl rfl) ?_
    refine va_tb hx hb hO' hS (vp_in_nI (Nat.mod_lt mm (by decide)) (by decide)) rfl dJ17_getChars_54 ?_
    refine xr_bastF hx hb hE hM hS hf (by omega) (by omega) dJ17_getChars_55 (fun H locs f hf hM hS => ?_)
    refine lv_aload_n hx hb dJ17_getChars_56 rfl (lh_at hl rfl) ?_
    refine n_idec hx hb dJ17_getChars_57 hl rfl (by omega) (by decide) (fun ls hl => ?_)
    refine lv_iload hx hb dJ17_getChars_60 (lh_at hl rfl) ?_
    refine va_gets hx hb hT hS hown (hts _ q472) (fun _ h => h) dJ17_getChars_62 ?_
    refine lv_iload hx hb dJ17_getChars_65 (lh_at hl rfl) ?_
    refine va_tb hx hb hT' hS (vp_in_nI (Nat.mod_lt mm (by decide)) (by decide)) rfl dJ17_getChars_67 ?_
    refine xr_bastF hx hb hE hM hS hf (by omega) (by omega) dJ17_getChars_68 (fun H locs f hf hM hS => ?_)
    refine lv_goto (tgt := 22) hx hb dJ17_getChars_69 (by decide) ?_
    refine ih (k - 2) (by omega) H locs _ (mm / 100) (c2 - 1 - 1) _ f hf hM hS hq (by omega) (by omega) ?_ (by omega) (by omega) (lh_sub hl _ ⟨rfl, rfl, rfl, rfl, trivial⟩)
    obtain ⟨k', rfl⟩ : ∃ k', k = k' + 2 := ⟨k - 2, by omega⟩
    rw [Nat.pow_succ, Nat.pow_succ] at hmk
    show mm / 100 < 10 ^ k'
    omega
theorem jk_getChars (l : Launch) (g : xg) (A : Nat → Prop) (w : xw_W) (nV v cap ix r : Nat) (x : Int32) (f : Nat → Int32) (h : w nV = some (v, .inl (g.2 4, cap, .inl f))) (hf : bF f) (hc : cap ≤ 300) (hi : r ≤ ix) (hic : ix ≤ cap) (hs : szO x r) :
    Met l yJ17_getChars (ws_ yJ17_getChars cJ17_getChars 7 (some .int)) (xrm 0 0 0) (xPw g A w [.int x, .int (nI ix), .ref v]) (xQi (S := xw_W) (fun _ u => ∃ f', bF f' ∧ u = va_up w nV (some (v, .inl (g.2 4, cap, .inl f')))) (fun u => xw g A u) A) 0 0 A := by
  obtain ⟨mm, k, d, hm, hk1, hk2, hmk, hr0, hd⟩ := hs
  refine x_start rfl (Nat.le_of_ble_eq_true rfl) ?_
  intro p e s m below meth c hx hb hr hlk hml hown hts hnm hE hM hS ls hl
  have hF : xFix p m c cJ17_getChars 7 s _ RJ17 := ⟨hx, hb, hml, hown, hts⟩
  generalize hargs : List.toArray _ = args at hts hF ⊢
  generalize hQ : MQ below _ _ s _ _ A = Q
  obtain ⟨vO, bO, hO, hO'⟩ := hE.ones
  obtain ⟨vT, bT, hT, hT'⟩ := hE.tens
  have hM := hM.eq (w' := va_up w nV (some (v, .inl (g.2 4, cap, .inl f)))) (fun j => by
    by_cases hj : j = nV
    · rw [hj, va_up_s, h]
    · rw [va_up_n hj])
  have key : ∀ (ls : Array Slot) (x : Int32), x.toInt = -(mm : Int) → lh ls 7 (xl [(0, .int x), (2, .ref v), (5, .int (nI ix)), (6, .int (nI d))]) → W p l e (xrm 0 0 0) s m args below meth c s.heap [] 0 0 Q (F0 m 22 ls []) := by
    intro ls x hxm hl
    refine jk_charsLoop (d := d) hx hb hown hts hE hc (fun H locs ls mm k c2 x f hf hM hS hxm hm hk hmk hkc hcc hl => ?_) k s.heap [] ls mm ix x f hf hM hS hxm hm hk1 hmk (by omega) hic hl
    refine lv_aload_n hx hb dJ17_getChars_72 rfl (lh_at hl rfl) ?_
    refine n_idec hx hb dJ17_getChars_73 hl rfl (by omega) (by decide) (fun ls hl => ?_)
    refine lv_iload hx hb dJ17_getChars_76 (lh_at hl rfl) ?_
    refine va_gets hx hb hO hS hown (hts _ q470) (fun _ h => h) dJ17_getChars_78 ?_
    refine lv_iload_n hx hb dJ17_getChars_81 rfl (lh_at hl rfl) ?_
    refine lv_ineg hx hb dJ17_getChars_82 ?_
    rw [i32_negS hxm (by omega)]
    refine va_tb hx hb hO' hS (vp_in_nI hm (by decide)) rfl dJ17_getChars_83 ?_
    refine xr_bastF hx hb hE hM hS hf (by omega) (by omega) dJ17_getChars_84 (fun H locs f hf hM hS => ?_)
    have tail : ∀ (H : Heap) (locs : List Loc) (ls : Array Slot) (f : Nat → Int32) (c3 : Nat), bF f → xw g A (va_up w nV (some (v, .inl (g.2 4, cap, .inl f)))) H → va_S A s.heap H locs → d ≤ c3 → c3 ≤ cap → lh ls 7 (xl [(2, .ref v), (5, .int (nI c3)), (6, .int (nI d))]) → W p l e (xrm 0 0 0) s m args below meth c H locs 0 0 Q (F0 m 104 ls []) := by
      intro H locs ls f c3 hf hM hS hd3 hc3 hl
      refine lv_iload hx hb dJ17_getChars_104 (lh_at hl rfl) ?_
      refine n_if_eq (tgt := 118) hx hb dJ17_getChars_106 (by decide) (by omega) (fun c5 => ?_) (fun c5 => ?_)
      · refine lv_iload hx hb dJ17_getChars_118 (lh_at hl rfl) ?_
        exact hQ ▸ x_iret hx hb hr hlk hS _ ⟨f, hf, rfl⟩ hM dJ17_getChars_120
      · refine lv_aload_n hx hb dJ17_getChars_109 rfl (lh_at hl rfl) ?_
        refine n_idec hx hb dJ17_getChars_110 hl rfl (by omega) (by decide) (fun ls hl => ?_)
        refine lv_iload hx hb dJ17_getChars_113 (lh_at hl rfl) ?_
        refine n_bipush hx hb 45 dJ17_getChars_115 (by decide +kernel) ?_
        refine xr_bastF hx hb hE hM hS hf (by omega) (by omega) dJ17_getChars_117 (fun H locs f hf hM hS => ?_)
        refine lv_iload hx hb dJ17_getChars_118 (lh_at hl rfl) ?_
        exact hQ ▸ x_iret hx hb hr hlk hS _ ⟨f, hf, rfl⟩ hM dJ17_getChars_120
    refine lv_iload_n hx hb dJ17_getChars_85 rfl (lh_at hl rfl) ?_
    refine lv_bipush (v := -9) hx hb dJ17_getChars_86 (by decide +kernel) ?_
    refine lv_icmp_ge (tgt := 104) hx hb dJ17_getChars_88 (by decide) (fun c4 => ?_) (fun c4 => ?_)
    · exact tail H locs _ f (c2 - 1) hf hM hS (by omega) (by omega) (lh_sub hl _ ⟨rfl, rfl, rfl, trivial⟩)
    · have hge : 10 ≤ mm := by
        have h1 : ((-9 : Int32)).toInt = -9 := by decide
        have h2 : ¬ ((-9 : Int32)).toInt ≤ x.toInt := fun z => c4 (Int32.le_iff_toInt_le.mpr z)
        rw [h1, hxm] at h2
        omega
      have hk3 : 2 ≤ k := by
        rcases Nat.lt_or_ge k 2 with h | h
        · have : k = 1 := by omega
          subst this
          omega
        · exact h
      refine lv_aload_n hx hb dJ17_getChars_91 rfl (lh_at hl rfl) ?_
      refine n_idec hx hb dJ17_getChars_92 hl rfl (by omega) (by decide) (fun ls hl => ?_)
      refine lv_iload hx hb dJ17_getChars_95 (lh_at hl rfl) ?_
      refine va_gets hx hb hT hS hown (hts _ q472) (fun _ h => h) dJ17_getChars_97 ?_
      refine lv_iload_n hx hb dJ17_getChars_100 rfl (lh_at hl rfl) ?_
      refine lv_ineg hx hb dJ17_getChars_101 ?_
      rw [i32_negS hxm (by omega)]
      refine va_tb hx hb hT' hS (vp_in_nI hm (by decide)) rfl dJ17_getChars_102 ?_
      refine xr_bastF hx hb hE hM hS hf (by omega) (by omega) dJ17_getChars_103 (fun H locs f hf hM hS => ?_)
      exact tail H locs _ f (c2 - 1 - 1) hf hM hS (by omega) (by omega) (lh_sub hl _ ⟨rfl, rfl, rfl, trivial⟩)
  refine lv_iload_n hx hb dJ17_getChars_0 rfl (lh_at hl rfl) ?_
  refine x_istore hx hb dJ17_getChars_1 hl (by decide) (fun ls hl => ?_)
  refine lv_iload_n hx hb dJ17_getChars_3 rfl (lh_at hl rfl) ?_
  refine lv_if_ge (tgt := 11) hx hb dJ17_getChars_4 (by decide) (fun c1 => ?_) (fun c1 => ?_)
  · rcases hd with hd | hd
    · rw [Int32.le_iff_toInt_le, Int32.toInt_zero] at c1
      have := Int32.lt_iff_toInt_lt.mp hd.1
      rw [Int32.toInt_zero] at this
      omega
    · obtain ⟨-, rfl, hd2⟩ := hd
      refine n_const hx hb 0 dJ17_getChars_11 (by decide +kernel) ?_
      refine x_istore hx hb dJ17_getChars_12 hl (by decide) (fun ls hl => ?_)
      refine lv_iload hx hb dJ17_getChars_14 (lh_at hl rfl) ?_
      refine n_if_ne (tgt := 22) hx hb dJ17_getChars_16 (by decide) (by omega) (fun c2 => ?_) (fun c2 => ?_)
      · exact absurd rfl c2
      · refine lv_iload_n hx hb dJ17_getChars_19 rfl (lh_at hl rfl) ?_
        refine lv_ineg hx hb dJ17_getChars_20 ?_
        refine x_istore_n hx hb dJ17_getChars_21 rfl hl (by decide) (fun ls hl => ?_)
        exact key _ (-x) (by rw [i32_neg_toInt (by omega), hd2]) (lh_sub hl _ ⟨rfl, rfl, rfl, rfl, trivial⟩)
  · rcases hd with hd | hd
    · obtain ⟨-, rfl, hd2⟩ := hd
      refine n_const hx hb 1 dJ17_getChars_7 (by decide +kernel) ?_
      refine lv_goto (tgt := 12) hx hb dJ17_getChars_8 (by decide) ?_
      refine x_istore hx hb dJ17_getChars_12 hl (by decide) (fun ls hl => ?_)
      refine lv_iload hx hb dJ17_getChars_14 (lh_at hl rfl) ?_
      refine n_if_ne (tgt := 22) hx hb dJ17_getChars_16 (by decide) (by omega) (fun c2 => ?_) (fun c2 => ?_)
      · exact key _ x hd2 (lh_sub hl _ ⟨rfl, rfl, rfl, rfl, trivial⟩)
      · exact absurd c2 (by decide)
    · exact absurd (Int32.not_lt.mp hd.1) c1
theorem jk_appendI10 (l : Launch) (g : xg) (A : Nat → Prop) (w : xw_W) (nS nV nT a v cap n : Nat) (x : Int32) (h : sB g w nS nV a v cap n) (h2 : n + 11 ≤ 140) (hSV : nS ≠ nV) (hTV : nT ≠ nV) (hT : w nT = none) :
    Met l yJ10_append_2 (ws_ yJ10_append_2 cJ10_append_2 4 (some (.object "java/lang/AbstractStringBuilder"))) (xrm 4 1 300) (xPw g A w [.ref a, .int x]) (xQwr g A (fun ra u => ra = a ∧ (∃ v' cap' n', n' ≤ n + 11 ∧ sB g u nS nV a v' cap' n') ∧ xAg2 w u nS nV)) 1 300 A := by
  obtain ⟨ml, f, g1, g2, g3, g4, g5⟩ := id h
  refine x_start rfl (Nat.le_of_ble_eq_true rfl) ?_
  intro p e s m below meth c hx hb hr hlk hml hown hts hnm hE hM hS ls hl
  have hF : xFix p m c cJ10_append_2 4 s _ RJ10 := ⟨hx, hb, hml, hown, hts⟩
  generalize hargs : List.toArray _ = args at hts hF ⊢
  generalize hQ : MQ below _ _ s _ _ A = Q
  refine lv_aload_n hx hb dJ10_append_2_0 rfl (lh_at hl rfl) ?_
  refine xr_get (C := RJ11) (T := TJ11) (N := 4) (ci := 8) (n := nS) hx hb hts in_J11 hown hE hM (by first | assumption | exact va_up_s | rfl | (refine (va_up_n ?_).trans ?_; rotate_left; (first | assumption | exact va_up_s | rfl | (refine (va_up_n ?_).trans ?_; rotate_left; (first | assumption | exact va_up_s | rfl | (refine (va_up_n ?_).trans ?_; rotate_left; (first | assumption | exact va_up_s | rfl | (refine (va_up_n ?_).trans ?_; rotate_left; (first | assumption | exact va_up_s | rfl | (refine (va_up_n ?_).trans ?_; rotate_left; (assumption); omega)); omega)); omega)); omega)); omega)) rfl 3 (by decide) (hts _ q329) (fun _ h => h) rfl dJ10_append_2_1 ?_
  refine x_istore_n hx hb dJ10_append_2_4 rfl hl (by decide) (fun ls hl => ?_)
  refine lv_iload_n hx hb dJ10_append_2_5 rfl (lh_at hl rfl) ?_
  refine lv_iload_n hx hb dJ10_append_2_6 rfl (lh_at hl rfl) ?_
  refine x_calli (x_runS (As := [.int x]) hF hE hS hM hl (jk_stringSize l g A (xw g A w) x) q464 q465 q60 q466 ⟨by decide +kernel, by decide +kernel, by show _ = some 1; decide +kernel⟩ rfl rfl ⟨Nat.le_of_ble_eq_true rfl, Nat.le_of_ble_eq_true rfl⟩ rfl (Nat.le_of_ble_eq_true rfl) dJ10_append_2_7 ⟨Nat.le_of_ble_eq_true rfl, Nat.le_of_ble_eq_true rfl⟩) hS (fun r uu H locs hr1 hM hS => ?_)
  obtain ⟨sz, hsz, rfl⟩ := hr1
  have hz := szO_le hsz
  refine n_iadd hx hb dJ10_append_2_10 ?_
  refine x_istore_n hx hb dJ10_append_2_11 rfl hl (by decide) (fun ls hl => ?_)
  refine lv_aload_n hx hb dJ10_append_2_12 rfl (lh_at hl rfl) ?_
  refine lv_iload_n hx hb dJ10_append_2_13 rfl (lh_at hl rfl) ?_
  refine x_callv (x_runU (As := [.int (nI (n + sz))]) hF hE hS hM hl (jk_ensure l g A w nS nV nT a v cap n (n + sz) h (by omega) hSV hTV hT) (xw.recv hE hM (by first | assumption | exact va_up_s | rfl | (refine (va_up_n ?_).trans ?_; rotate_left; (first | assumption | exact va_up_s | rfl | (refine (va_up_n ?_).trans ?_; rotate_left; (first | assumption | exact va_up_s | rfl | (refine (va_up_n ?_).trans ?_; rotate_left; (first | assumption | exact va_up_s | rfl | (refine (va_up_n ?_).trans ?_; rotate_left; (first | assumption | exact va_up_s | rfl | (refine (va_up_n ?_).trans ?_; rotate_left; (assumption); omega)); omega)); omega)); omega)); omega)) rfl) q351 q1564 (x_selPriv ⟨by decide +kernel, by decide +kernel⟩ (hts _ q309) (va_Nw.use rfl (hE.2.2.1 _ q352 rfl)) (hts _ q353) (hts _ q1564)) q353 q51 q354 rfl ⟨by decide +kernel, by decide +kernel, by show _ = some 1; decide +kernel⟩ rfl rfl ⟨Nat.le_of_ble_eq_true rfl, Nat.le_of_ble_eq_true rfl⟩ rfl (Nat.le_of_ble_eq_true rfl) dJ10_append_2_14 ⟨Nat.le_of_ble_eq_true rfl, Nat.le_of_ble_eq_true rfl⟩) hS (fun u H locs hq1 hM hS => ?_)
  obtain ⟨⟨v1, cap1, hs1, hc1⟩, hag⟩ := hq1
  obtain ⟨ml1, f1, k1, k2, k3, k4, k5⟩ := id hs1
  refine lv_aload_n hx hb dJ10_append_2_17 rfl (lh_at hl rfl) ?_
  refine x_calli (x_runU (As := []) hF hE hS hM hl (jk_isLatin1 l g A u nS nV a v1 cap1 n hs1) (xw.recv hE hM (by first | assumption | exact va_up_s | rfl | (refine (va_up_n ?_).trans ?_; rotate_left; (first | assumption | exact va_up_s | rfl | (refine (va_up_n ?_).trans ?_; rotate_left; (first | assumption | exact va_up_s | rfl | (refine (va_up_n ?_).trans ?_; rotate_left; (first | assumption | exact va_up_s | rfl | (refine (va_up_n ?_).trans ?_; rotate_left; (first | assumption | exact va_up_s | rfl | (refine (va_up_n ?_).trans ?_; rotate_left; (assumption); omega)); omega)); omega)); omega)); omega)) rfl) q382 q384 (hts _ q385) q383 q51 q386 rfl ⟨by decide +kernel, by decide +kernel, by show _ = some 0; decide +kernel⟩ rfl rfl ⟨Nat.le_of_ble_eq_true rfl, Nat.le_of_ble_eq_true rfl⟩ rfl (Nat.le_of_ble_eq_true rfl) dJ10_append_2_18 ⟨Nat.le_of_ble_eq_true rfl, Nat.le_of_ble_eq_true rfl⟩) hS (fun r uu H locs hr1 hM hS => ?_)
  subst hr1
  refine lv_if_eq (tgt := 37) hx hb dJ10_append_2_21 (by decide) (fun c1 => ?_) (fun c1 => ?_)
  · exact absurd c1 (by decide)
  · refine lv_iload_n hx hb dJ10_append_2_24 rfl (lh_at hl rfl) ?_
    refine lv_iload_n hx hb dJ10_append_2_25 rfl (lh_at hl rfl) ?_
    refine lv_aload_n hx hb dJ10_append_2_26 rfl (lh_at hl rfl) ?_
    refine xr_get (C := RJ11) (T := TJ11) (N := 4) (ci := 8) (n := nS) hx hb hts in_J11 hown hE hM (by first | assumption | exact va_up_s | rfl | (refine (va_up_n ?_).trans ?_; rotate_left; (first | assumption | exact va_up_s | rfl | (refine (va_up_n ?_).trans ?_; rotate_left; (first | assumption | exact va_up_s | rfl | (refine (va_up_n ?_).trans ?_; rotate_left; (first | assumption | exact va_up_s | rfl | (refine (va_up_n ?_).trans ?_; rotate_left; (first | assumption | exact va_up_s | rfl | (refine (va_up_n ?_).trans ?_; rotate_left; (assumption); omega)); omega)); omega)); omega)); omega)) rfl 0 (by decide) (hts _ q326) (fun _ h => h) rfl dJ10_append_2_27 ?_
    refine x_calli (x_runS (As := [.int x, .int (nI (n + sz)), .ref v1]) hF hE hS hM hl (jk_getChars l g A u nV v1 cap1 (n + sz) sz x f1 k2 k5 k4 (by omega) hc1 hsz) q467 q468 q60 q469 ⟨by decide +kernel, by decide +kernel, by show _ = some 3; decide +kernel⟩ rfl rfl ⟨Nat.le_of_ble_eq_true rfl, Nat.le_of_ble_eq_true rfl⟩ rfl (Nat.le_of_ble_eq_true rfl) dJ10_append_2_30 ⟨Nat.le_of_ble_eq_true rfl, Nat.le_of_ble_eq_true rfl⟩) hS (fun r u1 H locs hq1 hM hS => ?_)
    obtain ⟨f2, hf2, hu1⟩ := hq1
    have k6 : u1 nS = some (a, .inr (8, [.ref v1, .int (nI 0), .int ml1, .int (nI n)])) := by rw [hu1, va_up_n hSV]; exact k1
    refine lv_pop hx hb dJ10_append_2_33 rfl ?_
    refine lv_goto (tgt := 48) hx hb dJ10_append_2_34 (by decide) ?_
    refine lv_aload_n hx hb dJ10_append_2_48 rfl (lh_at hl rfl) ?_
    refine lv_iload_n hx hb dJ10_append_2_49 rfl (lh_at hl rfl) ?_
    refine xr_put (C := RJ11) (T := TJ11) (N := 4) (ci := 8) (n := nS) hx hb hts in_J11 tyJ11 tyJ11_ok nmJ11 hown hE hM hS (by first | assumption | exact va_up_s | rfl | (refine (va_up_n ?_).trans ?_; rotate_left; (first | assumption | exact va_up_s | rfl | (refine (va_up_n ?_).trans ?_; rotate_left; (first | assumption | exact va_up_s | rfl | (refine (va_up_n ?_).trans ?_; rotate_left; (first | assumption | exact va_up_s | rfl | (refine (va_up_n ?_).trans ?_; rotate_left; (first | assumption | exact va_up_s | rfl | (refine (va_up_n ?_).trans ?_; rotate_left; (assumption); omega)); omega)); omega)); omega)); omega)) rfl 3 (by decide) (hts _ q329) (fun _ h => h) rfl (tyJ11_ok 3 (by decide)) rfl rfl (Nat.le_of_ble_eq_true rfl) dJ10_append_2_50 (fun H locs hM hS => ?_)
    refine lv_aload_n hx hb dJ10_append_2_53 rfl (lh_at hl rfl) ?_
    refine hQ ▸ x_aret hx hb hr (Or.inl ⟨_, rfl⟩) hlk hS _ trivial ⟨⟨rfl, ⟨v1, cap1, n + sz, by omega, ml1, f2, va_up_s, ?_, by omega, k4, hf2⟩, fun k e1 e2 => ?_⟩, hM⟩ dJ10_append_2_54
    · rw [va_up_n hSV.symm, hu1, va_up_s]
    · rw [va_up_n e1, hu1, va_up_n e2]
      exact hag k e1 e2
theorem jk_appendI (l : Launch) (g : xg) (A : Nat → Prop) (w : xw_W) (nS nV nT a v cap n : Nat) (x : Int32) (h : sB g w nS nV a v cap n) (h2 : n + 11 ≤ 140) (hSV : nS ≠ nV) (hTV : nT ≠ nV) (hT : w nT = none) :
    Met l yJ11_append_2 (ws_ yJ11_append_2 cJ11_append_2 2 (some (.object "java/lang/StringBuilder"))) (xrm 5 1 300) (xPw g A w [.ref a, .int x]) (xQwr g A (fun ra u => ra = a ∧ (∃ v' cap' n', n' ≤ n + 11 ∧ sB g u nS nV a v' cap' n') ∧ xAg2 w u nS nV)) 1 300 A := by
  obtain ⟨ml, f, g1, g2, g3, g4, g5⟩ := id h
  refine x_start rfl (Nat.le_of_ble_eq_true rfl) ?_
  intro p e s m below meth c hx hb hr hlk hml hown hts hnm hE hM hS ls hl
  have hF : xFix p m c cJ11_append_2 2 s _ RJ11 := ⟨hx, hb, hml, hown, hts⟩
  generalize hargs : List.toArray _ = args at hts hF ⊢
  generalize hQ : MQ below _ _ s _ _ A = Q
  refine lv_aload_n hx hb dJ11_append_2_0 rfl (lh_at hl rfl) ?_
  refine lv_iload_n hx hb dJ11_append_2_1 rfl (lh_at hl rfl) ?_
  refine x_callr (x_runSU (ci := 8) (As := [.int x]) hF hE hS hM hl (jk_appendI10 l g A w nS nV nT a v cap n x h h2 hSV hTV hT) (by exact xw.recv hE hM g1 (q := (RJ11, TJ11, 4)) rfl) rfl q461 q1569 q338 q462 q51 q463 ⟨by decide +kernel, by show _ = some 1; decide +kernel⟩ rfl rfl ⟨Nat.le_of_ble_eq_true rfl, Nat.le_of_ble_eq_true rfl⟩ rfl (Nat.le_of_ble_eq_true rfl) dJ11_append_2_2 ⟨Nat.le_of_ble_eq_true rfl, Nat.le_of_ble_eq_true rfl⟩) hS (fun u ra H locs hq1 hM hS => ?_)
  obtain ⟨hq2, hM⟩ := hM
  refine lv_pop hx hb dJ11_append_2_5 rfl ?_
  refine lv_aload_n hx hb dJ11_append_2_6 rfl (lh_at hl rfl) ?_
  exact hQ ▸ x_aret hx hb hr (Or.inl ⟨_, rfl⟩) hlk hS _ trivial ⟨⟨rfl, hq2.2⟩, hM⟩ dJ11_append_2_7
/-! ## toString -/
theorem jk_checkLen (l : Launch) (g : xg) (A : Nat → Prop) (P : Heap → Prop) (a b : Nat) (h : a ≤ b) (hb2 : b < 2 ^ 31) :
    Met l yJ14_checkLength (ws_ yJ14_checkLength cJ14_checkLength 2 none) (xrm 0 0 0) (xPc g A [.int (nI a), .int (nI b)] P) (zQv A P) 0 0 A := by
  refine x_start rfl (Nat.le_of_ble_eq_true rfl) ?_
  intro p e s m below meth c hx hb hr hlk hml hown hts hnm hE hM hS ls hl
  have hF : xFix p m c cJ14_checkLength 2 s _ RJ14 := ⟨hx, hb, hml, hown, hts⟩
  generalize hargs : List.toArray _ = args at hts hF ⊢
  generalize hQ : MQ below _ _ s _ _ A = Q
  refine lv_iload_n hx hb dJ14_checkLength_0 rfl (lh_at hl rfl) ?_
  refine lv_iload_n hx hb dJ14_checkLength_1 rfl (lh_at hl rfl) ?_
  refine n_icmp_ge (tgt := 37) hx hb dJ14_checkLength_2 (by decide) (by omega) (by omega) (fun c1 => ?_) (fun c1 => ?_)
  · exact hQ ▸ x_vret hx hb hr hlk hS () trivial hM dJ14_checkLength_37
  · omega
theorem jk_rangeB (l : Launch) (g : xg) (A : Nat → Prop) (w : xw_W) (nV nT v cap n : Nat) (f : Nat → Int32) (h : w nV = some (v, .inl (g.2 4, cap, .inl f))) (hf : bF f) (hc : n ≤ cap) (hN : cap ≤ 300) (hne : nV ≠ nT) :
    Met l yJ14_copyOfRangeByte (ws_ yJ14_copyOfRangeByte cJ14_copyOfRangeByte 5 (some (.array .byte))) (xrm 1 1 300) (xPw g A w [.ref v, .int (nI 0), .int (nI n)]) (xQwr g A (fun ra u => (∃ f', u nT = some (ra, .inl (g.2 4, n, .inl f')) ∧ bF f') ∧ xAg1 w u nT)) 1 300 A := by
  refine x_start rfl (Nat.le_of_ble_eq_true rfl) ?_
  intro p e s m below meth c hx hb hr hlk hml hown hts hnm hE hM hS ls hl
  have hF : xFix p m c cJ14_copyOfRangeByte 5 s _ RJ14 := ⟨hx, hb, hml, hown, hts⟩
  generalize hargs : List.toArray _ = args at hts hF ⊢
  generalize hQ : MQ below _ _ s _ _ A = Q
  refine lv_iload_n hx hb dJ14_copyOfRangeByte_0 rfl (lh_at hl rfl) ?_
  refine lv_iload_n hx hb dJ14_copyOfRangeByte_1 rfl (lh_at hl rfl) ?_
  refine x_callv (x_runS (As := [.int (nI 0), .int (nI n)]) hF hE hS hM hl (jk_checkLen l g A (xw g A w) 0 n (by omega) (by omega)) q514 q515 q55 q516 ⟨by decide +kernel, by decide +kernel, by show _ = some 2; decide +kernel⟩ rfl rfl ⟨Nat.le_of_ble_eq_true rfl, Nat.le_of_ble_eq_true rfl⟩ rfl (Nat.le_of_ble_eq_true rfl) dJ14_copyOfRangeByte_2 ⟨Nat.le_of_ble_eq_true rfl, Nat.le_of_ble_eq_true rfl⟩) hS (fun uu H locs hr1 hM hS => ?_)
  refine lv_iload_n hx hb dJ14_copyOfRangeByte_5 rfl (lh_at hl rfl) ?_
  refine lv_iload_n hx hb dJ14_copyOfRangeByte_6 rfl (lh_at hl rfl) ?_
  refine n_isub hx hb (by omega) dJ14_copyOfRangeByte_7 ?_
  refine x_istore_n hx hb dJ14_copyOfRangeByte_8 rfl hl (by decide) (fun ls hl => ?_)
  refine lv_iload_n hx hb dJ14_copyOfRangeByte_9 rfl (lh_at hl rfl) ?_
  rw [Nat.sub_zero]
  refine xr_newb hx hb (hts _ q282) hE hM hS nT (by omega) (Nat.le_of_ble_eq_true rfl) (by show 0 + n ≤ 300; omega) dJ14_copyOfRangeByte_10 (fun t H ht hM hS => ?_)
  refine x_astore hx hb dJ14_copyOfRangeByte_12 hl (by decide) (fun ls hl => ?_)
  refine lv_aload_n hx hb dJ14_copyOfRangeByte_14 rfl (lh_at hl rfl) ?_
  refine lv_iload_n hx hb dJ14_copyOfRangeByte_15 rfl (lh_at hl rfl) ?_
  refine lv_aload hx hb dJ14_copyOfRangeByte_16 (lh_at hl rfl) ?_
  refine n_const hx hb 0 dJ14_copyOfRangeByte_18 (by decide +kernel) ?_
  refine lv_aload_n hx hb dJ14_copyOfRangeByte_19 rfl (lh_at hl rfl) ?_
  refine xr_len (n := nV) hx hb hE hM (by first | assumption | exact va_up_s | rfl | (refine (va_up_n ?_).trans ?_; rotate_left; (first | assumption | exact va_up_s | rfl | (refine (va_up_n ?_).trans ?_; rotate_left; (first | assumption | exact va_up_s | rfl | (refine (va_up_n ?_).trans ?_; rotate_left; (first | assumption | exact va_up_s | rfl | (refine (va_up_n ?_).trans ?_; rotate_left; (first | assumption | exact va_up_s | rfl | (refine (va_up_n ?_).trans ?_; rotate_left; (assumption); omega)); omega)); omega)); omega)); omega)) rfl dJ14_copyOfRangeByte_20 ?_
  refine lv_iload_n hx hb dJ14_copyOfRangeByte_21 rfl (lh_at hl rfl) ?_
  refine n_isub hx hb (by omega) dJ14_copyOfRangeByte_22 ?_
  refine lv_iload_n hx hb dJ14_copyOfRangeByte_23 rfl (lh_at hl rfl) ?_
  rw [Nat.sub_zero cap, Nat.sub_zero n]
  refine n_min hx hb hml hl hown (hts _ q378) (hts _ q133) (hts _ q43) (hts _ q134) (by omega) (by omega) (Nat.le_of_ble_eq_true rfl) (Nat.le_of_ble_eq_true rfl) (Nat.le_of_ble_eq_true rfl) (by show 0 + n ≤ 300; omega) dJ14_copyOfRangeByte_24 ?_
  rw [Nat.min_eq_right hc]
  refine xr_copyb (sp := 0) (dp := 0) (n0 := nV) (n1 := nT) hx hb hml hl hts hown hE hM hS q379 (by first | assumption | exact va_up_s | rfl | (refine (va_up_n ?_).trans ?_; rotate_left; (first | assumption | exact va_up_s | rfl | (refine (va_up_n ?_).trans ?_; rotate_left; (first | assumption | exact va_up_s | rfl | (refine (va_up_n ?_).trans ?_; rotate_left; (first | assumption | exact va_up_s | rfl | (refine (va_up_n ?_).trans ?_; rotate_left; (first | assumption | exact va_up_s | rfl | (refine (va_up_n ?_).trans ?_; rotate_left; (assumption); omega)); omega)); omega)); omega)); omega)) (by first | assumption | exact va_up_s | rfl | (refine (va_up_n ?_).trans ?_; rotate_left; (first | assumption | exact va_up_s | rfl | (refine (va_up_n ?_).trans ?_; rotate_left; (first | assumption | exact va_up_s | rfl | (refine (va_up_n ?_).trans ?_; rotate_left; (first | assumption | exact va_up_s | rfl | (refine (va_up_n ?_).trans ?_; rotate_left; (first | assumption | exact va_up_s | rfl | (refine (va_up_n ?_).trans ?_; rotate_left; (assumption); omega)); omega)); omega)); omega)); omega)) hf (by omega) (by omega) (by omega) (by omega) (Nat.le_of_ble_eq_true rfl) (Nat.le_of_ble_eq_true rfl) (Nat.le_of_ble_eq_true rfl) dJ14_copyOfRangeByte_27 (fun H locs hM hS => ?_)
  refine lv_aload hx hb dJ14_copyOfRangeByte_30 (lh_at hl rfl) ?_
  refine W.widen (k := 1) (n := 300) (Nat.le_of_ble_eq_true rfl) (by omega) ?_
  exact hQ ▸ x_aret hx hb hr (Or.inr ⟨_, rfl⟩) hlk hS _ trivial ⟨⟨⟨_, va_up_s, bF_cpy (N0 := cap) (fun j _ => hf j) (by omega) bF_zero⟩, fun k k1 => by rw [va_up_n k1, va_up_n k1]⟩, hM⟩ dJ14_copyOfRangeByte_32
theorem jk_range (l : Launch) (g : xg) (A : Nat → Prop) (w : xw_W) (nV nT v cap n : Nat) (f : Nat → Int32) (h : w nV = some (v, .inl (g.2 4, cap, .inl f))) (hf : bF f) (hc : n ≤ cap) (hN : cap ≤ 300) (hne : nV ≠ nT) :
    Met l yJ14_copyOfRange (ws_ yJ14_copyOfRange cJ14_copyOfRange 3 (some (.array .byte))) (xrm 2 1 300) (xPw g A w [.ref v, .int (nI 0), .int (nI n)]) (xQwr g A (fun ra u => (∃ f', u nT = some (ra, .inl (g.2 4, n, .inl f')) ∧ bF f') ∧ xAg1 w u nT)) 1 300 A := by
  refine x_start rfl (Nat.le_of_ble_eq_true rfl) ?_
  intro p e s m below meth c hx hb hr hlk hml hown hts hnm hE hM hS ls hl
  have hF : xFix p m c cJ14_copyOfRange 3 s _ RJ14 := ⟨hx, hb, hml, hown, hts⟩
  generalize hargs : List.toArray _ = args at hts hF ⊢
  generalize hQ : MQ below _ _ s _ _ A = Q
  refine lv_iload_n hx hb dJ14_copyOfRange_0 rfl (lh_at hl rfl) ?_
  refine n_if_ne (tgt := 10) hx hb dJ14_copyOfRange_1 (by decide) (by omega) (fun c1 => ?_) (fun c1 => ?_)
  · exact absurd rfl c1
  · refine lv_iload_n hx hb dJ14_copyOfRange_4 rfl (lh_at hl rfl) ?_
    refine lv_aload_n hx hb dJ14_copyOfRange_5 rfl (lh_at hl rfl) ?_
    refine xr_len (n := nV) hx hb hE hM (by first | assumption | exact va_up_s | rfl | (refine (va_up_n ?_).trans ?_; rotate_left; (first | assumption | exact va_up_s | rfl | (refine (va_up_n ?_).trans ?_; rotate_left; (first | assumption | exact va_up_s | rfl | (refine (va_up_n ?_).trans ?_; rotate_left; (first | assumption | exact va_up_s | rfl | (refine (va_up_n ?_).trans ?_; rotate_left; (first | assumption | exact va_up_s | rfl | (refine (va_up_n ?_).trans ?_; rotate_left; (assumption); omega)); omega)); omega)); omega)); omega)) rfl dJ14_copyOfRange_6 ?_
    refine n_icmp_eq (tgt := 17) hx hb dJ14_copyOfRange_7 (by decide) (by omega) (by omega) (fun c2 => ?_) (fun c2 => ?_)
    · subst c2
      refine lv_aload_n hx hb dJ14_copyOfRange_17 rfl (lh_at hl rfl) ?_
      refine xr_cloneb hx hb hml hl hts hown hE hM hS q371 q373 q374 nT (by first | assumption | exact va_up_s | rfl | (refine (va_up_n ?_).trans ?_; rotate_left; (first | assumption | exact va_up_s | rfl | (refine (va_up_n ?_).trans ?_; rotate_left; (first | assumption | exact va_up_s | rfl | (refine (va_up_n ?_).trans ?_; rotate_left; (first | assumption | exact va_up_s | rfl | (refine (va_up_n ?_).trans ?_; rotate_left; (first | assumption | exact va_up_s | rfl | (refine (va_up_n ?_).trans ?_; rotate_left; (assumption); omega)); omega)); omega)); omega)); omega)) hf (Nat.le_of_ble_eq_true rfl) (Nat.le_of_ble_eq_true rfl) (Nat.le_of_ble_eq_true rfl) (Nat.le_of_ble_eq_true rfl) (by show 0 + n ≤ 300; omega) dJ14_copyOfRange_18 (fun t H hM hS => ?_)
      refine xr_castB hx hb hown hE hM va_up_s (hts _ q377) dJ14_copyOfRange_21 ?_
      refine W.widen (k := 1) (n := 300) (Nat.le_of_ble_eq_true rfl) (by omega) ?_
      exact hQ ▸ x_aret hx hb hr (Or.inr ⟨_, rfl⟩) hlk hS _ trivial ⟨⟨⟨_, va_up_s, hf⟩, fun k k1 => by rw [va_up_n k1]⟩, hM⟩ dJ14_copyOfRange_24
    · refine lv_aload_n hx hb dJ14_copyOfRange_10 rfl (lh_at hl rfl) ?_
      refine lv_iload_n hx hb dJ14_copyOfRange_11 rfl (lh_at hl rfl) ?_
      refine lv_iload_n hx hb dJ14_copyOfRange_12 rfl (lh_at hl rfl) ?_
      refine x_callr (x_runS (As := [.ref v, .int (nI 0), .int (nI n)]) hF hE hS hM hl (jk_rangeB l g A w nV nT v cap n f h hf hc hN hne) q511 q512 q55 q513 ⟨by decide +kernel, by decide +kernel, by show _ = some 3; decide +kernel⟩ rfl rfl ⟨Nat.le_of_ble_eq_true rfl, Nat.le_of_ble_eq_true rfl⟩ rfl (Nat.le_of_ble_eq_true rfl) dJ14_copyOfRange_13 ⟨Nat.le_of_ble_eq_true rfl, Nat.le_of_ble_eq_true rfl⟩) hS (fun u ra H locs hq1 hM hS => ?_)
      exact hQ ▸ x_aret hx hb hr (Or.inr ⟨_, rfl⟩) hlk hS u trivial hM dJ14_copyOfRange_16
section XO
variable {p : Program} {l : Launch} {e : Env} {R : Room} {s : State} {m : MethodId} {args : Array Value} {below : List Frame} {meth : Method} {c : Code} {H : Heap} {locs : List Loc} {cells slots : Nat} {Q : State → Prop}
variable {cc bytes b0 : ByteArray} {pc nL maxL n mc ms m0 : Nat} {ls : Array Slot} {rest st0 As : List Value} {g : xg} {A : Nat → Prop} {P : Heap → Prop} {own C : String} {index : Nat} {x y : MethodName} {ret r0 : Option FieldType} {rm : Room} {b : Nat} {lf : Nat → Option Value}
/-- a method that overrides what is named -/
theorem x_runO {Qc : Array Value → State → Outcome → State → Prop} (hF : xFix p m c cc nL s args own) (hE : xE g A s) (hS : va_S A s.heap H locs) (hP : P H) (hls : lh ls nL lf) (hM : Met l y (ws_ y bytes maxL ret) rm (xPc g A (.ref b :: As) P) Qc mc ms A) (hrv : xRv s H C b)
    (h1 : Cond.methodLink own index x ∈ lw_all) (hsm : Cond.sameMethod x.cls x.cls x.name x.desc ∈ lw_all) (hx0 : Cond.instanceMethod x ∈ lw_all) (hx1 : Cond.code x b0 m0 r0 ∈ lw_all) (h3 : Cond.selects C x y ∈ lw_all) (h2 : Cond.instanceMethod y ∈ lw_all) (h4 : Cond.initialized y.cls ∈ lw_all) (h5 : Cond.code y bytes maxL ret ∈ lw_all) (hd : x.cls ≠ "java/lang/invoke/MethodHandle" ∧ x.cls ≠ "java/lang/invoke/VarHandle" ∧ (parseMethodDescriptor x.desc).map (fun d => d.parameters.length) = some As.length)
    (hrc : rm.cells = mc) (hrs : rm.slots = ms) (hR : rm.frames + 1 ≤ R.frames ∧ 8 + (maxL + 11) + rm.locals ≤ R.locals) (hst : st0 = As.reverse ++ .ref b :: rest) (hcat : (rest.map fun v => v.category).sum ≤ 8) (hdg : decode cc pc = .ok (.invokevirtual index, 3)) (hf : cells + mc ≤ R.cells ∧ slots + ms ≤ R.slots) :
    va_Run p l e R s m args below meth c H locs cells slots mc ms (F0 m pc ls st0) rest (Qc (Value.ref b :: As).toArray) A := by
  have hts := hF.2.2.2.2
  refine va_runU (C := C) (owner := x.cls) (x := x) (n := As.length) hF hM ⟨⟨hrc, hrs, hR.1, hR.2, pay_in hts (lw_meth h5), List.mem_cons_self⟩, hts _ h5, hts _ h4, ⟨hd.1, hd.2.1⟩, fun sig h => ?_, hts _ h1, hts _ hsm, va_Decl.of (hts _ hx0) (hts _ hx1), hts _ h3, hts _ h2⟩ (x_preV hE hS hP hrv) rfl rfl (lh_size hls) hst (lv_room hcat) hdg hf
  have h9 := hd.2.2
  rw [h] at h9
  exact (Option.some.inj h9).symm
end XO
theorem jk_sbLen11 (l : Launch) (g : xg) (A : Nat → Prop) (w : xw_W) (nS nV a v cap n : Nat) (h : sB g w nS nV a v cap n) :
    Met l yJ11_length (ws_ yJ11_length cJ11_length 1 (some .int)) (xrm 1 0 0) (xPw g A w [.ref a]) (zQi A (xw g A w) (fun r => r = nI n)) 0 0 A := by
  obtain ⟨ml, f, g1, g2, g3, g4, g5⟩ := id h
  refine x_start rfl (Nat.le_of_ble_eq_true rfl) ?_
  intro p e s m below meth c hx hb hr hlk hml hown hts hnm hE hM hS ls hl
  have hF : xFix p m c cJ11_length 1 s _ RJ11 := ⟨hx, hb, hml, hown, hts⟩
  generalize hargs : List.toArray _ = args at hts hF ⊢
  generalize hQ : MQ below _ _ s _ _ A = Q
  refine lv_aload_n hx hb dJ11_length_0 rfl (lh_at hl rfl) ?_
  refine x_calli (x_runSU (ci := 8) (As := []) hF hE hS hM hl (jk_sbLength l g A w nS nV a v cap n h) (by exact xw.recv hE hM g1 (q := (RJ11, TJ11, 4)) rfl) rfl q505 q501 q338 q500 q51 q506 ⟨by decide +kernel, by show _ = some 0; decide +kernel⟩ rfl rfl ⟨Nat.le_of_ble_eq_true rfl, Nat.le_of_ble_eq_true rfl⟩ rfl (Nat.le_of_ble_eq_true rfl) dJ11_length_1 ⟨Nat.le_of_ble_eq_true rfl, Nat.le_of_ble_eq_true rfl⟩) hS (fun r uu H locs hq hM hS => ?_)
  exact hQ ▸ x_iret hx hb hr hlk hS () hq hM dJ11_length_4
theorem jk_strInit2 (l : Launch) (g : xg) (A : Nat → Prop) (w : xw_W) (nR nT nS nV r a v cap n : Nat) (h : sB g w nS nV a v cap n) (hR : w nR = some (r, .inr (9, [.null, .int 0, .int 0, .int 0]))) (hTR : nT ≠ nR) (hT : w nT = none) :
    Met l yJ9_init_2 (ws_ yJ9_init_2 cJ9_init_2 5 none) (xrm 3 1 300) (xPw g A w [.ref r, .ref a, .null]) (xQwv g A (fun u => ∀ k, k ≠ nR → k ≠ nT → u k = w k)) 1 300 A := by
  obtain ⟨ml, f, g1, g2, g3, g4, g5⟩ := id h
  have hVT : nV ≠ nT := by
    intro z
    rw [← z, g2] at hT
    cases hT
  refine x_start rfl (Nat.le_of_ble_eq_true rfl) ?_
  intro p e s m below meth c hx hb hr hlk hml hown hts hnm hE hM hS ls hl
  have hF : xFix p m c cJ9_init_2 5 s _ RJ9 := ⟨hx, hb, hml, hown, hts⟩
  generalize hargs : List.toArray _ = args at hts hF ⊢
  generalize hQ : MQ below _ _ s _ _ A = Q
  refine lv_aload_n hx hb dJ9_init_2_0 rfl (lh_at hl rfl) ?_
  refine x_obj hx hb hml hown (hts _ q493) (hts _ q77) (hts _ q78) hl dJ9_init_2_1 (Nat.le_of_ble_eq_true rfl) (Nat.le_of_ble_eq_true rfl) ?_
  refine lv_aload_n hx hb dJ9_init_2_4 rfl (lh_at hl rfl) ?_
  refine x_callr (x_runU (As := []) hF hE hS hM hl (jk_getValue l g A w nS nV a v cap n h) (xw.recv hE hM (by first | assumption | exact va_up_s | rfl | (refine (va_up_n ?_).trans ?_; rotate_left; (first | assumption | exact va_up_s | rfl | (refine (va_up_n ?_).trans ?_; rotate_left; (first | assumption | exact va_up_s | rfl | (refine (va_up_n ?_).trans ?_; rotate_left; (first | assumption | exact va_up_s | rfl | (refine (va_up_n ?_).trans ?_; rotate_left; (first | assumption | exact va_up_s | rfl | (refine (va_up_n ?_).trans ?_; rotate_left; (assumption); omega)); omega)); omega)); omega)); omega)) rfl) q494 q496 (hts _ q497) q495 q51 q498 rfl ⟨by decide +kernel, by decide +kernel, by show _ = some 0; decide +kernel⟩ rfl rfl ⟨Nat.le_of_ble_eq_true rfl, Nat.le_of_ble_eq_true rfl⟩ rfl (Nat.le_of_ble_eq_true rfl) dJ9_init_2_5 ⟨Nat.le_of_ble_eq_true rfl, Nat.le_of_ble_eq_true rfl⟩) hS (fun uu ra H locs hq1 hM hS => ?_)
  obtain ⟨rfl, hM⟩ := hM
  refine x_astore_n hx hb dJ9_init_2_8 rfl hl (by decide) (fun ls hl => ?_)
  refine lv_aload_n hx hb dJ9_init_2_9 rfl (lh_at hl rfl) ?_
  refine x_calli (x_runO (As := []) hF hE hS hM hl (jk_sbLen11 l g A w nS nV a _ cap n h) (xw.recv hE hM g1 rfl) q499 q501 q500 q506 q502 q503 q52 q504 ⟨by decide +kernel, by decide +kernel, by show _ = some 0; decide +kernel⟩ rfl rfl ⟨Nat.le_of_ble_eq_true rfl, Nat.le_of_ble_eq_true rfl⟩ rfl (Nat.le_of_ble_eq_true rfl) dJ9_init_2_10 ⟨Nat.le_of_ble_eq_true rfl, Nat.le_of_ble_eq_true rfl⟩) hS (fun r1 uu H locs hq2 hM hS => ?_)
  subst hq2
  refine x_istore hx hb dJ9_init_2_13 hl (by decide) (fun ls hl => ?_)
  refine lv_aload_n hx hb dJ9_init_2_15 rfl (lh_at hl rfl) ?_
  refine x_calli (x_runU (As := []) hF hE hS hM hl (jk_isLatin1 l g A w nS nV a _ cap n h) (xw.recv hE hM (by first | assumption | exact va_up_s | rfl | (refine (va_up_n ?_).trans ?_; rotate_left; (first | assumption | exact va_up_s | rfl | (refine (va_up_n ?_).trans ?_; rotate_left; (first | assumption | exact va_up_s | rfl | (refine (va_up_n ?_).trans ?_; rotate_left; (first | assumption | exact va_up_s | rfl | (refine (va_up_n ?_).trans ?_; rotate_left; (first | assumption | exact va_up_s | rfl | (refine (va_up_n ?_).trans ?_; rotate_left; (assumption); omega)); omega)); omega)); omega)); omega)) rfl) q507 q384 (hts _ q385) q383 q51 q386 rfl ⟨by decide +kernel, by decide +kernel, by show _ = some 0; decide +kernel⟩ rfl rfl ⟨Nat.le_of_ble_eq_true rfl, Nat.le_of_ble_eq_true rfl⟩ rfl (Nat.le_of_ble_eq_true rfl) dJ9_init_2_16 ⟨Nat.le_of_ble_eq_true rfl, Nat.le_of_ble_eq_true rfl⟩) hS (fun r1 uu H locs hq2 hM hS => ?_)
  subst hq2
  refine lv_if_eq (tgt := 41) hx hb dJ9_init_2_19 (by decide) (fun c1 => ?_) (fun c1 => ?_)
  · exact absurd c1 (by decide)
  · refine lv_aload_n hx hb dJ9_init_2_22 rfl (lh_at hl rfl) ?_
    refine n_const hx hb 0 dJ9_init_2_23 (by decide +kernel) ?_
    refine xr_putF (C := RJ9) (T := TJ9) (N := 4) (ci := 9) (n := nR) hx hb hts in_J9 tyJ9 tyJ9_ok nmJ9 hown hE hM hS (by first | assumption | exact va_up_s | rfl | (refine (va_up_n ?_).trans ?_; rotate_left; (first | assumption | exact va_up_s | rfl | (refine (va_up_n ?_).trans ?_; rotate_left; (first | assumption | exact va_up_s | rfl | (refine (va_up_n ?_).trans ?_; rotate_left; (first | assumption | exact va_up_s | rfl | (refine (va_up_n ?_).trans ?_; rotate_left; (first | assumption | exact va_up_s | rfl | (refine (va_up_n ?_).trans ?_; rotate_left; (assumption); omega)); omega)); omega)); omega)); omega)) rfl 1 (by decide) (hts _ q552) (fun _ h => h) rfl hnm rfl (tyJ9_ok 1 (by decide)) rfl rfl (Nat.le_of_ble_eq_true rfl) dJ9_init_2_24 (fun H locs hM hS => ?_)
    refine lv_aload_n hx hb dJ9_init_2_27 rfl (lh_at hl rfl) ?_
    refine lv_aload_n hx hb dJ9_init_2_28 rfl (lh_at hl rfl) ?_
    refine n_const hx hb 0 dJ9_init_2_29 (by decide +kernel) ?_
    refine lv_iload hx hb dJ9_init_2_30 (lh_at hl rfl) ?_
    refine x_callr (x_runS (As := [.ref _, .int (nI 0), .int (nI n)]) hF hE hS hM hl (jk_range l g A _ nV nT _ cap n f (by rw [va_up_n (fun z => by rw [← z, g2] at hR; cases hR)]; exact g2) g5 g3 g4 hVT) q508 q509 q55 q510 ⟨by decide +kernel, by decide +kernel, by show _ = some 3; decide +kernel⟩ rfl rfl ⟨Nat.le_of_ble_eq_true rfl, Nat.le_of_ble_eq_true rfl⟩ rfl (Nat.le_of_ble_eq_true rfl) dJ9_init_2_32 ⟨Nat.le_of_ble_eq_true rfl, Nat.le_of_ble_eq_true rfl⟩) hS (fun u ra H locs hq1 hM hS => ?_)
    obtain ⟨⟨⟨f', hf1, hf2⟩, hag⟩, hM⟩ := hM
    have g6 := (hag nR (fun z => hTR z.symm)).trans va_up_s
    refine xr_putF (C := RJ9) (T := TJ9) (N := 4) (ci := 9) (n := nR) hx hb hts in_J9 tyJ9 tyJ9_ok nmJ9 hown hE hM hS (by first | assumption | exact va_up_s | rfl | (refine (va_up_n ?_).trans ?_; rotate_left; (first | assumption | exact va_up_s | rfl | (refine (va_up_n ?_).trans ?_; rotate_left; (first | assumption | exact va_up_s | rfl | (refine (va_up_n ?_).trans ?_; rotate_left; (first | assumption | exact va_up_s | rfl | (refine (va_up_n ?_).trans ?_; rotate_left; (first | assumption | exact va_up_s | rfl | (refine (va_up_n ?_).trans ?_; rotate_left; (assumption); omega)); omega)); omega)); omega)); omega)) rfl 0 (by decide) (hts _ q551) (fun _ h => h) rfl hnm rfl (tyJ9_ok 0 (by decide)) rfl rfl (Nat.le_of_ble_eq_true rfl) dJ9_init_2_35 (fun H locs hM hS => ?_)
    refine lv_goto (tgt := 97) hx hb dJ9_init_2_38 (by decide) ?_
    refine hQ ▸ x_vret hx hb hr hlk hS _ (fun k k1 k2 => ?_) hM dJ9_init_2_97
    rw [va_up_n k1, hag k k2, va_up_n k1]
theorem jk_strInit (l : Launch) (g : xg) (A : Nat → Prop) (w : xw_W) (nR nT nS nV r a v cap n : Nat) (h : sB g w nS nV a v cap n) (hR : w nR = some (r, .inr (9, [.null, .int 0, .int 0, .int 0]))) (hTR : nT ≠ nR) (hT : w nT = none) :
    Met l yJ9_init (ws_ yJ9_init cJ9_init 2 none) (xrm 4 1 300) (xPw g A w [.ref r, .ref a]) (xQwv g A (fun u => ∀ k, k ≠ nR → k ≠ nT → u k = w k)) 1 300 A := by
  obtain ⟨ml, f, g1, g2, g3, g4, g5⟩ := id h
  refine x_start rfl (Nat.le_of_ble_eq_true rfl) ?_
  intro p e s m below meth c hx hb hr hlk hml hown hts hnm hE hM hS ls hl
  have hF : xFix p m c cJ9_init 2 s _ RJ9 := ⟨hx, hb, hml, hown, hts⟩
  generalize hargs : List.toArray _ = args at hts hF ⊢
  generalize hQ : MQ below _ _ s _ _ A = Q
  refine lv_aload_n hx hb dJ9_init_0 rfl (lh_at hl rfl) ?_
  refine lv_aload_n hx hb dJ9_init_1 rfl (lh_at hl rfl) ?_
  refine lv_null hx hb dJ9_init_2 ?_
  refine x_callv (x_runI (As := [.ref a, .null]) hF hE hS hM hl (jk_strInit2 l g A w nR nT nS nV r a v cap n h hR hTR hT) q490 q491 q50 q492 rfl ⟨by decide +kernel, by decide +kernel, by show _ = some 2; decide +kernel⟩ rfl rfl ⟨Nat.le_of_ble_eq_true rfl, Nat.le_of_ble_eq_true rfl⟩ rfl (Nat.le_of_ble_eq_true rfl) dJ9_init_3 ⟨Nat.le_of_ble_eq_true rfl, Nat.le_of_ble_eq_true rfl⟩) hS (fun u H locs hq1 hM hS => ?_)
  exact hQ ▸ x_vret hx hb hr hlk hS u hq1 hM dJ9_init_6
theorem jk_toString (l : Launch) (g : xg) (A : Nat → Prop) (w : xw_W) (nR nT nS nV a v cap n : Nat) (h : sB g w nS nV a v cap n) (hTR : nT ≠ nR) (hR : w nR = none) (hT : w nT = none) :
    Met l yJ11_toString (ws_ yJ11_toString cJ11_toString 1 (some (.object "java/lang/String"))) (xrm 5 2 304) (xPw g A w [.ref a]) (zQr A (xw g A w) (fun _ => True)) 2 304 A := by
  obtain ⟨ml, f, g1, g2, g3, g4, g5⟩ := id h
  refine x_start rfl (Nat.le_of_ble_eq_true rfl) ?_
  intro p e s m below meth c hx hb hr hlk hml hown hts hnm hE hM hS ls hl
  have hF : xFix p m c cJ11_toString 1 s _ RJ11 := ⟨hx, hb, hml, hown, hts⟩
  generalize hargs : List.toArray _ = args at hts hF ⊢
  generalize hQ : MQ below _ _ s _ _ A = Q
  refine xr_new hx hb hts in_J9 tyJ9 tyJ9_ok hown (hts _ q486) (hts _ q281) (hts _ q50) hE hM hS nR (ci := 9) (fs := [.null, .int 0, .int 0, .int 0]) rfl (by decide) (Nat.le_of_ble_eq_true rfl) (Nat.le_of_ble_eq_true rfl) dJ11_toString_0 (fun st H hst hM hS => ?_)
  refine lv_dup hx hb dJ11_toString_3 rfl ?_
  refine lv_aload_n hx hb dJ11_toString_4 rfl (lh_at hl rfl) ?_
  have hne : ∀ {k e}, w k = some e → k ≠ nR := fun h1 z => by
    rw [z, hR] at h1
    cases h1
  refine x_callv (x_runI (As := [.ref a]) hF hE hS hM hl (jk_strInit l g A _ nR nT nS nV st a v cap n ⟨ml, f, (va_up_n (hne g1)).trans g1, (va_up_n (hne g2)).trans g2, g3, g4, g5⟩ va_up_s hTR ((va_up_n hTR).trans hT)) q487 q488 q50 q489 rfl ⟨by decide +kernel, by decide +kernel, by show _ = some 1; decide +kernel⟩ rfl rfl ⟨Nat.le_of_ble_eq_true rfl, Nat.le_of_ble_eq_true rfl⟩ rfl (Nat.le_of_ble_eq_true rfl) dJ11_toString_5 ⟨Nat.le_of_ble_eq_true rfl, Nat.le_of_ble_eq_true rfl⟩) hS (fun u H locs hq1 hM hS => ?_)
  have hM := hM.mono (w' := w) (fun k e he => by
    have k1 := hne he
    have k2 : k ≠ nT := fun z => by
      rw [z, hT] at he
      cases he
    rw [hq1 k k1 k2, va_up_n k1]
    exact he)
  exact hQ ▸ x_aret hx hb hr (Or.inl ⟨_, rfl⟩) hlk hS () trivial ⟨trivial, hM⟩ dJ11_toString_8
