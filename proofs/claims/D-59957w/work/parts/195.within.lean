/-! within, isWithin, must -/
set_option maxRecDepth 100000
theorem x_words {L : List Cond} {ps : List Nat} (h1 : L.map some = ps.map (fun i => lw_tbl[i]?)) (h2 : L.all (fun w => goodWord w || (xKnd w && w.onTables)) = true) : ∀ w ∈ L, w ∈ lw_tbl ∧ (goodWord w = true ∨ (xKnd w = true ∧ w.onTables = true)) := by
  intro w hw
  have h3 := List.all_eq_true.mp h2 w hw
  simp only [Bool.or_eq_true, Bool.and_eq_true] at h3
  have h4 : some w ∈ L.map some := List.mem_map_of_mem hw
  rw [h1] at h4
  obtain ⟨i, -, hi⟩ := List.mem_map.mp h4
  exact ⟨List.mem_of_getElem? hi, h3⟩
abbrev chX : List String := ["java/lang/RuntimeException", "java/lang/Exception"]
theorem xat_ib : ∀ w ∈ vx_atS "Aislewright" 102 eIB chX, w ∈ lw_tbl ∧ (goodWord w = true ∨ (xKnd w = true ∧ w.onTables = true)) := x_words (ps := [45, 278, 232, 238, 241, 243, 279, 280, 77, 78, 226, 231, 239, 246, 272, 247, 273, 248, 274, 227, 229, 275, 224, 225, 245, 275, 215, 216, 217, 218, 266, 218, 219, 220, 221, 268, 221, 222, 223, 224, 270, 558, 300, 301, 302, 237, 303, 304, 305, 306, 244, 276, 307]) (by decide +kernel) (by decide +kernel)
theorem xat_ia : ∀ w ∈ vx_atS "Aislewright" 125 eIA chX, w ∈ lw_tbl ∧ (goodWord w = true ∨ (xKnd w = true ∧ w.onTables = true)) := x_words (ps := [45, 278, 232, 238, 241, 243, 279, 280, 77, 78, 226, 231, 239, 246, 272, 247, 273, 248, 274, 227, 229, 275, 224, 225, 245, 275, 533, 534, 535, 218, 266, 218, 219, 220, 221, 268, 221, 222, 223, 224, 270, 945, 518, 519, 520, 235, 521, 522, 523, 524, 244, 276, 525]) (by decide +kernel) (by decide +kernel)
theorem xat_is : ∀ w ∈ vx_atS "Aislewright" 128 eIS chX, w ∈ lw_tbl ∧ (goodWord w = true ∨ (xKnd w = true ∧ w.onTables = true)) := x_words (ps := [45, 278, 232, 238, 241, 243, 279, 280, 77, 78, 226, 231, 239, 246, 272, 247, 273, 248, 274, 227, 229, 275, 224, 225, 245, 275, 586, 587, 588, 218, 266, 218, 219, 220, 221, 268, 221, 222, 223, 224, 270, 585, 577, 578, 579, 236, 580, 581, 582, 583, 244, 276, 584]) (by decide +kernel) (by decide +kernel)
theorem xk_within (l : Launch) (hlt : l.stackTraces = false) (g : xg) (A : Nat → Prop) (w : xw_W) (k : Int32) (n : Nat) (q : Nat × String) (hq : q ∈ xLl) (hn : n < 2 ^ 31) :
    vx_Met l yX1_within (ws_ yX1_within cX1_within 3 (some .int)) (xrm 6 9 1530) (xPw g A w [.int k, .int (nI n), .ref (g.2 (100 + q.1))]) (zQi A (xw g A w) (fun r => ∃ i, xr k n = some i ∧ r = nI i)) (xQX A (xw g A w) (fun E => E = eIB ∧ xr k n = none)) 9 1530 A := by
  have hql := xLl_len q hq
  refine x_startX rfl (Nat.le_of_ble_eq_true rfl) ?_
  intro p e s m below meth c hx hb hr hlk hml hxt hown hts hnm hE hM hS ls hl
  have hF : xFix p m c cX1_within 3 s _ RX1 := ⟨hx, hb, hml, hown, hts⟩
  generalize hargs : List.toArray _ = args at hts hF ⊢
  generalize hQ : vx_MQ below _ _ _ s _ _ A = Q
  have thr : xr k n = none → ∀ ls, lh ls 3 (xl [(0, .int k), (2, .ref (g.2 (100 + q.1)))]) → W p l e (xrm 6 9 1530) s m args below meth c s.heap [] 0 0 Q (F0 m 9 ls []) := by
    intro hno ls hl
    have hE0 := hE
    have hE := hE.sub (B := x3 s.heap.size) hE.2.1 (fun q h => h)
    have hS : va_S (x3 s.heap.size) s.heap s.heap [] := va_S.rf
    refine x_newE hx hb hown (hts _ q299) (hts _ q300) (hts _ q48) hS (Nat.le_of_ble_eq_true rfl) (Nat.le_of_ble_eq_true rfl) dX1_within_9 (fun a H cX kX hfX hkX hX ha hsz hS => ?_)
    refine lv_dup hx hb dX1_within_12 rfl ?_
    refine x_newSB hx hb hts hown (hts _ q308) hE hS 0 (Nat.le_of_ble_eq_true rfl) (Nat.le_of_ble_eq_true rfl) dX1_within_13 (fun sb H1 hB hN hk hS => ?_)
    replace hX := (hk a hsz).trans hX
    have hA3 : ∀ z : Nat, H.size ≤ z → x3 s.heap.size z := fun z hz => Nat.le_trans ha (Nat.le_trans (Nat.le_of_lt hsz) hz)
    generalize H.size = N0 at *
    clear hk
    refine lv_dup hx hb dX1_within_16 rfl ?_
    refine x_callv3 (x_runI3 (As := []) hF hE hS hA3 hN hB hl (jk_sbInit l g (x3 N0) _ 0 1 sb (by decide) va_up_s) q310 q311 q52 q312 rfl ⟨by decide +kernel, by decide +kernel, by show _ = some 0; decide +kernel⟩ rfl rfl ⟨Nat.le_of_ble_eq_true rfl, Nat.le_of_ble_eq_true rfl⟩ rfl (Nat.le_of_ble_eq_true rfl) dX1_within_17 ⟨Nat.le_of_ble_eq_true rfl, Nat.le_of_ble_eq_true rfl⟩) hS hA3 hN (fun u H locs hq1 hB hN hk hS => ?_)
    replace hX := (hk a hsz).trans hX
    obtain ⟨⟨v, hs⟩, hag⟩ := hq1
    have u2 : u 2 = none := hag 2 (by decide) (by decide)
    have u3 : u 3 = none := hag 3 (by decide) (by decide)
    clear hag
    obtain ⟨ml1, f1, m1, -⟩ := id hs
    refine va_ldcS hx hb hown (hE.litR (q := (87, "no ")) (List.mem_of_getElem? (i := 1) rfl)) dX1_within_20 ?_
    refine x_callr3 (x_runV3 (As := [.ref (g.2 (100 + 87))]) hF hE hS hA3 hN hB hl (jk_append l g (x3 N0) u 0 1 2 sb v 16 0 (87, "no ") (List.mem_of_getElem? (i := 1) rfl) hs (by decide) (by decide) (by decide) u2) (xw.recv3 hE hB (by first | assumption | exact va_up_s | rfl | (refine (va_up_n ?_).trans ?_; rotate_left; (first | assumption | exact va_up_s | rfl | (refine (va_up_n ?_).trans ?_; rotate_left; (first | assumption | exact va_up_s | rfl | (refine (va_up_n ?_).trans ?_; rotate_left; (first | assumption | exact va_up_s | rfl | (refine (va_up_n ?_).trans ?_; rotate_left; (first | assumption | exact va_up_s | rfl | (refine (va_up_n ?_).trans ?_; rotate_left; (assumption); omega)); omega)); omega)); omega)); omega)) rfl) q340 q341 q342 q52 q343 ⟨rfl, by decide +kernel, by decide +kernel, by show _ = some 1; decide +kernel⟩ rfl rfl ⟨Nat.le_of_ble_eq_true rfl, Nat.le_of_ble_eq_true rfl⟩ rfl (Nat.le_of_ble_eq_true rfl) dX1_within_22 ⟨Nat.le_of_ble_eq_true rfl, Nat.le_of_ble_eq_true rfl⟩) hS hA3 hN (fun u' ra H locs hq1 hB hN hk hS => ?_)
    obtain ⟨⟨hra, ⟨v', cap', hs'⟩, hag⟩, hB⟩ := hB
    rw [hra]
    replace hX := (hk a hsz).trans hX
    replace u2 := (hag 2 (by decide) (by decide)).trans u2
    replace u3 := (hag 3 (by decide) (by decide)).trans u3
    clear hag
    obtain ⟨ml2, f2, m2, -⟩ := id hs'
    refine lv_aload_n hx hb dX1_within_25 rfl (lh_at hl rfl) ?_
    refine x_callr3 (x_runV3 (As := [.ref (g.2 (100 + q.1))]) hF hE hS hA3 hN hB hl (jk_append l g (x3 N0) u' 0 1 2 sb v' cap' _ q hq hs' (by show 0 + 3 + q.2.length ≤ 140; omega) (by decide) (by decide) u2) (xw.recv3 hE hB (by first | assumption | exact va_up_s | rfl | (refine (va_up_n ?_).trans ?_; rotate_left; (first | assumption | exact va_up_s | rfl | (refine (va_up_n ?_).trans ?_; rotate_left; (first | assumption | exact va_up_s | rfl | (refine (va_up_n ?_).trans ?_; rotate_left; (first | assumption | exact va_up_s | rfl | (refine (va_up_n ?_).trans ?_; rotate_left; (first | assumption | exact va_up_s | rfl | (refine (va_up_n ?_).trans ?_; rotate_left; (assumption); omega)); omega)); omega)); omega)); omega)) rfl) q340 q341 q342 q52 q343 ⟨rfl, by decide +kernel, by decide +kernel, by show _ = some 1; decide +kernel⟩ rfl rfl ⟨Nat.le_of_ble_eq_true rfl, Nat.le_of_ble_eq_true rfl⟩ rfl (Nat.le_of_ble_eq_true rfl) dX1_within_26 ⟨Nat.le_of_ble_eq_true rfl, Nat.le_of_ble_eq_true rfl⟩) hS hA3 hN (fun u'' ra' H locs hq1 hB hN hk hS => ?_)
    obtain ⟨⟨hra, ⟨v'', cap'', hs''⟩, hag⟩, hB⟩ := hB
    rw [hra]
    replace hX := (hk a hsz).trans hX
    replace u2 := (hag 2 (by decide) (by decide)).trans u2
    replace u3 := (hag 3 (by decide) (by decide)).trans u3
    clear hag
    obtain ⟨ml3, f3, m3, -⟩ := id hs''
    refine va_ldcS hx hb hown (hE.litR (q := (93, " ")) (List.mem_of_getElem? (i := 2) rfl)) dX1_within_29 ?_
    refine x_callr3 (x_runV3 (As := [.ref (g.2 (100 + 93))]) hF hE hS hA3 hN hB hl (jk_append l g (x3 N0) u'' 0 1 2 sb v'' cap'' _ (93, " ") (List.mem_of_getElem? (i := 2) rfl) hs'' (by show 0 + 3 + q.2.length + 1 ≤ 140; omega) (by decide) (by decide) u2) (xw.recv3 hE hB (by first | assumption | exact va_up_s | rfl | (refine (va_up_n ?_).trans ?_; rotate_left; (first | assumption | exact va_up_s | rfl | (refine (va_up_n ?_).trans ?_; rotate_left; (first | assumption | exact va_up_s | rfl | (refine (va_up_n ?_).trans ?_; rotate_left; (first | assumption | exact va_up_s | rfl | (refine (va_up_n ?_).trans ?_; rotate_left; (first | assumption | exact va_up_s | rfl | (refine (va_up_n ?_).trans ?_; rotate_left; (assumption); omega)); omega)); omega)); omega)); omega)) rfl) q340 q341 q342 q52 q343 ⟨rfl, by decide +kernel, by decide +kernel, by show _ = some 1; decide +kernel⟩ rfl rfl ⟨Nat.le_of_ble_eq_true rfl, Nat.le_of_ble_eq_true rfl⟩ rfl (Nat.le_of_ble_eq_true rfl) dX1_within_31 ⟨Nat.le_of_ble_eq_true rfl, Nat.le_of_ble_eq_true rfl⟩) hS hA3 hN (fun u4 ra4 H locs hq1 hB hN hk hS => ?_)
    obtain ⟨⟨hra, ⟨v4, cap4, hs4⟩, hag⟩, hB⟩ := hB
    rw [hra]
    replace hX := (hk a hsz).trans hX
    replace u2 := (hag 2 (by decide) (by decide)).trans u2
    replace u3 := (hag 3 (by decide) (by decide)).trans u3
    clear hag
    obtain ⟨ml4, f4, m4, -⟩ := id hs4
    refine lv_iload_n hx hb dX1_within_34 rfl (lh_at hl rfl) ?_
    refine x_callr3 (x_runV3 (As := [.int k]) hF hE hS hA3 hN hB hl (jk_appendI l g (x3 N0) u4 0 1 2 sb v4 cap4 _ k hs4 (by show 0 + 3 + q.2.length + 1 + 11 ≤ 140; omega) (by decide) (by decide) u2) (xw.recv3 hE hB (by first | assumption | exact va_up_s | rfl | (refine (va_up_n ?_).trans ?_; rotate_left; (first | assumption | exact va_up_s | rfl | (refine (va_up_n ?_).trans ?_; rotate_left; (first | assumption | exact va_up_s | rfl | (refine (va_up_n ?_).trans ?_; rotate_left; (first | assumption | exact va_up_s | rfl | (refine (va_up_n ?_).trans ?_; rotate_left; (first | assumption | exact va_up_s | rfl | (refine (va_up_n ?_).trans ?_; rotate_left; (assumption); omega)); omega)); omega)); omega)); omega)) rfl) q457 q458 q459 q52 q460 ⟨rfl, by decide +kernel, by decide +kernel, by show _ = some 1; decide +kernel⟩ rfl rfl ⟨Nat.le_of_ble_eq_true rfl, Nat.le_of_ble_eq_true rfl⟩ rfl (Nat.le_of_ble_eq_true rfl) dX1_within_35 ⟨Nat.le_of_ble_eq_true rfl, Nat.le_of_ble_eq_true rfl⟩) hS hA3 hN (fun u5 ra5 H locs hq1 hB hN hk hS => ?_)
    obtain ⟨⟨hra, ⟨v5, cap5, n5, hn5, hs5⟩, hag⟩, hB⟩ := hB
    rw [hra]
    replace hX := (hk a hsz).trans hX
    replace u2 := (hag 2 (by decide) (by decide)).trans u2
    replace u3 := (hag 3 (by decide) (by decide)).trans u3
    clear hag
    obtain ⟨ml5, f5, m5, -⟩ := id hs5
    refine x_callr3 (x_runV3 (As := []) hF hE hS hA3 hN hB hl (jk_toString l g (x3 N0) u5 3 2 0 1 sb v5 cap5 n5 hs5 (by decide) u3 u2) (xw.recv3 hE hB (by first | assumption | exact va_up_s | rfl | (refine (va_up_n ?_).trans ?_; rotate_left; (first | assumption | exact va_up_s | rfl | (refine (va_up_n ?_).trans ?_; rotate_left; (first | assumption | exact va_up_s | rfl | (refine (va_up_n ?_).trans ?_; rotate_left; (first | assumption | exact va_up_s | rfl | (refine (va_up_n ?_).trans ?_; rotate_left; (first | assumption | exact va_up_s | rfl | (refine (va_up_n ?_).trans ?_; rotate_left; (assumption); omega)); omega)); omega)); omega)); omega)) rfl) q482 q483 q484 q52 q485 ⟨rfl, by decide +kernel, by decide +kernel, by show _ = some 0; decide +kernel⟩ rfl rfl ⟨Nat.le_of_ble_eq_true rfl, Nat.le_of_ble_eq_true rfl⟩ rfl (Nat.le_of_ble_eq_true rfl) dX1_within_38 ⟨Nat.le_of_ble_eq_true rfl, Nat.le_of_ble_eq_true rfl⟩) hS hA3 hN (fun uu msg H locs hq1 hB hN hk hS => ?_)
    replace hX := (hk a hsz).trans hX
    refine x_ctorX hx hb hlt hown (cls := eIB) (names := chX) rfl (by decide) (x_at xat_ib hts hE) hE hS hml hl hfX hkX hX ha (Nat.le_of_ble_eq_true rfl) (Nat.le_of_ble_eq_true rfl) dX1_within_41 (fun H locs ce h1 h2 h3 hS => ?_)
    have hMf : xw g A w H := hM.kept (fun n q hq => hS.2.1 _ (hM.lt hq) (Nat.not_le.mpr (hM.lt hq)))
    have hS9 := xS_wide hS hE0.2.1
    exact hQ ▸ vx_athrow hx hb dX1_within_44 (vx_out (E := eIB) (fun x hx => absurd (hxt x hx) id) hlk h1 h3 (by rw [h2]; exact hfX) (fun t ht hv => ⟨(), trivial, ⟨⟨rfl, hno⟩, by rw [ht]; exact hMf⟩, hS9.F ht⟩) hS9.2.2 (Nat.le_of_ble_eq_true rfl) (Nat.le_of_ble_eq_true rfl))
  refine lv_iload_n hx hb dX1_within_0 rfl (lh_at hl rfl) ?_
  refine lv_if_lt (tgt := 9) hx hb dX1_within_1 (by decide) (fun c1 => ?_) (fun c1 => ?_)
  · refine thr ?_ _ (lh_sub hl _ ⟨rfl, rfl, trivial⟩)
    unfold xr
    rw [if_neg]
    rw [Int32.lt_iff_toInt_lt, Int32.toInt_zero] at c1
    omega
  · refine lv_iload_n hx hb dX1_within_4 rfl (lh_at hl rfl) ?_
    refine lv_iload_n hx hb dX1_within_5 rfl (lh_at hl rfl) ?_
    refine lv_icmp_lt (tgt := 45) hx hb dX1_within_6 (by decide) (fun c2 => ?_) (fun c2 => ?_)
    · have hsome : xr k n = some k.toInt.toNat := by
        unfold xr
        rw [if_pos]
        rw [Int32.lt_iff_toInt_lt, Int32.toInt_zero] at c1
        rw [Int32.lt_iff_toInt_lt, nI_toInt hn] at c2
        omega
      refine lv_iload_n hx hb dX1_within_45 rfl (lh_at hl rfl) ?_
      refine hQ ▸ vx_ret (W.widen (k := 9) (n := 1530) (Nat.le_of_ble_eq_true rfl) (Nat.le_of_ble_eq_true rfl) (x_iret hx hb hr hlk hS () ⟨_, hsome, (xr_some hn hsome).2⟩ hM dX1_within_46))
    · refine thr ?_ _ (lh_sub hl _ ⟨rfl, rfl, trivial⟩)
      unfold xr
      rw [if_neg]
      rw [Int32.lt_iff_toInt_lt, nI_toInt hn] at c2
      omega
theorem xk_isWithin (l : Launch) (hlt : l.stackTraces = false) (g : xg) (A : Nat → Prop) (w : xw_W) (k lo hi : Int32) :
    vx_Met l yX1_isWithin (ws_ yX1_isWithin cX1_isWithin 3 none) (xrm 6 10 1830) (xPw g A w [.int k, .int lo, .int hi]) (xQv (S := Unit) (fun _ => lo ≤ k ∧ k ≤ hi) (fun _ => xw g A w) A) (xQX A (xw g A w) (fun E => E = eIA ∧ ¬ (lo ≤ k ∧ k ≤ hi))) 10 1830 A := by
  refine x_startX rfl (Nat.le_of_ble_eq_true rfl) ?_
  intro p e s m below meth c hx hb hr hlk hml hxt hown hts hnm hE hM hS ls hl
  have hF : xFix p m c cX1_isWithin 3 s _ RX1 := ⟨hx, hb, hml, hown, hts⟩
  generalize hargs : List.toArray _ = args at hts hF ⊢
  generalize hQ : vx_MQ below _ _ _ s _ _ A = Q
  have thr : ¬ (lo ≤ k ∧ k ≤ hi) → ∀ ls, lh ls 3 (xl [(0, .int k), (1, .int lo), (2, .int hi)]) → W p l e (xrm 6 10 1830) s m args below meth c s.heap [] 0 0 Q (F0 m 10 ls []) := by
    intro hno ls hl
    have hE0 := hE
    have hE := hE.sub (B := x3 s.heap.size) hE.2.1 (fun q h => h)
    have hS : va_S (x3 s.heap.size) s.heap s.heap [] := va_S.rf
    refine x_newE hx hb hown (hts _ q942) (hts _ q518) (hts _ q61) hS (Nat.le_of_ble_eq_true rfl) (Nat.le_of_ble_eq_true rfl) dX1_isWithin_10 (fun a H cX kX hfX hkX hX ha hsz hS => ?_)
    refine lv_dup hx hb dX1_isWithin_13 rfl ?_
    refine x_newSB hx hb hts hown (hts _ q308) hE hS 0 (Nat.le_of_ble_eq_true rfl) (Nat.le_of_ble_eq_true rfl) dX1_isWithin_14 (fun sb H1 hB hN hk hS => ?_)
    replace hX := (hk a hsz).trans hX
    have hA3 : ∀ z : Nat, H.size ≤ z → x3 s.heap.size z := fun z hz => Nat.le_trans ha (Nat.le_trans (Nat.le_of_lt hsz) hz)
    generalize H.size = N0 at *
    clear hk
    refine lv_dup hx hb dX1_isWithin_17 rfl ?_
    refine x_callv3 (x_runI3 (As := []) hF hE hS hA3 hN hB hl (jk_sbInit l g (x3 N0) _ 0 1 sb (by decide) va_up_s) q310 q311 q52 q312 rfl ⟨by decide +kernel, by decide +kernel, by show _ = some 0; decide +kernel⟩ rfl rfl ⟨Nat.le_of_ble_eq_true rfl, Nat.le_of_ble_eq_true rfl⟩ rfl (Nat.le_of_ble_eq_true rfl) dX1_isWithin_18 ⟨Nat.le_of_ble_eq_true rfl, Nat.le_of_ble_eq_true rfl⟩) hS hA3 hN (fun u H locs hq1 hB hN hk hS => ?_)
    replace hX := (hk a hsz).trans hX
    obtain ⟨⟨v, hs⟩, hag⟩ := hq1
    have u2 : u 2 = none := hag 2 (by decide) (by decide)
    have u3 : u 3 = none := hag 3 (by decide) (by decide)
    clear hag
    obtain ⟨ml1, f1, m1, -⟩ := id hs
    refine lv_iload_n hx hb dX1_isWithin_21 rfl (lh_at hl rfl) ?_
    refine x_callr3 (x_runV3 (As := [.int k]) hF hE hS hA3 hN hB hl (jk_appendI l g (x3 N0) u 0 1 2 sb v 16 0 k hs (by decide) (by decide) (by decide) u2) (xw.recv3 hE hB (by first | assumption | exact va_up_s | rfl | (refine (va_up_n ?_).trans ?_; rotate_left; (first | assumption | exact va_up_s | rfl | (refine (va_up_n ?_).trans ?_; rotate_left; (first | assumption | exact va_up_s | rfl | (refine (va_up_n ?_).trans ?_; rotate_left; (first | assumption | exact va_up_s | rfl | (refine (va_up_n ?_).trans ?_; rotate_left; (first | assumption | exact va_up_s | rfl | (refine (va_up_n ?_).trans ?_; rotate_left; (assumption); omega)); omega)); omega)); omega)); omega)) rfl) q457 q458 q459 q52 q460 ⟨rfl, by decide +kernel, by decide +kernel, by show _ = some 1; decide +kernel⟩ rfl rfl ⟨Nat.le_of_ble_eq_true rfl, Nat.le_of_ble_eq_true rfl⟩ rfl (Nat.le_of_ble_eq_true rfl) dX1_isWithin_22 ⟨Nat.le_of_ble_eq_true rfl, Nat.le_of_ble_eq_true rfl⟩) hS hA3 hN (fun u5 ra5 H locs hq1 hB hN hk hS => ?_)
    obtain ⟨⟨hra, ⟨v5, cap5, n5, hn5, hs5⟩, hag⟩, hB⟩ := hB
    rw [hra]
    replace hX := (hk a hsz).trans hX
    replace u2 := (hag 2 (by decide) (by decide)).trans u2
    replace u3 := (hag 3 (by decide) (by decide)).trans u3
    clear hag
    obtain ⟨ml5, f5, m5, -⟩ := id hs5
    refine va_ldcS hx hb hown (hE.litR (q := (121, " is not from ")) (List.mem_of_getElem? (i := 8) rfl)) dX1_isWithin_25 ?_
    refine x_callr3 (x_runV3 (As := [.ref (g.2 (100 + 121))]) hF hE hS hA3 hN hB hl (jk_append l g (x3 N0) u5 0 1 2 sb v5 cap5 n5 (121, " is not from ") (List.mem_of_getElem? (i := 8) rfl) hs5 (by show n5 + 13 ≤ 140; omega) (by decide) (by decide) u2) (xw.recv3 hE hB (by first | assumption | exact va_up_s | rfl | (refine (va_up_n ?_).trans ?_; rotate_left; (first | assumption | exact va_up_s | rfl | (refine (va_up_n ?_).trans ?_; rotate_left; (first | assumption | exact va_up_s | rfl | (refine (va_up_n ?_).trans ?_; rotate_left; (first | assumption | exact va_up_s | rfl | (refine (va_up_n ?_).trans ?_; rotate_left; (first | assumption | exact va_up_s | rfl | (refine (va_up_n ?_).trans ?_; rotate_left; (assumption); omega)); omega)); omega)); omega)); omega)) rfl) q340 q341 q342 q52 q343 ⟨rfl, by decide +kernel, by decide +kernel, by show _ = some 1; decide +kernel⟩ rfl rfl ⟨Nat.le_of_ble_eq_true rfl, Nat.le_of_ble_eq_true rfl⟩ rfl (Nat.le_of_ble_eq_true rfl) dX1_isWithin_27 ⟨Nat.le_of_ble_eq_true rfl, Nat.le_of_ble_eq_true rfl⟩) hS hA3 hN (fun u' ra H locs hq1 hB hN hk hS => ?_)
    obtain ⟨⟨hra, ⟨v', cap', hs'⟩, hag⟩, hB⟩ := hB
    rw [hra]
    replace hX := (hk a hsz).trans hX
    replace u2 := (hag 2 (by decide) (by decide)).trans u2
    replace u3 := (hag 3 (by decide) (by decide)).trans u3
    clear hag
    obtain ⟨ml2, f2, m2, -⟩ := id hs'
    refine lv_iload_n hx hb dX1_isWithin_30 rfl (lh_at hl rfl) ?_
    refine x_callr3 (x_runV3 (As := [.int lo]) hF hE hS hA3 hN hB hl (jk_appendI l g (x3 N0) u' 0 1 2 sb v' cap' _ lo hs' (by show n5 + 13 + 11 ≤ 140; omega) (by decide) (by decide) u2) (xw.recv3 hE hB (by first | assumption | exact va_up_s | rfl | (refine (va_up_n ?_).trans ?_; rotate_left; (first | assumption | exact va_up_s | rfl | (refine (va_up_n ?_).trans ?_; rotate_left; (first | assumption | exact va_up_s | rfl | (refine (va_up_n ?_).trans ?_; rotate_left; (first | assumption | exact va_up_s | rfl | (refine (va_up_n ?_).trans ?_; rotate_left; (first | assumption | exact va_up_s | rfl | (refine (va_up_n ?_).trans ?_; rotate_left; (assumption); omega)); omega)); omega)); omega)); omega)) rfl) q457 q458 q459 q52 q460 ⟨rfl, by decide +kernel, by decide +kernel, by show _ = some 1; decide +kernel⟩ rfl rfl ⟨Nat.le_of_ble_eq_true rfl, Nat.le_of_ble_eq_true rfl⟩ rfl (Nat.le_of_ble_eq_true rfl) dX1_isWithin_31 ⟨Nat.le_of_ble_eq_true rfl, Nat.le_of_ble_eq_true rfl⟩) hS hA3 hN (fun u6 ra6 H locs hq1 hB hN hk hS => ?_)
    obtain ⟨⟨hra, ⟨v6, cap6, n6, hn6, hs6⟩, hag⟩, hB⟩ := hB
    have hn6 : n6 ≤ n5 + 13 + 11 := hn6
    rw [hra]
    replace hX := (hk a hsz).trans hX
    replace u2 := (hag 2 (by decide) (by decide)).trans u2
    replace u3 := (hag 3 (by decide) (by decide)).trans u3
    clear hag
    obtain ⟨ml6, f6, m6, -⟩ := id hs6
    refine va_ldcS hx hb hown (hE.litR (q := (123, " to ")) (List.mem_of_getElem? (i := 9) rfl)) dX1_isWithin_34 ?_
    refine x_callr3 (x_runV3 (As := [.ref (g.2 (100 + 123))]) hF hE hS hA3 hN hB hl (jk_append l g (x3 N0) u6 0 1 2 sb v6 cap6 n6 (123, " to ") (List.mem_of_getElem? (i := 9) rfl) hs6 (by show n6 + 4 ≤ 140; omega) (by decide) (by decide) u2) (xw.recv3 hE hB (by first | assumption | exact va_up_s | rfl | (refine (va_up_n ?_).trans ?_; rotate_left; (first | assumption | exact va_up_s | rfl | (refine (va_up_n ?_).trans ?_; rotate_left; (first | assumption | exact va_up_s | rfl | (refine (va_up_n ?_).trans ?_; rotate_left; (first | assumption | exact va_up_s | rfl | (refine (va_up_n ?_).trans ?_; rotate_left; (first | assumption | exact va_up_s | rfl | (refine (va_up_n ?_).trans ?_; rotate_left; (assumption); omega)); omega)); omega)); omega)); omega)) rfl) q340 q341 q342 q52 q343 ⟨rfl, by decide +kernel, by decide +kernel, by show _ = some 1; decide +kernel⟩ rfl rfl ⟨Nat.le_of_ble_eq_true rfl, Nat.le_of_ble_eq_true rfl⟩ rfl (Nat.le_of_ble_eq_true rfl) dX1_isWithin_36 ⟨Nat.le_of_ble_eq_true rfl, Nat.le_of_ble_eq_true rfl⟩) hS hA3 hN (fun u7 ra7 H locs hq1 hB hN hk hS => ?_)
    obtain ⟨⟨hra, ⟨v7, cap7, hs7⟩, hag⟩, hB⟩ := hB
    rw [hra]
    replace hX := (hk a hsz).trans hX
    replace u2 := (hag 2 (by decide) (by decide)).trans u2
    replace u3 := (hag 3 (by decide) (by decide)).trans u3
    clear hag
    obtain ⟨ml7, f7, m7, -⟩ := id hs7
    refine lv_iload_n hx hb dX1_isWithin_39 rfl (lh_at hl rfl) ?_
    refine x_callr3 (x_runV3 (As := [.int hi]) hF hE hS hA3 hN hB hl (jk_appendI l g (x3 N0) u7 0 1 2 sb v7 cap7 _ hi hs7 (by show n6 + 4 + 11 ≤ 140; omega) (by decide) (by decide) u2) (xw.recv3 hE hB (by first | assumption | exact va_up_s | rfl | (refine (va_up_n ?_).trans ?_; rotate_left; (first | assumption | exact va_up_s | rfl | (refine (va_up_n ?_).trans ?_; rotate_left; (first | assumption | exact va_up_s | rfl | (refine (va_up_n ?_).trans ?_; rotate_left; (first | assumption | exact va_up_s | rfl | (refine (va_up_n ?_).trans ?_; rotate_left; (first | assumption | exact va_up_s | rfl | (refine (va_up_n ?_).trans ?_; rotate_left; (assumption); omega)); omega)); omega)); omega)); omega)) rfl) q457 q458 q459 q52 q460 ⟨rfl, by decide +kernel, by decide +kernel, by show _ = some 1; decide +kernel⟩ rfl rfl ⟨Nat.le_of_ble_eq_true rfl, Nat.le_of_ble_eq_true rfl⟩ rfl (Nat.le_of_ble_eq_true rfl) dX1_isWithin_40 ⟨Nat.le_of_ble_eq_true rfl, Nat.le_of_ble_eq_true rfl⟩) hS hA3 hN (fun u8 ra8 H locs hq1 hB hN hk hS => ?_)
    obtain ⟨⟨hra, ⟨v8, cap8, n8, hn8, hs8⟩, hag⟩, hB⟩ := hB
    rw [hra]
    replace hX := (hk a hsz).trans hX
    replace u2 := (hag 2 (by decide) (by decide)).trans u2
    replace u3 := (hag 3 (by decide) (by decide)).trans u3
    clear hag
    obtain ⟨ml8, f8, m8, -⟩ := id hs8
    refine x_callr3 (x_runV3 (As := []) hF hE hS hA3 hN hB hl (jk_toString l g (x3 N0) u8 3 2 0 1 sb v8 cap8 n8 hs8 (by decide) u3 u2) (xw.recv3 hE hB (by first | assumption | exact va_up_s | rfl | (refine (va_up_n ?_).trans ?_; rotate_left; (first | assumption | exact va_up_s | rfl | (refine (va_up_n ?_).trans ?_; rotate_left; (first | assumption | exact va_up_s | rfl | (refine (va_up_n ?_).trans ?_; rotate_left; (first | assumption | exact va_up_s | rfl | (refine (va_up_n ?_).trans ?_; rotate_left; (first | assumption | exact va_up_s | rfl | (refine (va_up_n ?_).trans ?_; rotate_left; (assumption); omega)); omega)); omega)); omega)); omega)) rfl) q482 q483 q484 q52 q485 ⟨rfl, by decide +kernel, by decide +kernel, by show _ = some 0; decide +kernel⟩ rfl rfl ⟨Nat.le_of_ble_eq_true rfl, Nat.le_of_ble_eq_true rfl⟩ rfl (Nat.le_of_ble_eq_true rfl) dX1_isWithin_43 ⟨Nat.le_of_ble_eq_true rfl, Nat.le_of_ble_eq_true rfl⟩) hS hA3 hN (fun uu msg H locs hq1 hB hN hk hS => ?_)
    replace hX := (hk a hsz).trans hX
    refine x_ctorX hx hb hlt hown (cls := eIA) (names := chX) rfl (by decide) (x_at xat_ia hts hE) hE hS hml hl hfX hkX hX ha (Nat.le_of_ble_eq_true rfl) (Nat.le_of_ble_eq_true rfl) dX1_isWithin_46 (fun H locs ce h1 h2 h3 hS => ?_)
    have hMf : xw g A w H := hM.kept (fun n q hq => hS.2.1 _ (hM.lt hq) (Nat.not_le.mpr (hM.lt hq)))
    have hS9 := xS_wide hS hE0.2.1
    exact hQ ▸ vx_athrow hx hb dX1_isWithin_49 (vx_out (E := eIA) (fun x hx => absurd (hxt x hx) id) hlk h1 h3 (by rw [h2]; exact hfX) (fun t ht hv => ⟨(), trivial, ⟨⟨rfl, hno⟩, by rw [ht]; exact hMf⟩, hS9.F ht⟩) hS9.2.2 (Nat.le_of_ble_eq_true rfl) (Nat.le_of_ble_eq_true rfl))
  refine lv_iload_n hx hb dX1_isWithin_0 rfl (lh_at hl rfl) ?_
  refine lv_iload_n hx hb dX1_isWithin_1 rfl (lh_at hl rfl) ?_
  refine lv_icmp_lt (tgt := 10) hx hb dX1_isWithin_2 (by decide) (fun c1 => ?_) (fun c1 => ?_)
  · exact thr (fun z => Int32.not_le.mpr c1 z.1) _ (lh_sub hl _ ⟨rfl, rfl, rfl, trivial⟩)
  · refine lv_iload_n hx hb dX1_isWithin_5 rfl (lh_at hl rfl) ?_
    refine lv_iload_n hx hb dX1_isWithin_6 rfl (lh_at hl rfl) ?_
    refine lv_icmp_le (tgt := 50) hx hb dX1_isWithin_7 (by decide) (fun c2 => ?_) (fun c2 => ?_)
    · exact hQ ▸ vx_ret (W.widen (k := 10) (n := 1830) (Nat.le_of_ble_eq_true rfl) (Nat.le_of_ble_eq_true rfl) (x_vret hx hb hr hlk hS () ⟨Int32.not_lt.mp c1, c2⟩ hM dX1_isWithin_50))
    · exact thr (fun z => c2 z.2) _ (lh_sub hl _ ⟨rfl, rfl, rfl, trivial⟩)
theorem xk_must (l : Launch) (hlt : l.stackTraces = false) (g : xg) (A : Nat → Prop) (w : xw_W) (b : Int32) (sa : Nat) :
    vx_Met l yX1_must (ws_ yX1_must cX1_must 2 none) (xrm 2 1 6) (xPw g A w [.int b, .ref sa]) (xQv (S := Unit) (fun _ => b ≠ 0) (fun _ => xw g A w) A) (xQX A (xw g A w) (fun E => E = eIS ∧ b = 0)) 1 6 A := by
  refine x_startX rfl (Nat.le_of_ble_eq_true rfl) ?_
  intro p e s m below meth c hx hb hr hlk hml hxt hown hts hnm hE hM hS ls hl
  have hF : xFix p m c cX1_must 2 s _ RX1 := ⟨hx, hb, hml, hown, hts⟩
  generalize hargs : List.toArray _ = args at hts hF ⊢
  generalize hQ : vx_MQ below _ _ _ s _ _ A = Q
  refine lv_iload_n hx hb dX1_must_0 rfl (lh_at hl rfl) ?_
  refine lv_if_ne (tgt := 13) hx hb dX1_must_1 (by decide) (fun c1 => ?_) (fun c1 => ?_)
  · exact hQ ▸ vx_ret (W.widen (k := 1) (n := 6) (Nat.le_of_ble_eq_true rfl) (Nat.le_of_ble_eq_true rfl) (x_vret hx hb hr hlk hS () c1 hM dX1_must_13))
  · have hE0 := hE
    have hE := hE.sub (B := x3 s.heap.size) hE.2.1 (fun q h => h)
    have hS : va_S (x3 s.heap.size) s.heap s.heap [] := va_S.rf
    refine x_newE hx hb hown (hts _ q576) (hts _ q577) (hts _ q62) hS (Nat.le_of_ble_eq_true rfl) (Nat.le_of_ble_eq_true rfl) dX1_must_4 (fun a H cX kX hfX hkX hX ha hsz hS => ?_)
    refine lv_dup hx hb dX1_must_7 rfl ?_
    refine lv_aload_n hx hb dX1_must_8 rfl (lh_at hl rfl) ?_
    refine x_ctorX hx hb hlt hown (cls := eIS) (names := chX) rfl (by decide) (x_at xat_is hts hE) hE hS hml hl hfX hkX hX ha (Nat.le_of_ble_eq_true rfl) (Nat.le_of_ble_eq_true rfl) dX1_must_9 (fun H locs ce h1 h2 h3 hS => ?_)
    have hMf : xw g A w H := hM.kept (fun n q hq => hS.2.1 _ (hM.lt hq) (Nat.not_le.mpr (hM.lt hq)))
    have hS9 := xS_wide hS hE0.2.1
    exact hQ ▸ vx_athrow hx hb dX1_must_12 (vx_out (E := eIS) (fun x hx => absurd (hxt x hx) id) hlk h1 h3 (by rw [h2]; exact hfX) (fun t ht hv => ⟨(), trivial, ⟨⟨rfl, c1⟩, by rw [ht]; exact hMf⟩, hS9.F ht⟩) hS9.2.2 (Nat.le_of_ble_eq_true rfl) (Nat.le_of_ble_eq_true rfl))
