/-! Aislewright: what only asks (1) -/
set_option maxRecDepth 100000
theorem prodsN_has {ν : nS} {b q : Nat} : ∀ n o, o < n → vBt ν o = b + 1 → (wantN ν o).testBit q = true → (prodsN ν b n).testBit q = true
  | 0, o, h, _, _ => absurd h (Nat.not_lt_zero o)
  | n + 1, o, h, h1, h2 => by
    unfold prodsN
    by_cases e : o = n
    · subst e
      rw [if_pos h1, Nat.testBit_or, h2, Bool.or_true]
    · have ih := prodsN_has n o (by omega) h1 h2
      split
      · rw [Nat.testBit_or, ih, Bool.true_or]
      · exact ih
theorem prodsN_in {ν : nS} {b q : Nat} : ∀ n, (prodsN ν b n).testBit q = true → ∃ o, o < n ∧ vBt ν o = b + 1 ∧ (wantN ν o).testBit q = true
  | 0, h => by simp [prodsN] at h
  | n + 1, h => by
    unfold prodsN at h
    split at h
    · next h1 =>
      rw [Nat.testBit_or, Bool.or_eq_true] at h
      rcases h with h | h
      · obtain ⟨o, a1, a2, a3⟩ := prodsN_in n h
        exact ⟨o, by omega, a2, a3⟩
      · exact ⟨n, by omega, h1, h⟩
    · obtain ⟨o, a1, a2, a3⟩ := prodsN_in n h
      exact ⟨o, by omega, a2, a3⟩
theorem want_bit {ν : nS} {o k : Nat} (hk : k < vMn ν o) : (wantN ν o).testBit (vPr ν o k) = true := by
  unfold wantN
  have : ∀ n, k < n → (orM (vPr ν o) n).testBit (vPr ν o k) = true := by
    intro n
    induction n with
    | zero => intro h; exact absurd h (Nat.not_lt_zero k)
    | succ n ih =>
      intro h
      unfold orM
      rw [Nat.testBit_or]
      by_cases e : k = n
      · rw [e, Nat.shiftLeft_eq, Nat.one_mul, Nat.testBit_two_pow, decide_eq_true rfl, Bool.or_true]
      · rw [ih (by omega), Bool.true_or]
  exact this _ hk
theorem cnt_pos {ν : nS} {β : Nat → List Nat} (hO : xOk ν) (hβ : bOk ν β) {b : Nat} (hb : b < vC ν 5) : 0 < cntN ν (pAll ν b) := by
  obtain ⟨h1, h2, h3⟩ := hβ b hb
  obtain ⟨o, ho⟩ := List.exists_mem_of_ne_nil _ h2
  obtain ⟨hoN, hbt⟩ := (h3 o).mp ho
  have hmn := (hO.o hoN).2.1 (by omega)
  have hbit := prodsN_has (ν := ν) (b := b) (vC ν 4) o hoN hbt (want_bit (k := 0) (by omega))
  have hpr := ((hO.V.2.2.2.2.2.2.2 o hoN).2.2.2.2 0 (by omega)).1
  rw [cntN_eq]
  have := cntB_sub hbit 20 hpr
  have e : pAll ν b = prodsN ν b (vC ν 4) := rfl
  rw [e]
  omega
theorem xk_written (l : Launch) (hlt : l.stackTraces = false) (g : xg) (A : Nat → Prop) (w : xw_W) (ν : nS) (ad : Nat → Nat) (β : Nat → List Nat) (k : Int32) (hO : xOk ν) (hX : XR g ν ad β w) :
    vx_Met l yX1_written (ws_ yX1_written cX1_written 2 (some (.object "Aislewright$Order"))) (xrm 7 9 1530) (xPw g A w [.ref (ad 0), .int k]) (zQr A (xw g A w) (fun r => ∃ o, xr k (vC ν 4) = some o ∧ r = ad (2000 + 2 * o))) (xQX A (xw g A w) (fun E => E = eIB ∧ xr k (vC ν 4) = none)) 9 1530 A := by
  have hN := hO.N
  have h0 := hX.obj
  obtain ⟨mc, hL⟩ := hX.ord
  obtain ⟨d3, hd3⟩ := hL.size
  refine x_startX rfl (Nat.le_of_ble_eq_true rfl) ?_
  intro p e s m below meth c hx hb hr hlk hml hxt hown hts hnm hE hM hS ls hl
  have hF : xFix p m c cX1_written 2 s _ RX1 := ⟨hx, hb, hml, hown, hts⟩
  generalize hargs : List.toArray _ = args at hts hF ⊢
  generalize hQ : vx_MQ below _ _ _ s _ _ A = Q
  refine lv_aload_n hx hb dX1_written_0 rfl (lh_at hl rfl) ?_
  refine xr_get (C := RX1) (T := TX1) (N := 12) (ci := 0) (n := 0) hx hb hts in_X1 hown hE hM (by first | assumption | exact va_up_s | rfl | (refine (va_up_n ?_).trans ?_; rotate_left; (first | assumption | exact va_up_s | rfl | (refine (va_up_n ?_).trans ?_; rotate_left; (first | assumption | exact va_up_s | rfl | (refine (va_up_n ?_).trans ?_; rotate_left; (first | assumption | exact va_up_s | rfl | (refine (va_up_n ?_).trans ?_; rotate_left; (first | assumption | exact va_up_s | rfl | (refine (va_up_n ?_).trans ?_; rotate_left; (assumption); omega)); omega)); omega)); omega)); omega)) rfl 5 (by decide) (hts _ q146) (fun _ h => h) rfl dX1_written_1 ?_
  refine lv_iload_n hx hb dX1_written_4 rfl (lh_at hl rfl) ?_
  refine lv_aload_n hx hb dX1_written_5 rfl (lh_at hl rfl) ?_
  refine xr_get (C := RX1) (T := TX1) (N := 12) (ci := 0) (n := 0) hx hb hts in_X1 hown hE hM (by first | assumption | exact va_up_s | rfl | (refine (va_up_n ?_).trans ?_; rotate_left; (first | assumption | exact va_up_s | rfl | (refine (va_up_n ?_).trans ?_; rotate_left; (first | assumption | exact va_up_s | rfl | (refine (va_up_n ?_).trans ?_; rotate_left; (first | assumption | exact va_up_s | rfl | (refine (va_up_n ?_).trans ?_; rotate_left; (first | assumption | exact va_up_s | rfl | (refine (va_up_n ?_).trans ?_; rotate_left; (assumption); omega)); omega)); omega)); omega)); omega)) rfl 5 (by decide) (hts _ q146) (fun _ h => h) rfl dX1_written_6 ?_
  refine x_callFi (x_runF (As := []) hF hE hS hM hl (jk_size l g A w 3 4 (ad 3) 4 mc _ hL) (xw.recv hE hM (by first | assumption | exact va_up_s | rfl | (refine (va_up_n ?_).trans ?_; rotate_left; (first | assumption | exact va_up_s | rfl | (refine (va_up_n ?_).trans ?_; rotate_left; (first | assumption | exact va_up_s | rfl | (refine (va_up_n ?_).trans ?_; rotate_left; (first | assumption | exact va_up_s | rfl | (refine (va_up_n ?_).trans ?_; rotate_left; (first | assumption | exact va_up_s | rfl | (refine (va_up_n ?_).trans ?_; rotate_left; (assumption); omega)); omega)); omega)); omega)); omega)) rfl) (xw.at hE (ci := 6) rfl) (List.mem_of_getElem? (i := 0) rfl) q183 q189 q187 q41 q191 ⟨by decide +kernel, by decide +kernel, by show _ = some 0; decide +kernel⟩ rfl rfl ⟨Nat.le_of_ble_eq_true rfl, Nat.le_of_ble_eq_true rfl⟩ rfl (Nat.le_of_ble_eq_true rfl) dX1_written_9 ⟨Nat.le_of_ble_eq_true rfl, Nat.le_of_ble_eq_true rfl⟩) hS (fun r uu H locs hq hM hS => ?_)
  rw [hq, oL_len]
  refine xr_ldc hx hb hown hE (i := 11) (k := 111) rfl dX1_written_14 ?_
  refine x_tcalli (x_runSX (As := [.int k, .int (nI (vC ν 4)), .ref (g.2 (100 + 111))]) hF hE hS hM hl (xk_within l hlt g A w k (vC ν 4) (111, "order") (List.mem_of_getElem? (i := 11) rfl) (by omega)) q296 q297 q38 q298 ⟨by decide +kernel, by decide +kernel, by show _ = some 3; decide +kernel⟩ rfl rfl ⟨Nat.le_of_ble_eq_true rfl, Nat.le_of_ble_eq_true rfl⟩ rfl (Nat.le_of_ble_eq_true rfl) dX1_written_16 ⟨Nat.le_of_ble_eq_true rfl, Nat.le_of_ble_eq_true rfl⟩) hS hQ hxt hlk (Nat.le_of_ble_eq_true rfl) (Nat.le_of_ble_eq_true rfl) (fun E9 H9 hE9 hP9 => ?_) (fun r uu H locs hq hM hS => ?_)
  · exact ⟨hE9, hP9⟩
  · obtain ⟨o, ho, rfl⟩ := hq
    have hoN := (xr_some (by omega) ho).1
    refine x_callFr (x_runF (As := [.int (nI o)]) hF hE hS hM hl (jk_get l g A w 3 4 (ad 3) 4 o (ad (2000 + 2 * o)) mc _ hL (oL_at hoN)) (xw.recv hE hM (by first | assumption | exact va_up_s | rfl | (refine (va_up_n ?_).trans ?_; rotate_left; (first | assumption | exact va_up_s | rfl | (refine (va_up_n ?_).trans ?_; rotate_left; (first | assumption | exact va_up_s | rfl | (refine (va_up_n ?_).trans ?_; rotate_left; (first | assumption | exact va_up_s | rfl | (refine (va_up_n ?_).trans ?_; rotate_left; (first | assumption | exact va_up_s | rfl | (refine (va_up_n ?_).trans ?_; rotate_left; (assumption); omega)); omega)); omega)); omega)); omega)) rfl) (xw.at hE (ci := 6) rfl) (List.mem_of_getElem? (i := 2) rfl) q621 q626 q624 q41 q628 ⟨by decide +kernel, by decide +kernel, by show _ = some 1; decide +kernel⟩ rfl rfl ⟨Nat.le_of_ble_eq_true rfl, Nat.le_of_ble_eq_true rfl⟩ rfl (Nat.le_of_ble_eq_true rfl) dX1_written_19 ⟨Nat.le_of_ble_eq_true rfl, Nat.le_of_ble_eq_true rfl⟩) hS (fun uu ra H locs hq hM hS => ?_)
    obtain ⟨hra, hM⟩ := hM
    rw [hra]
    have ho2 := (hX.os hoN).1
    refine xr_cast (r := (RX5, TX5, 4)) (ci := 4) hx hb hown hE hM (by first | assumption | exact va_up_s | rfl | (refine (va_up_n ?_).trans ?_; rotate_left; (first | assumption | exact va_up_s | rfl | (refine (va_up_n ?_).trans ?_; rotate_left; (first | assumption | exact va_up_s | rfl | (refine (va_up_n ?_).trans ?_; rotate_left; (first | assumption | exact va_up_s | rfl | (refine (va_up_n ?_).trans ?_; rotate_left; (first | assumption | exact va_up_s | rfl | (refine (va_up_n ?_).trans ?_; rotate_left; (assumption); omega)); omega)); omega)); omega)); omega)) rfl (hts _ q947) dX1_written_24 ?_
    exact hQ ▸ vx_ret (x_aret hx hb hr (Or.inl ⟨_, rfl⟩) hlk hS () trivial ⟨⟨o, ho, rfl⟩, hM⟩ dX1_written_27)
theorem xk_batch (l : Launch) (hlt : l.stackTraces = false) (g : xg) (A : Nat → Prop) (w : xw_W) (ν : nS) (ad : Nat → Nat) (β : Nat → List Nat) (k : Int32) (hO : xOk ν) (hX : XR g ν ad β w) :
    vx_Met l yX1_batch (ws_ yX1_batch cX1_batch 2 (some (.object "Aislewright$Batch"))) (xrm 7 9 1530) (xPw g A w [.ref (ad 0), .int k]) (zQr A (xw g A w) (fun r => ∃ b, xr k (vC ν 5) = some b ∧ r = ad (bN β b))) (xQX A (xw g A w) (fun E => E = eIB ∧ xr k (vC ν 5) = none)) 9 1530 A := by
  have hN := hO.B
  have h0 := hX.obj
  obtain ⟨mc, hL⟩ := hX.wav
  obtain ⟨d3, hd3⟩ := hL.size
  refine x_startX rfl (Nat.le_of_ble_eq_true rfl) ?_
  intro p e s m below meth c hx hb hr hlk hml hxt hown hts hnm hE hM hS ls hl
  have hF : xFix p m c cX1_batch 2 s _ RX1 := ⟨hx, hb, hml, hown, hts⟩
  generalize hargs : List.toArray _ = args at hts hF ⊢
  generalize hQ : vx_MQ below _ _ _ s _ _ A = Q
  refine lv_aload_n hx hb dX1_batch_0 rfl (lh_at hl rfl) ?_
  refine xr_get (C := RX1) (T := TX1) (N := 12) (ci := 0) (n := 0) hx hb hts in_X1 hown hE hM (by first | assumption | exact va_up_s | rfl | (refine (va_up_n ?_).trans ?_; rotate_left; (first | assumption | exact va_up_s | rfl | (refine (va_up_n ?_).trans ?_; rotate_left; (first | assumption | exact va_up_s | rfl | (refine (va_up_n ?_).trans ?_; rotate_left; (first | assumption | exact va_up_s | rfl | (refine (va_up_n ?_).trans ?_; rotate_left; (first | assumption | exact va_up_s | rfl | (refine (va_up_n ?_).trans ?_; rotate_left; (assumption); omega)); omega)); omega)); omega)); omega)) rfl 6 (by decide) (hts _ q147) (fun _ h => h) rfl dX1_batch_1 ?_
  refine lv_iload_n hx hb dX1_batch_4 rfl (lh_at hl rfl) ?_
  refine lv_aload_n hx hb dX1_batch_5 rfl (lh_at hl rfl) ?_
  refine xr_get (C := RX1) (T := TX1) (N := 12) (ci := 0) (n := 0) hx hb hts in_X1 hown hE hM (by first | assumption | exact va_up_s | rfl | (refine (va_up_n ?_).trans ?_; rotate_left; (first | assumption | exact va_up_s | rfl | (refine (va_up_n ?_).trans ?_; rotate_left; (first | assumption | exact va_up_s | rfl | (refine (va_up_n ?_).trans ?_; rotate_left; (first | assumption | exact va_up_s | rfl | (refine (va_up_n ?_).trans ?_; rotate_left; (first | assumption | exact va_up_s | rfl | (refine (va_up_n ?_).trans ?_; rotate_left; (assumption); omega)); omega)); omega)); omega)); omega)) rfl 6 (by decide) (hts _ q147) (fun _ h => h) rfl dX1_batch_6 ?_
  refine x_callFi (x_runF (As := []) hF hE hS hM hl (jk_size l g A w 5 6 (ad 5) 5 mc _ hL) (xw.recv hE hM (by first | assumption | exact va_up_s | rfl | (refine (va_up_n ?_).trans ?_; rotate_left; (first | assumption | exact va_up_s | rfl | (refine (va_up_n ?_).trans ?_; rotate_left; (first | assumption | exact va_up_s | rfl | (refine (va_up_n ?_).trans ?_; rotate_left; (first | assumption | exact va_up_s | rfl | (refine (va_up_n ?_).trans ?_; rotate_left; (first | assumption | exact va_up_s | rfl | (refine (va_up_n ?_).trans ?_; rotate_left; (assumption); omega)); omega)); omega)); omega)); omega)) rfl) (xw.at hE (ci := 6) rfl) (List.mem_of_getElem? (i := 0) rfl) q183 q189 q187 q41 q191 ⟨by decide +kernel, by decide +kernel, by show _ = some 0; decide +kernel⟩ rfl rfl ⟨Nat.le_of_ble_eq_true rfl, Nat.le_of_ble_eq_true rfl⟩ rfl (Nat.le_of_ble_eq_true rfl) dX1_batch_9 ⟨Nat.le_of_ble_eq_true rfl, Nat.le_of_ble_eq_true rfl⟩) hS (fun r uu H locs hq hM hS => ?_)
  rw [hq, bL_len]
  refine xr_ldc hx hb hown hE (i := 15) (k := 115) rfl dX1_batch_14 ?_
  refine x_tcalli (x_runSX (As := [.int k, .int (nI (vC ν 5)), .ref (g.2 (100 + 115))]) hF hE hS hM hl (xk_within l hlt g A w k (vC ν 5) (115, "batch") (List.mem_of_getElem? (i := 15) rfl) (by omega)) q296 q297 q38 q298 ⟨by decide +kernel, by decide +kernel, by show _ = some 3; decide +kernel⟩ rfl rfl ⟨Nat.le_of_ble_eq_true rfl, Nat.le_of_ble_eq_true rfl⟩ rfl (Nat.le_of_ble_eq_true rfl) dX1_batch_16 ⟨Nat.le_of_ble_eq_true rfl, Nat.le_of_ble_eq_true rfl⟩) hS hQ hxt hlk (Nat.le_of_ble_eq_true rfl) (Nat.le_of_ble_eq_true rfl) (fun E9 H9 hE9 hP9 => ?_) (fun r uu H locs hq hM hS => ?_)
  · exact ⟨hE9, hP9⟩
  · obtain ⟨o, ho, rfl⟩ := hq
    have hoN := (xr_some (by omega) ho).1
    refine x_callFr (x_runF (As := [.int (nI o)]) hF hE hS hM hl (jk_get l g A w 5 6 (ad 5) 5 o (ad (bN β o)) mc _ hL (bL_at hoN)) (xw.recv hE hM (by first | assumption | exact va_up_s | rfl | (refine (va_up_n ?_).trans ?_; rotate_left; (first | assumption | exact va_up_s | rfl | (refine (va_up_n ?_).trans ?_; rotate_left; (first | assumption | exact va_up_s | rfl | (refine (va_up_n ?_).trans ?_; rotate_left; (first | assumption | exact va_up_s | rfl | (refine (va_up_n ?_).trans ?_; rotate_left; (first | assumption | exact va_up_s | rfl | (refine (va_up_n ?_).trans ?_; rotate_left; (assumption); omega)); omega)); omega)); omega)); omega)) rfl) (xw.at hE (ci := 6) rfl) (List.mem_of_getElem? (i := 2) rfl) q621 q626 q624 q41 q628 ⟨by decide +kernel, by decide +kernel, by show _ = some 1; decide +kernel⟩ rfl rfl ⟨Nat.le_of_ble_eq_true rfl, Nat.le_of_ble_eq_true rfl⟩ rfl (Nat.le_of_ble_eq_true rfl) dX1_batch_19 ⟨Nat.le_of_ble_eq_true rfl, Nat.le_of_ble_eq_true rfl⟩) hS (fun uu ra H locs hq hM hS => ?_)
    obtain ⟨hra, hM⟩ := hM
    rw [hra]
    have ho2 := (hX.bs hoN).1
    refine xr_cast (r := (RX6, TX6, 3)) (ci := 5) hx hb hown hE hM (by first | assumption | exact va_up_s | rfl | (refine (va_up_n ?_).trans ?_; rotate_left; (first | assumption | exact va_up_s | rfl | (refine (va_up_n ?_).trans ?_; rotate_left; (first | assumption | exact va_up_s | rfl | (refine (va_up_n ?_).trans ?_; rotate_left; (first | assumption | exact va_up_s | rfl | (refine (va_up_n ?_).trans ?_; rotate_left; (first | assumption | exact va_up_s | rfl | (refine (va_up_n ?_).trans ?_; rotate_left; (assumption); omega)); omega)); omega)); omega)); omega)) rfl (hts _ q1107) dX1_batch_24 ?_
    exact hQ ▸ vx_ret (x_aret hx hb hr (Or.inl ⟨_, rfl⟩) hlk hS () trivial ⟨⟨o, ho, rfl⟩, hM⟩ dX1_batch_27)
theorem xk_placeOf (l : Launch) (hlt : l.stackTraces = false) (g : xg) (A : Nat → Prop) (w : xw_W) (ν : nS) (x0 : Nat) (k : Int32) (h : xI g ν x0 w) :
    vx_Met l yX1_placeOf (ws_ yX1_placeOf cX1_placeOf 2 (some .int)) (xrm 8 9 1530) (xPw g A w [.ref x0, .int k]) (opQi g A x0 (opPlaceOf ν k)) (opQX g A w [eIB] (opPlaceOf ν k)) 9 1530 A := by
  obtain ⟨hO, ad, β, rfl, hβ, hX⟩ := id h
  have h0 := hX.obj
  obtain ⟨f, hf, hfv⟩ := hX.pl
  refine x_startX rfl (Nat.le_of_ble_eq_true rfl) ?_
  intro p e s m below meth c hx hb hr hlk hml hxt hown hts hnm hE hM hS ls hl
  have hF : xFix p m c cX1_placeOf 2 s _ RX1 := ⟨hx, hb, hml, hown, hts⟩
  generalize hargs : List.toArray _ = args at hts hF ⊢
  generalize hQ : vx_MQ below _ _ _ s _ _ A = Q
  refine lv_aload_n hx hb dX1_placeOf_0 rfl (lh_at hl rfl) ?_
  refine xr_get (C := RX1) (T := TX1) (N := 12) (ci := 0) (n := 0) hx hb hts in_X1 hown hE hM (by first | assumption | exact va_up_s | rfl | (refine (va_up_n ?_).trans ?_; rotate_left; (first | assumption | exact va_up_s | rfl | (refine (va_up_n ?_).trans ?_; rotate_left; (first | assumption | exact va_up_s | rfl | (refine (va_up_n ?_).trans ?_; rotate_left; (first | assumption | exact va_up_s | rfl | (refine (va_up_n ?_).trans ?_; rotate_left; (first | assumption | exact va_up_s | rfl | (refine (va_up_n ?_).trans ?_; rotate_left; (assumption); omega)); omega)); omega)); omega)); omega)) rfl 3 (by decide) (hts _ q143) (fun _ h => h) rfl dX1_placeOf_1 ?_
  refine lv_iload_n hx hb dX1_placeOf_4 rfl (lh_at hl rfl) ?_
  refine x_tcalli (x_runSX (As := [.int k]) hF hE hS hM hl (xk_product l hlt g A w k) q292 q293 q38 q294 ⟨by decide +kernel, by decide +kernel, by show _ = some 1; decide +kernel⟩ rfl rfl ⟨Nat.le_of_ble_eq_true rfl, Nat.le_of_ble_eq_true rfl⟩ rfl (Nat.le_of_ble_eq_true rfl) dX1_placeOf_5 ⟨Nat.le_of_ble_eq_true rfl, Nat.le_of_ble_eq_true rfl⟩) hS hQ hxt hlk (Nat.le_of_ble_eq_true rfl) (Nat.le_of_ble_eq_true rfl) (fun E9 H9 hE9 hP9 => ?_) (fun r uu H locs hq hM hS => ?_)
  · exact ⟨⟨xCode.at (by unfold opPlaceOf; rw [hE9.2]) rfl hE9.1, rfl⟩, hP9⟩
  · obtain ⟨i, hi, rfl⟩ := hq
    have hi20 := (xr_some (by decide) hi).1
    refine xr_iald hx hb hE hM (by first | assumption | exact va_up_s | rfl | (refine (va_up_n ?_).trans ?_; rotate_left; (first | assumption | exact va_up_s | rfl | (refine (va_up_n ?_).trans ?_; rotate_left; (first | assumption | exact va_up_s | rfl | (refine (va_up_n ?_).trans ?_; rotate_left; (first | assumption | exact va_up_s | rfl | (refine (va_up_n ?_).trans ?_; rotate_left; (first | assumption | exact va_up_s | rfl | (refine (va_up_n ?_).trans ?_; rotate_left; (assumption); omega)); omega)); omega)); omega)); omega)) (by omega) (by first | decide | omega) (by exact hfv i hi20) dX1_placeOf_8 ?_
    exact hQ ▸ vx_ret (x_iret hx hb hr hlk hS w ⟨by unfold opPlaceOf; rw [hi], by unfold opPlaceOf; rw [hi], by unfold opPlaceOf; rw [hi]; exact fun _ => h⟩ hM dX1_placeOf_9)
theorem xk_turnover (l : Launch) (hlt : l.stackTraces = false) (g : xg) (A : Nat → Prop) (w : xw_W) (ν : nS) (x0 : Nat) (k : Int32) (h : xI g ν x0 w) :
    vx_Met l yX1_turnover (ws_ yX1_turnover cX1_turnover 2 (some .int)) (xrm 8 9 1530) (xPw g A w [.ref x0, .int k]) (opQi g A x0 (opTurnover ν k)) (opQX g A w [eIB] (opTurnover ν k)) 9 1530 A := by
  obtain ⟨hO, ad, β, rfl, hβ, hX⟩ := id h
  have h0 := hX.obj
  obtain ⟨f, hf, hfv⟩ := hX.tu
  refine x_startX rfl (Nat.le_of_ble_eq_true rfl) ?_
  intro p e s m below meth c hx hb hr hlk hml hxt hown hts hnm hE hM hS ls hl
  have hF : xFix p m c cX1_turnover 2 s _ RX1 := ⟨hx, hb, hml, hown, hts⟩
  generalize hargs : List.toArray _ = args at hts hF ⊢
  generalize hQ : vx_MQ below _ _ _ s _ _ A = Q
  refine lv_aload_n hx hb dX1_turnover_0 rfl (lh_at hl rfl) ?_
  refine xr_get (C := RX1) (T := TX1) (N := 12) (ci := 0) (n := 0) hx hb hts in_X1 hown hE hM (by first | assumption | exact va_up_s | rfl | (refine (va_up_n ?_).trans ?_; rotate_left; (first | assumption | exact va_up_s | rfl | (refine (va_up_n ?_).trans ?_; rotate_left; (first | assumption | exact va_up_s | rfl | (refine (va_up_n ?_).trans ?_; rotate_left; (first | assumption | exact va_up_s | rfl | (refine (va_up_n ?_).trans ?_; rotate_left; (first | assumption | exact va_up_s | rfl | (refine (va_up_n ?_).trans ?_; rotate_left; (assumption); omega)); omega)); omega)); omega)); omega)) rfl 4 (by decide) (hts _ q145) (fun _ h => h) rfl dX1_turnover_1 ?_
  refine lv_iload_n hx hb dX1_turnover_4 rfl (lh_at hl rfl) ?_
  refine x_tcalli (x_runSX (As := [.int k]) hF hE hS hM hl (xk_product l hlt g A w k) q292 q293 q38 q294 ⟨by decide +kernel, by decide +kernel, by show _ = some 1; decide +kernel⟩ rfl rfl ⟨Nat.le_of_ble_eq_true rfl, Nat.le_of_ble_eq_true rfl⟩ rfl (Nat.le_of_ble_eq_true rfl) dX1_turnover_5 ⟨Nat.le_of_ble_eq_true rfl, Nat.le_of_ble_eq_true rfl⟩) hS hQ hxt hlk (Nat.le_of_ble_eq_true rfl) (Nat.le_of_ble_eq_true rfl) (fun E9 H9 hE9 hP9 => ?_) (fun r uu H locs hq hM hS => ?_)
  · exact ⟨⟨xCode.at (by unfold opTurnover; rw [hE9.2]) rfl hE9.1, rfl⟩, hP9⟩
  · obtain ⟨i, hi, rfl⟩ := hq
    have hi20 := (xr_some (by decide) hi).1
    refine xr_iald hx hb hE hM (by first | assumption | exact va_up_s | rfl | (refine (va_up_n ?_).trans ?_; rotate_left; (first | assumption | exact va_up_s | rfl | (refine (va_up_n ?_).trans ?_; rotate_left; (first | assumption | exact va_up_s | rfl | (refine (va_up_n ?_).trans ?_; rotate_left; (first | assumption | exact va_up_s | rfl | (refine (va_up_n ?_).trans ?_; rotate_left; (first | assumption | exact va_up_s | rfl | (refine (va_up_n ?_).trans ?_; rotate_left; (assumption); omega)); omega)); omega)); omega)); omega)) (by omega) (by first | decide | omega) (by exact hfv i hi20) dX1_turnover_8 ?_
    exact hQ ▸ vx_ret (x_iret hx hb hr hlk hS w ⟨by unfold opTurnover; rw [hi], by unfold opTurnover; rw [hi], by unfold opTurnover; rw [hi]; exact fun _ => h⟩ hM dX1_turnover_9)
theorem xk_stateOf (l : Launch) (hlt : l.stackTraces = false) (g : xg) (A : Nat → Prop) (w : xw_W) (ν : nS) (x0 : Nat) (k : Int32) (h : xI g ν x0 w) :
    vx_Met l yX1_stateOf (ws_ yX1_stateOf cX1_stateOf 2 (some .int)) (xrm 8 9 1530) (xPw g A w [.ref x0, .int k]) (opQi g A x0 (opStateOf ν k)) (opQX g A w [eIB] (opStateOf ν k)) 9 1530 A := by
  obtain ⟨hO, ad, β, rfl, hβ, hX⟩ := id h
  have h0 := hX.obj
  have hN := hO.N
  refine x_startX rfl (Nat.le_of_ble_eq_true rfl) ?_
  intro p e s m below meth c hx hb hr hlk hml hxt hown hts hnm hE hM hS ls hl
  have hF : xFix p m c cX1_stateOf 2 s _ RX1 := ⟨hx, hb, hml, hown, hts⟩
  generalize hargs : List.toArray _ = args at hts hF ⊢
  generalize hQ : vx_MQ below _ _ _ s _ _ A = Q
  refine lv_aload_n hx hb dX1_stateOf_0 rfl (lh_at hl rfl) ?_
  refine lv_iload_n hx hb dX1_stateOf_1 rfl (lh_at hl rfl) ?_
  refine x_tcallr (x_runVX (As := [.int k]) hF hE hS hM hl (xk_written l hlt g A w ν ad β k hO hX) (xw.recv hE hM (by first | assumption | exact va_up_s | rfl | (refine (va_up_n ?_).trans ?_; rotate_left; (first | assumption | exact va_up_s | rfl | (refine (va_up_n ?_).trans ?_; rotate_left; (first | assumption | exact va_up_s | rfl | (refine (va_up_n ?_).trans ?_; rotate_left; (first | assumption | exact va_up_s | rfl | (refine (va_up_n ?_).trans ?_; rotate_left; (first | assumption | exact va_up_s | rfl | (refine (va_up_n ?_).trans ?_; rotate_left; (assumption); omega)); omega)); omega)); omega)); omega)) rfl) q991 q993 qs8 q38 q994 ⟨rfl, by decide +kernel, by decide +kernel, by show _ = some 1; decide +kernel⟩ rfl rfl ⟨Nat.le_of_ble_eq_true rfl, Nat.le_of_ble_eq_true rfl⟩ rfl (Nat.le_of_ble_eq_true rfl) dX1_stateOf_2 ⟨Nat.le_of_ble_eq_true rfl, Nat.le_of_ble_eq_true rfl⟩) hS hQ hxt hlk (Nat.le_of_ble_eq_true rfl) (Nat.le_of_ble_eq_true rfl) (fun E9 H9 hE9 hP9 => ?_) (fun uu ra H locs hq hM hS => ?_)
  · exact ⟨⟨xCode.at (by unfold opStateOf; rw [hE9.2]) rfl hE9.1, rfl⟩, hP9⟩
  · obtain ⟨⟨o, ho, hra⟩, hM⟩ := hM
    rw [hra]
    have hoN := (xr_some (by omega) ho).1
    have ho2 := (hX.os hoN).1
    refine xr_getN (C := RX5) (T := TX5) (N := 4) (ci := 4) (n := (2000 + 2 * o)) hx hb hts in_X5 hown hE hM (by first | assumption | exact va_up_s | rfl | (refine (va_up_n ?_).trans ?_; rotate_left; (first | assumption | exact va_up_s | rfl | (refine (va_up_n ?_).trans ?_; rotate_left; (first | assumption | exact va_up_s | rfl | (refine (va_up_n ?_).trans ?_; rotate_left; (first | assumption | exact va_up_s | rfl | (refine (va_up_n ?_).trans ?_; rotate_left; (first | assumption | exact va_up_s | rfl | (refine (va_up_n ?_).trans ?_; rotate_left; (assumption); omega)); omega)); omega)); omega)); omega)) rfl 3 (by decide) q961 (fun _ h => h) rfl dX1_stateOf_5 ?_
    exact hQ ▸ vx_ret (x_iret hx hb hr hlk hS w ⟨by unfold opStateOf; rw [ho], by unfold opStateOf; rw [ho], by unfold opStateOf; rw [ho]; exact fun _ => h⟩ hM dX1_stateOf_8)
theorem xk_linesOf (l : Launch) (hlt : l.stackTraces = false) (g : xg) (A : Nat → Prop) (w : xw_W) (ν : nS) (x0 : Nat) (k : Int32) (h : xI g ν x0 w) :
    vx_Met l yX1_linesOf (ws_ yX1_linesOf cX1_linesOf 2 (some .int)) (xrm 8 9 1530) (xPw g A w [.ref x0, .int k]) (opQi g A x0 (opLinesOf ν k)) (opQX g A w [eIB] (opLinesOf ν k)) 9 1530 A := by
  obtain ⟨hO, ad, β, rfl, hβ, hX⟩ := id h
  have h0 := hX.obj
  have hN := hO.B
  refine x_startX rfl (Nat.le_of_ble_eq_true rfl) ?_
  intro p e s m below meth c hx hb hr hlk hml hxt hown hts hnm hE hM hS ls hl
  have hF : xFix p m c cX1_linesOf 2 s _ RX1 := ⟨hx, hb, hml, hown, hts⟩
  generalize hargs : List.toArray _ = args at hts hF ⊢
  generalize hQ : vx_MQ below _ _ _ s _ _ A = Q
  refine lv_aload_n hx hb dX1_linesOf_0 rfl (lh_at hl rfl) ?_
  refine lv_iload_n hx hb dX1_linesOf_1 rfl (lh_at hl rfl) ?_
  refine x_tcallr (x_runVX (As := [.int k]) hF hE hS hM hl (xk_batch l hlt g A w ν ad β k hO hX) (xw.recv hE hM (by first | assumption | exact va_up_s | rfl | (refine (va_up_n ?_).trans ?_; rotate_left; (first | assumption | exact va_up_s | rfl | (refine (va_up_n ?_).trans ?_; rotate_left; (first | assumption | exact va_up_s | rfl | (refine (va_up_n ?_).trans ?_; rotate_left; (first | assumption | exact va_up_s | rfl | (refine (va_up_n ?_).trans ?_; rotate_left; (first | assumption | exact va_up_s | rfl | (refine (va_up_n ?_).trans ?_; rotate_left; (assumption); omega)); omega)); omega)); omega)); omega)) rfl) q1185 q1187 qs17 q38 q1188 ⟨rfl, by decide +kernel, by decide +kernel, by show _ = some 1; decide +kernel⟩ rfl rfl ⟨Nat.le_of_ble_eq_true rfl, Nat.le_of_ble_eq_true rfl⟩ rfl (Nat.le_of_ble_eq_true rfl) dX1_linesOf_2 ⟨Nat.le_of_ble_eq_true rfl, Nat.le_of_ble_eq_true rfl⟩) hS hQ hxt hlk (Nat.le_of_ble_eq_true rfl) (Nat.le_of_ble_eq_true rfl) (fun E9 H9 hE9 hP9 => ?_) (fun uu ra H locs hq hM hS => ?_)
  · exact ⟨⟨xCode.at (by unfold opLinesOf; rw [hE9.2]) rfl hE9.1, rfl⟩, hP9⟩
  · obtain ⟨⟨o, ho, hra⟩, hM⟩ := hM
    rw [hra]
    have hoN := (xr_some (by omega) ho).1
    have ho2 := (hX.bs hoN).1
    refine xr_getN (C := RX6) (T := TX6) (N := 3) (ci := 5) (n := (bN β o)) hx hb hts in_X6 hown hE hM (by first | assumption | exact va_up_s | rfl | (refine (va_up_n ?_).trans ?_; rotate_left; (first | assumption | exact va_up_s | rfl | (refine (va_up_n ?_).trans ?_; rotate_left; (first | assumption | exact va_up_s | rfl | (refine (va_up_n ?_).trans ?_; rotate_left; (first | assumption | exact va_up_s | rfl | (refine (va_up_n ?_).trans ?_; rotate_left; (first | assumption | exact va_up_s | rfl | (refine (va_up_n ?_).trans ?_; rotate_left; (assumption); omega)); omega)); omega)); omega)); omega)) rfl 2 (by decide) q1127 (fun _ h => h) rfl dX1_linesOf_5 ?_
    exact hQ ▸ vx_ret (x_iret hx hb hr hlk hS w ⟨by unfold opLinesOf; rw [ho], by unfold opLinesOf; rw [ho], by unfold opLinesOf; rw [ho]; exact fun _ => h⟩ hM dX1_linesOf_8)
theorem xk_stops (l : Launch) (hlt : l.stackTraces = false) (g : xg) (A : Nat → Prop) (w : xw_W) (ν : nS) (x0 : Nat) (k : Int32) (h : xI g ν x0 w) :
    vx_Met l yX1_stops (ws_ yX1_stops cX1_stops 2 (some .int)) (xrm 8 9 1530) (xPw g A w [.ref x0, .int k]) (opQi g A x0 (opStops ν k)) (opQX g A w [eIB] (opStops ν k)) 9 1530 A := by
  obtain ⟨hO, ad, β, rfl, hβ, hX⟩ := id h
  have h0 := hX.obj
  have hN := hO.B
  refine x_startX rfl (Nat.le_of_ble_eq_true rfl) ?_
  intro p e s m below meth c hx hb hr hlk hml hxt hown hts hnm hE hM hS ls hl
  have hF : xFix p m c cX1_stops 2 s _ RX1 := ⟨hx, hb, hml, hown, hts⟩
  generalize hargs : List.toArray _ = args at hts hF ⊢
  generalize hQ : vx_MQ below _ _ _ s _ _ A = Q
  refine lv_aload_n hx hb dX1_stops_0 rfl (lh_at hl rfl) ?_
  refine lv_iload_n hx hb dX1_stops_1 rfl (lh_at hl rfl) ?_
  refine x_tcallr (x_runVX (As := [.int k]) hF hE hS hM hl (xk_batch l hlt g A w ν ad β k hO hX) (xw.recv hE hM (by first | assumption | exact va_up_s | rfl | (refine (va_up_n ?_).trans ?_; rotate_left; (first | assumption | exact va_up_s | rfl | (refine (va_up_n ?_).trans ?_; rotate_left; (first | assumption | exact va_up_s | rfl | (refine (va_up_n ?_).trans ?_; rotate_left; (first | assumption | exact va_up_s | rfl | (refine (va_up_n ?_).trans ?_; rotate_left; (first | assumption | exact va_up_s | rfl | (refine (va_up_n ?_).trans ?_; rotate_left; (assumption); omega)); omega)); omega)); omega)); omega)) rfl) q1185 q1187 qs17 q38 q1188 ⟨rfl, by decide +kernel, by decide +kernel, by show _ = some 1; decide +kernel⟩ rfl rfl ⟨Nat.le_of_ble_eq_true rfl, Nat.le_of_ble_eq_true rfl⟩ rfl (Nat.le_of_ble_eq_true rfl) dX1_stops_2 ⟨Nat.le_of_ble_eq_true rfl, Nat.le_of_ble_eq_true rfl⟩) hS hQ hxt hlk (Nat.le_of_ble_eq_true rfl) (Nat.le_of_ble_eq_true rfl) (fun E9 H9 hE9 hP9 => ?_) (fun uu ra H locs hq hM hS => ?_)
  · exact ⟨⟨xCode.at (by unfold opStops; rw [hE9.2]) rfl hE9.1, rfl⟩, hP9⟩
  · obtain ⟨⟨o, ho, hra⟩, hM⟩ := hM
    rw [hra]
    have hoN := (xr_some (by omega) ho).1
    have ho2 := (hX.bs hoN).1
    refine xr_getN (C := RX6) (T := TX6) (N := 3) (ci := 5) (n := (bN β o)) hx hb hts in_X6 hown hE hM (by first | assumption | exact va_up_s | rfl | (refine (va_up_n ?_).trans ?_; rotate_left; (first | assumption | exact va_up_s | rfl | (refine (va_up_n ?_).trans ?_; rotate_left; (first | assumption | exact va_up_s | rfl | (refine (va_up_n ?_).trans ?_; rotate_left; (first | assumption | exact va_up_s | rfl | (refine (va_up_n ?_).trans ?_; rotate_left; (first | assumption | exact va_up_s | rfl | (refine (va_up_n ?_).trans ?_; rotate_left; (assumption); omega)); omega)); omega)); omega)); omega)) rfl 1 (by decide) q1125 (fun _ h => h) rfl dX1_stops_5 ?_
    refine x_calli (x_runS (As := [.int (nI (pAll ν o))]) hF hE hS hM hl (jk_bitCount l g A (xw g A w) (pAll ν o) (hO.pset hoN).1) q1258 q1001 q60 q1002 ⟨by decide +kernel, by decide +kernel, by show _ = some 1; decide +kernel⟩ rfl rfl ⟨Nat.le_of_ble_eq_true rfl, Nat.le_of_ble_eq_true rfl⟩ rfl (Nat.le_of_ble_eq_true rfl) dX1_stops_8 ⟨Nat.le_of_ble_eq_true rfl, Nat.le_of_ble_eq_true rfl⟩) hS (fun r uu H locs hq hM hS => ?_)
    exact hQ ▸ vx_ret (x_iret hx hb hr hlk hS w ⟨by unfold opStops; rw [ho], by unfold opStops; rw [ho, hq, ← cntN_eq (ν := ν)], by unfold opStops; rw [ho]; exact fun _ => h⟩ hM dX1_stops_11)
theorem xk_orders (l : Launch) (g : xg) (A : Nat → Prop) (w : xw_W) (ν : nS) (x0 : Nat) (h : xI g ν x0 w) :
    Met l yX1_orders (ws_ yX1_orders cX1_orders 1 (some .int)) (xrm 8 0 0) (xPw g A w [.ref x0]) (zQi A (xw g A w) (fun r => r = nI (vC ν 4))) 0 0 A := by
  obtain ⟨hO, ad, β, rfl, hβ, hX⟩ := id h
  have h0 := hX.obj
  obtain ⟨mc, hL⟩ := hX.ord
  obtain ⟨d3, hd3⟩ := hL.size
  refine x_start rfl (Nat.le_of_ble_eq_true rfl) ?_
  intro p e s m below meth c hx hb hr hlk hml hown hts hnm hE hM hS ls hl
  have hF : xFix p m c cX1_orders 1 s _ RX1 := ⟨hx, hb, hml, hown, hts⟩
  generalize hargs : List.toArray _ = args at hts hF ⊢
  generalize hQ : MQ below _ _ s _ _ A = Q
  refine lv_aload_n hx hb dX1_orders_0 rfl (lh_at hl rfl) ?_
  refine xr_get (C := RX1) (T := TX1) (N := 12) (ci := 0) (n := 0) hx hb hts in_X1 hown hE hM (by first | assumption | exact va_up_s | rfl | (refine (va_up_n ?_).trans ?_; rotate_left; (first | assumption | exact va_up_s | rfl | (refine (va_up_n ?_).trans ?_; rotate_left; (first | assumption | exact va_up_s | rfl | (refine (va_up_n ?_).trans ?_; rotate_left; (first | assumption | exact va_up_s | rfl | (refine (va_up_n ?_).trans ?_; rotate_left; (first | assumption | exact va_up_s | rfl | (refine (va_up_n ?_).trans ?_; rotate_left; (assumption); omega)); omega)); omega)); omega)); omega)) rfl 5 (by decide) (hts _ q146) (fun _ h => h) rfl dX1_orders_1 ?_
  refine x_callFi (x_runF (As := []) hF hE hS hM hl (jk_size l g A w 3 4 (ad 3) 4 mc _ hL) (xw.recv hE hM (by first | assumption | exact va_up_s | rfl | (refine (va_up_n ?_).trans ?_; rotate_left; (first | assumption | exact va_up_s | rfl | (refine (va_up_n ?_).trans ?_; rotate_left; (first | assumption | exact va_up_s | rfl | (refine (va_up_n ?_).trans ?_; rotate_left; (first | assumption | exact va_up_s | rfl | (refine (va_up_n ?_).trans ?_; rotate_left; (first | assumption | exact va_up_s | rfl | (refine (va_up_n ?_).trans ?_; rotate_left; (assumption); omega)); omega)); omega)); omega)); omega)) rfl) (xw.at hE (ci := 6) rfl) (List.mem_of_getElem? (i := 0) rfl) q183 q189 q187 q41 q191 ⟨by decide +kernel, by decide +kernel, by show _ = some 0; decide +kernel⟩ rfl rfl ⟨Nat.le_of_ble_eq_true rfl, Nat.le_of_ble_eq_true rfl⟩ rfl (Nat.le_of_ble_eq_true rfl) dX1_orders_4 ⟨Nat.le_of_ble_eq_true rfl, Nat.le_of_ble_eq_true rfl⟩) hS (fun r uu H locs hq hM hS => ?_)
  exact hQ ▸ x_iret hx hb hr hlk hS () (by rw [hq, oL_len]) hM dX1_orders_9
theorem xk_batches (l : Launch) (g : xg) (A : Nat → Prop) (w : xw_W) (ν : nS) (x0 : Nat) (h : xI g ν x0 w) :
    Met l yX1_batches (ws_ yX1_batches cX1_batches 1 (some .int)) (xrm 8 0 0) (xPw g A w [.ref x0]) (zQi A (xw g A w) (fun r => r = nI (vC ν 5))) 0 0 A := by
  obtain ⟨hO, ad, β, rfl, hβ, hX⟩ := id h
  have h0 := hX.obj
  obtain ⟨mc, hL⟩ := hX.wav
  obtain ⟨d3, hd3⟩ := hL.size
  refine x_start rfl (Nat.le_of_ble_eq_true rfl) ?_
  intro p e s m below meth c hx hb hr hlk hml hown hts hnm hE hM hS ls hl
  have hF : xFix p m c cX1_batches 1 s _ RX1 := ⟨hx, hb, hml, hown, hts⟩
  generalize hargs : List.toArray _ = args at hts hF ⊢
  generalize hQ : MQ below _ _ s _ _ A = Q
  refine lv_aload_n hx hb dX1_batches_0 rfl (lh_at hl rfl) ?_
  refine xr_get (C := RX1) (T := TX1) (N := 12) (ci := 0) (n := 0) hx hb hts in_X1 hown hE hM (by first | assumption | exact va_up_s | rfl | (refine (va_up_n ?_).trans ?_; rotate_left; (first | assumption | exact va_up_s | rfl | (refine (va_up_n ?_).trans ?_; rotate_left; (first | assumption | exact va_up_s | rfl | (refine (va_up_n ?_).trans ?_; rotate_left; (first | assumption | exact va_up_s | rfl | (refine (va_up_n ?_).trans ?_; rotate_left; (first | assumption | exact va_up_s | rfl | (refine (va_up_n ?_).trans ?_; rotate_left; (assumption); omega)); omega)); omega)); omega)); omega)) rfl 6 (by decide) (hts _ q147) (fun _ h => h) rfl dX1_batches_1 ?_
  refine x_callFi (x_runF (As := []) hF hE hS hM hl (jk_size l g A w 5 6 (ad 5) 5 mc _ hL) (xw.recv hE hM (by first | assumption | exact va_up_s | rfl | (refine (va_up_n ?_).trans ?_; rotate_left; (first | assumption | exact va_up_s | rfl | (refine (va_up_n ?_).trans ?_; rotate_left; (first | assumption | exact va_up_s | rfl | (refine (va_up_n ?_).trans ?_; rotate_left; (first | assumption | exact va_up_s | rfl | (refine (va_up_n ?_).trans ?_; rotate_left; (first | assumption | exact va_up_s | rfl | (refine (va_up_n ?_).trans ?_; rotate_left; (assumption); omega)); omega)); omega)); omega)); omega)) rfl) (xw.at hE (ci := 6) rfl) (List.mem_of_getElem? (i := 0) rfl) q183 q189 q187 q41 q191 ⟨by decide +kernel, by decide +kernel, by show _ = some 0; decide +kernel⟩ rfl rfl ⟨Nat.le_of_ble_eq_true rfl, Nat.le_of_ble_eq_true rfl⟩ rfl (Nat.le_of_ble_eq_true rfl) dX1_batches_4 ⟨Nat.le_of_ble_eq_true rfl, Nat.le_of_ble_eq_true rfl⟩) hS (fun r uu H locs hq hM hS => ?_)
  exact hQ ▸ x_iret hx hb hr hlk hS () (by rw [hq, bL_len]) hM dX1_batches_9
theorem xk_walked (l : Launch) (g : xg) (A : Nat → Prop) (w : xw_W) (ν : nS) (x0 : Nat) (h : xI g ν x0 w) :
    Met l yX1_walked (ws_ yX1_walked cX1_walked 1 (some .int)) (xrm 8 0 0) (xPw g A w [.ref x0]) (zQi A (xw g A w) (fun r => r = nI (vC ν 6))) 0 0 A := by
  obtain ⟨hO, ad, β, rfl, hβ, hX⟩ := id h
  have h0 := hX.obj
  refine x_start rfl (Nat.le_of_ble_eq_true rfl) ?_
  intro p e s m below meth c hx hb hr hlk hml hown hts hnm hE hM hS ls hl
  have hF : xFix p m c cX1_walked 1 s _ RX1 := ⟨hx, hb, hml, hown, hts⟩
  generalize hargs : List.toArray _ = args at hts hF ⊢
  generalize hQ : MQ below _ _ s _ _ A = Q
  refine lv_aload_n hx hb dX1_walked_0 rfl (lh_at hl rfl) ?_
  refine xr_get (C := RX1) (T := TX1) (N := 12) (ci := 0) (n := 0) hx hb hts in_X1 hown hE hM (by first | assumption | exact va_up_s | rfl | (refine (va_up_n ?_).trans ?_; rotate_left; (first | assumption | exact va_up_s | rfl | (refine (va_up_n ?_).trans ?_; rotate_left; (first | assumption | exact va_up_s | rfl | (refine (va_up_n ?_).trans ?_; rotate_left; (first | assumption | exact va_up_s | rfl | (refine (va_up_n ?_).trans ?_; rotate_left; (first | assumption | exact va_up_s | rfl | (refine (va_up_n ?_).trans ?_; rotate_left; (assumption); omega)); omega)); omega)); omega)); omega)) rfl 10 (by decide) (hts _ q151) (fun _ h => h) rfl dX1_walked_1 ?_
  exact hQ ▸ x_iret hx hb hr hlk hS () rfl hM dX1_walked_4
set_option maxHeartbeats 4000000 in
theorem xk_share (l : Launch) (g : xg) (A : Nat → Prop) (w : xw_W) (ν : nS) (x0 : Nat) (h : xI g ν x0 w) :
    Met l yX1_share (ws_ yX1_share cX1_share 1 (some .double)) (xrm 8 0 0) (xPw g A w [.ref x0]) (xQd (S := Unit) (fun r _ => r = shD (vC ν 6) (vC ν 7)) (fun _ => xw g A w) A) 0 0 A := by
  obtain ⟨hO, ad, β, rfl, hβ, hX⟩ := id h
  have h0 := hX.obj
  have hw := hO.wk
  have ha := hO.al
  refine x_start rfl (Nat.le_of_ble_eq_true rfl) ?_
  intro p e s m below meth c hx hb hr hlk hml hown hts hnm hE hM hS ls hl
  have hF : xFix p m c cX1_share 1 s _ RX1 := ⟨hx, hb, hml, hown, hts⟩
  generalize hargs : List.toArray _ = args at hts hF ⊢
  generalize hQ : MQ below _ _ s _ _ A = Q
  refine lv_aload_n hx hb dX1_share_0 rfl (lh_at hl rfl) ?_
  refine xr_get (C := RX1) (T := TX1) (N := 12) (ci := 0) (n := 0) hx hb hts in_X1 hown hE hM (by first | assumption | exact va_up_s | rfl | (refine (va_up_n ?_).trans ?_; rotate_left; (first | assumption | exact va_up_s | rfl | (refine (va_up_n ?_).trans ?_; rotate_left; (first | assumption | exact va_up_s | rfl | (refine (va_up_n ?_).trans ?_; rotate_left; (first | assumption | exact va_up_s | rfl | (refine (va_up_n ?_).trans ?_; rotate_left; (first | assumption | exact va_up_s | rfl | (refine (va_up_n ?_).trans ?_; rotate_left; (assumption); omega)); omega)); omega)); omega)); omega)) rfl 11 (by decide) (hts _ q152) (fun _ h => h) rfl dX1_share_1 ?_
  refine n_if_ne (tgt := 11) hx hb dX1_share_4 (by decide) (by omega) (fun c1 => ?_) (fun c1 => ?_)
  · refine lv_aload_n hx hb dX1_share_11 rfl (lh_at hl rfl) ?_
    refine xr_get (C := RX1) (T := TX1) (N := 12) (ci := 0) (n := 0) hx hb hts in_X1 hown hE hM (by first | assumption | exact va_up_s | rfl | (refine (va_up_n ?_).trans ?_; rotate_left; (first | assumption | exact va_up_s | rfl | (refine (va_up_n ?_).trans ?_; rotate_left; (first | assumption | exact va_up_s | rfl | (refine (va_up_n ?_).trans ?_; rotate_left; (first | assumption | exact va_up_s | rfl | (refine (va_up_n ?_).trans ?_; rotate_left; (first | assumption | exact va_up_s | rfl | (refine (va_up_n ?_).trans ?_; rotate_left; (assumption); omega)); omega)); omega)); omega)); omega)) rfl 10 (by decide) (hts _ q151) (fun _ h => h) rfl dX1_share_12 ?_
    refine lv_i2d hx hb dX1_share_15 ?_
    refine lv_aload_n hx hb dX1_share_16 rfl (lh_at hl rfl) ?_
    refine xr_get (C := RX1) (T := TX1) (N := 12) (ci := 0) (n := 0) hx hb hts in_X1 hown hE hM (by first | assumption | exact va_up_s | rfl | (refine (va_up_n ?_).trans ?_; rotate_left; (first | assumption | exact va_up_s | rfl | (refine (va_up_n ?_).trans ?_; rotate_left; (first | assumption | exact va_up_s | rfl | (refine (va_up_n ?_).trans ?_; rotate_left; (first | assumption | exact va_up_s | rfl | (refine (va_up_n ?_).trans ?_; rotate_left; (first | assumption | exact va_up_s | rfl | (refine (va_up_n ?_).trans ?_; rotate_left; (assumption); omega)); omega)); omega)); omega)); omega)) rfl 11 (by decide) (hts _ q152) (fun _ h => h) rfl dX1_share_17 ?_
    refine lv_i2d hx hb dX1_share_20 ?_
    refine lv_ddiv hx hb dX1_share_21 (n64_of (sh_mag _ _ (by omega) c1 (by omega))) ?_
    exact hQ ▸ x_dret hx hb hr hlk hS () (by rw [shD, if_neg c1]) hM dX1_share_22
  · refine lv_dconst1 hx hb dX1_share_7 ?_
    refine lv_goto (tgt := 22) hx hb dX1_share_8 (by decide) ?_
    exact hQ ▸ x_dret hx hb hr hlk hS () (by rw [shD, if_pos c1]) hM dX1_share_22
