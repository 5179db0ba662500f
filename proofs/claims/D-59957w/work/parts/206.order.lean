/-! Aislewright: order, line -/
set_option maxRecDepth 100000
theorem oL_snoc {ad : Nat → Nat} {n a : Nat} : oL (va_up ad (2000 + 2 * n) a) (n + 1) = oL ad n ++ [a] := by
  unfold oL
  rw [List.range_succ, List.map_append, List.map_singleton, va_up_s]
  congr 1
  refine List.map_congr_left (fun o ho => ?_)
  have := List.mem_range.mp ho
  rw [va_up_n (by omega)]
theorem bN_ne {β : Nat → List Nat} {b n : Nat} (h : n < 3000) : bN β b ≠ n := by unfold bN; omega
theorem vAdd_4 {ν : nS} {d : Nat} : vC (vAdd ν d) 4 = vC ν 4 + 1 := by
  show va_up ν.1 4 (vC ν 4 + 1) 4 = _
  exact va_up_s
theorem vAdd_5 {ν : nS} {d : Nat} : vC (vAdd ν d) 5 = vC ν 5 := by
  show va_up ν.1 4 (vC ν 4 + 1) 5 = _
  exact va_up_n (by decide)
/-- one order more -/
theorem XR.addOrd {g : xg} {ν : nS} {ad : Nat → Nat} {β : Nat → List Nat} {w u : xw_W} {d a q : Nat} {mc : Int32} (h : XR g ν ad β w) (hβ : bOk ν β) (hL : xLs g u 3 4 (ad 3) mc 4 (oL ad (vC ν 4) ++ [a]))
    (h1 : u (2000 + 2 * vC ν 4) = some (a, .inr (4, [.int (nI d), .ref q, .int (nI 0), .int (nI 0)]))) (h2 : u (2001 + 2 * vC ν 4) = some (q, .inl (g.2 0, 20, .inl (fun _ => 0)))) (hk : ∀ n, n ≠ 3 → n ≠ 4 → n ≠ 2000 + 2 * vC ν 4 → n ≠ 2001 + 2 * vC ν 4 → u n = w n) (hd4 : ∀ b c fs, u 4 = some (b, .inr (c, fs)) → False)
    (hbt : ∀ o, o < vC ν 4 → vBt ν o ≤ vC ν 5) :
    XR g (vAdd ν d) (va_up (va_up ad (2000 + 2 * vC ν 4) a) (2001 + 2 * vC ν 4) q) β u := by
  have hadn : ∀ n, n ≠ 2000 + 2 * vC ν 4 → n ≠ 2001 + 2 * vC ν 4 → va_up (va_up ad (2000 + 2 * vC ν 4) a) (2001 + 2 * vC ν 4) q n = ad n := fun n n1 n2 => by rw [va_up_n n2, va_up_n n1]
  have hada : va_up (va_up ad (2000 + 2 * vC ν 4) a) (2001 + 2 * vC ν 4) q (2000 + 2 * vC ν 4) = a := by rw [va_up_n (by omega), va_up_s]
  have hadq : va_up (va_up ad (2000 + 2 * vC ν 4) a) (2001 + 2 * vC ν 4) q (2001 + 2 * vC ν 4) = q := va_up_s
  have hb3 : ∀ b, bN β b ≠ 3 ∧ bN β b ≠ 4 := fun b => ⟨bN_ne (by omega), bN_ne (by omega)⟩
  obtain ⟨d3, hd3⟩ := h.ord.choose_spec.size
  have hN40 := h.ord.choose_spec.le
  rw [oL_len] at hN40
  have kl : ∀ {nL nD a9 ci : Nat} {mc : Int32} {es : List Nat}, nL ≠ 3 → nL ≠ 4 → nL ≠ 2000 + 2 * vC ν 4 → nL ≠ 2001 + 2 * vC ν 4 → nD ≠ 3 → nD ≠ 4 → nD ≠ 2000 + 2 * vC ν 4 → nD ≠ 2001 + 2 * vC ν 4 → ci = 4 ∨ ci = 5 → xLs g w nL nD a9 mc ci es → xLs g u nL nD a9 mc ci es := by
    intro nL nD a9 ci mc es l1 l2 l3 l4 l5 l6 l7 l8 hci hx
    refine hx.keep2 (hk nL l1 l2 l3 l4) (hk nD l5 l6 l7 l8) (fun y hy k fs e => ⟨k, fs, ?_⟩)
    rw [hk k ?_ ?_ ?_ ?_]
    · exact e
    · intro z
      rw [z, hd3] at e
      cases e
      omega
    · intro z
      rw [z] at e
      exact h.dat (Or.inl rfl) _ _ _ e
    · intro z
      rw [z, h.ono (Nat.le_refl _) (by omega)] at e
      cases e
    · intro z
      rw [z, h.ono (by omega) (by omega)] at e
      cases e
  generalize hA9 : va_up (va_up ad (2000 + 2 * vC ν 4) a) (2001 + 2 * vC ν 4) q = ad' at *
  have hoL : oL ad' (vC ν 4 + 1) = oL ad (vC ν 4) ++ [a] := by
    rw [← oL_snoc (ad := ad)]
    unfold oL
    refine List.map_congr_left (fun o ho => ?_)
    rw [← hA9, va_up_n (by omega)]
  refine h.lift (fun n hn => hadn n ?_ ?_) (fun n hn => hk n (by omega) (by omega) (by omega) (by omega)) ((hk 0 (by omega) (by omega) (by omega) (by omega)).trans h.obj) ?_ ?_ ⟨mc, ?_⟩ ?_ ?_ (fun o ho => ?_) (fun b hb => ?_) (fun n hn b c fs e => ?_) (fun n h1 h2 => ?_) (fun n h1 h2 => ?_)
  · omega
  · omega
  · rw [hk 1 (by omega) (by omega) (by omega) (by omega)]
    exact h.pl
  · obtain ⟨f2, g1, g2⟩ := h.tu
    refine ⟨f2, (hk 2 (by omega) (by omega) (by omega) (by omega)).trans g1, fun z hz => (g2 z hz).trans ?_⟩
    show nI (turnN ν z (vC ν 4)) = nI (turnN (vAdd ν d) z (vC ν 4 + 1))
    have e1 : turnN (vAdd ν d) z (vC ν 4 + 1) = turnN (vAdd ν d) z (vC ν 4) := by
      conv => lhs; unfold turnN
      rw [if_neg]
      show ¬ va_up (vSt ν) (vC ν 4) 0 (vC ν 4) = 2
      rw [va_up_s]
      decide
    rw [e1, turnN_congr (ν := ν) (ν' := vAdd ν d) (vC ν 4) (fun o ho => ?_)]
    have eS : vSt (vAdd ν d) o = vSt ν o := va_up_n (f := vSt ν) (by omega)
    have eM : vMn (vAdd ν d) o = vMn ν o := va_up_n (f := vMn ν) (by omega)
    rw [eS, eM]
    exact ⟨Iff.rfl, fun _ => hasN_congr _ (fun _ _ => ⟨rfl, rfl⟩)⟩
  · have : vC (vAdd ν d) 4 = vC ν 4 + 1 := vAdd_4
    rw [this, hoL]
    exact hL
  · obtain ⟨mcw, hx⟩ := h.wav
    refine ⟨mcw, ?_⟩
    have e5 : vC (vAdd ν d) 5 = vC ν 5 := vAdd_5
    have : bL ad' β (vC (vAdd ν d) 5) = bL ad β (vC ν 5) := by
      rw [e5]
      unfold bL
      refine List.map_congr_left (fun b hb => ?_)
      have hbB := List.mem_range.mp hb
      obtain ⟨-, hne, hmem⟩ := hβ b hbB
      have hhd : (β b).headD 0 < vC ν 4 := by
        obtain ⟨y, t, hyt⟩ := List.exists_cons_of_ne_nil hne
        rw [hyt]
        exact ((hmem y).mp (by rw [hyt]; exact List.mem_cons_self)).1
      refine hadn _ ?_ ?_
      all_goals unfold bN
      all_goals have := h.ord.choose_spec.le
      all_goals rw [oL_len] at this
      all_goals omega
    rw [this]
    exact kl (by omega) (by omega) (by omega) (by omega) (by omega) (by omega) (by omega) (by omega) (Or.inr rfl) hx
  · obtain ⟨so, g1, g2⟩ := h.sav
    refine ⟨so, (hk 7 (by omega) (by omega) (by omega) (by omega)).trans g1, fun k hk9 => ?_⟩
    rw [hadn (100 + k) (by omega) (by omega), hk (100 + k) (by omega) (by omega) (by omega) (by omega)]
    exact g2 k hk9
  · have ho : o < vC ν 4 + 1 := by
      have : vC (vAdd ν d) 4 = vC ν 4 + 1 := vAdd_4
      omega
    by_cases e : o = vC ν 4
    · subst e
      rw [hada, hadq]
      have eM : vMn (vAdd ν d) (vC ν 4) = 0 := va_up_s
      refine ⟨?_, _, h2, fun z hz => ?_⟩
      · rw [h1]
        unfold oFs
        rw [hadq]
        have eD : vDue (vAdd ν d) (vC ν 4) = d := va_up_s
        have eS : vSt (vAdd ν d) (vC ν 4) = 0 := va_up_s
        have eW : wantN (vAdd ν d) (vC ν 4) = 0 := by
          unfold wantN
          rw [eM]
          rfl
        rw [eD, eS, eW]
      · rw [eM]
        rfl
    · have ho2 : o < vC ν 4 := by omega
      obtain ⟨g1, f2, g2, g3⟩ := h.os ho2
      rw [hk (2000 + 2 * o) (by omega) (by omega) (by omega) (by omega), hk (2001 + 2 * o) (by omega) (by omega) (by omega) (by omega), hadn (2000 + 2 * o) (by omega) (by omega), hadn (2001 + 2 * o) (by omega) (by omega)]
      have eD : vDue (vAdd ν d) o = vDue ν o := va_up_n (f := vDue ν) e
      have eS : vSt (vAdd ν d) o = vSt ν o := va_up_n (f := vSt ν) e
      have eM : vMn (vAdd ν d) o = vMn ν o := va_up_n (f := vMn ν) e
      refine ⟨?_, f2, g2, fun z hz => ?_⟩
      · rw [g1]
        unfold oFs
        rw [hadn (2001 + 2 * o) (by omega) (by omega), eD, eS]
        have eW : wantN (vAdd ν d) o = wantN ν o := by
          unfold wantN
          rw [eM]
          rfl
        rw [eW]
      · rw [eM, g3 z hz]
        exact congrArg nI (hasN_congr (ν := ν) (ν' := vAdd ν d) (o := o) _ (fun _ _ => ⟨rfl, rfl⟩)).symm
  · have e5 : vC (vAdd ν d) 5 = vC ν 5 := vAdd_5
    rw [e5] at hb
    obtain ⟨g1, mc2, g2⟩ := h.bs hb
    obtain ⟨-, hne, hmem⟩ := hβ b hb
    have hN40 := h.ord.choose_spec.le
    rw [oL_len] at hN40
    have h3k := bN_ge (β := β) (b := b)
    rw [hk (bN β b) (by omega) (by omega) (by omega) (by omega), hadn (bN β b) (by omega) (by omega), hadn (bN β b + 1) (by omega) (by omega)]
    have eE : bE ad' (β b) = bE ad (β b) := by
      unfold bE
      refine List.map_congr_left (fun o ho => ?_)
      have := ((hmem o).mp ho).1
      exact hadn _ (by omega) (by omega)
    refine ⟨?_, mc2, ?_⟩
    · rw [g1]
      unfold bFs
      rw [hadn (bN β b + 1) (by omega) (by omega)]
      have e4 : vC (vAdd ν d) 4 = vC ν 4 + 1 := vAdd_4
      have hz : ¬ vBt (vAdd ν d) (vC ν 4) = b + 1 := by
        show ¬ va_up (vBt ν) (vC ν 4) 0 (vC ν 4) = b + 1
        rw [va_up_s]
        omega
      have eB : ∀ o, o < vC ν 4 → vBt (vAdd ν d) o = vBt ν o := fun o ho => va_up_n (f := vBt ν) (by omega)
      have eM : ∀ o, o < vC ν 4 → vMn (vAdd ν d) o = vMn ν o := fun o ho => va_up_n (f := vMn ν) (by omega)
      have e1 : pAll (vAdd ν d) b = pAll ν b := by
        unfold pAll
        rw [e4]
        conv => lhs; unfold prodsN
        rw [if_neg hz]
        exact prodsN_congr _ (fun o ho => ⟨by rw [eB o ho], fun _ => by unfold wantN; rw [eM o ho]; rfl⟩)
      have e2 : lAll (vAdd ν d) b = lAll ν b := by
        unfold lAll
        rw [e4]
        conv => lhs; unfold linesN
        rw [if_neg hz]
        exact linesN_congr _ (fun o ho => ⟨by rw [eB o ho], fun _ => eM o ho⟩)
      rw [e1, e2]
    · rw [eE]
      exact kl (by omega) (by omega) (by omega) (by omega) (by omega) (by omega) (by omega) (by omega) (Or.inl rfl) g2
  · rcases hn with rfl | rfl
    · exact hd4 b c fs e
    · rw [hk 6 (by omega) (by omega) (by omega) (by omega)] at e
      exact h.dat (Or.inr rfl) b c fs e
  · rw [vAdd_4] at h1
    rw [hk n (by omega) (by omega) (by omega) (by omega)]
    exact h.ono (by omega) h2
  · rw [hk n (by omega) (by omega) (by omega) (by omega)]
    exact h.bno h1 (fun b hb => h2 b (by rw [vAdd_5]; exact hb))
theorem xOk.add {ν : nS} (h : xOk ν) {d : Nat} (hV : vOk (vAdd ν d)) : xOk (vAdd ν d) := by
  have e4 : vC (vAdd ν d) 4 = vC ν 4 + 1 := vAdd_4
  have eB : ∀ o, o < vC ν 4 → vBt (vAdd ν d) o = vBt ν o := fun o ho => va_up_n (f := vBt ν) (by omega)
  have eM : ∀ o, o < vC ν 4 → vMn (vAdd ν d) o = vMn ν o := fun o ho => va_up_n (f := vMn ν) (by omega)
  have eS : ∀ o, o < vC ν 4 → vSt (vAdd ν d) o = vSt ν o := fun o ho => va_up_n (f := vSt ν) (by omega)
  have zB : vBt (vAdd ν d) (vC ν 4) = 0 := va_up_s
  have zM : vMn (vAdd ν d) (vC ν 4) = 0 := va_up_s
  have zS : vSt (vAdd ν d) (vC ν 4) = 0 := va_up_s
  have eD : dnN (vAdd ν d) (vC ν 4 + 1) = dnN ν (vC ν 4) := by
    conv => lhs; unfold dnN
    rw [if_neg (by rw [zS]; decide)]
    exact dnN_congr _ (fun o ho => by rw [eS o ho])
  refine ⟨hV, fun b hb => ?_, fun o ho => ?_, ?_, ?_⟩
  · have e5 : vC (vAdd ν d) 5 = vC ν 5 := vAdd_5
    rw [e5] at hb
    have e2 : lAll (vAdd ν d) b = lAll ν b := by
      unfold lAll
      rw [e4]
      conv => lhs; unfold linesN
      rw [if_neg (by rw [zB]; omega)]
      exact linesN_congr _ (fun o ho => ⟨by rw [eB o ho], fun _ => eM o ho⟩)
    rw [e2]
    exact h.W b hb
  · rw [e4] at ho
    by_cases e : o = vC ν 4
    · subst e
      rw [zB, zM, zS]
      exact ⟨⟨fun z => absurd z (by decide), fun z => absurd rfl z⟩, fun z => absurd rfl z, fun k k' h1 => absurd h1 (Nat.not_lt_zero k)⟩
    · have ho2 : o < vC ν 4 := by omega
      rw [eB o ho2, eM o ho2, eS o ho2]
      exact h.o ho2
  · rw [e4, eD]
    exact h.2.2.2.1
  · rw [e4, eD]
    exact h.2.2.2.2
theorem bOk.add {ν : nS} {β : Nat → List Nat} (h : bOk ν β) {d : Nat} : bOk (vAdd ν d) β := by
  intro b hb
  have e4 : vC (vAdd ν d) 4 = vC ν 4 + 1 := vAdd_4
  have e5 : vC (vAdd ν d) 5 = vC ν 5 := vAdd_5
  rw [e5] at hb
  obtain ⟨h1, h2, h3⟩ := h b hb
  refine ⟨h1, h2, fun o => ?_⟩
  rw [h3 o, e4]
  by_cases e : o = vC ν 4
  · subst e
    have zB : vBt (vAdd ν d) (vC ν 4) = 0 := va_up_s
    rw [zB]
    omega
  · have eB : vBt (vAdd ν d) o = vBt ν o := va_up_n (f := vBt ν) e
    rw [eB]
    omega
theorem xk_order (l : Launch) (hlt : l.stackTraces = false) (g : xg) (A : Nat → Prop) (w : xw_W) (ν : nS) (x0 : Nat) (p0 : Int32) (h : xI g ν x0 w) :
    vx_Met l yX1_order (ws_ yX1_order cX1_order 2 (some .int)) (xrm 8 14 1920) (xPw g A w [.ref x0, .int p0]) (opQi g A x0 (opOrder ν p0)) (opQX g A w [eIA, eIS] (opOrder ν p0)) 14 1920 A := by
  obtain ⟨hO, ad, β, rfl, hβ, hX⟩ := id h
  have h0 := hX.obj
  have hN := hO.N
  obtain ⟨mc, hL⟩ := hX.ord
  obtain ⟨d3, hd3⟩ := hL.size
  refine x_startX rfl (Nat.le_of_ble_eq_true rfl) ?_
  intro p e s m below meth c hx hb hr hlk hml hxt hown hts hnm hE hM hS ls hl
  have hF : xFix p m c cX1_order 2 s _ RX1 := ⟨hx, hb, hml, hown, hts⟩
  generalize hargs : List.toArray _ = args at hts hF ⊢
  generalize hQ : vx_MQ below _ _ _ s _ _ A = Q
  refine lv_iload_n hx hb dX1_order_0 rfl (lh_at hl rfl) ?_
  refine n_const hx hb 0 dX1_order_1 (by decide +kernel) ?_
  refine n_sipush hx hb 999 dX1_order_2 (by decide +kernel) ?_
  refine x_tcallv (x_runSX (As := [.int p0, .int (nI 0), .int (nI 999)]) hF hE hS hM hl (xk_isWithin l hlt g A w p0 (nI 0) (nI 999)) q939 q940 q38 q941 ⟨by decide +kernel, by decide +kernel, by show _ = some 3; decide +kernel⟩ rfl rfl ⟨Nat.le_of_ble_eq_true rfl, Nat.le_of_ble_eq_true rfl⟩ rfl (Nat.le_of_ble_eq_true rfl) dX1_order_5 ⟨Nat.le_of_ble_eq_true rfl, Nat.le_of_ble_eq_true rfl⟩) hS hQ hxt hlk (Nat.le_of_ble_eq_true rfl) (Nat.le_of_ble_eq_true rfl) (fun E9 H9 hE9 hP9 => ?_) (fun uu H locs hq hM hS => ?_)
  · exact ⟨⟨xCode.at (j := 0) (by unfold opOrder; rw [isW0_none (n := 1000) (by decide) (by decide) hE9.2]) rfl hE9.1, rfl⟩, hP9⟩
  · obtain ⟨d, hd⟩ := (isW0 (n := 1000) (by decide) (by decide)).mp hq
    obtain ⟨hd9, rfl⟩ := xr_some (by decide) hd
    have hop : opOrder ν (nI d) = if vC ν 4 = 40 then (2, 0, ν) else (0, nI (vC ν 4), vAdd ν d) := by
      unfold opOrder
      rw [hd]
    refine lv_aload_n hx hb dX1_order_8 rfl (lh_at hl rfl) ?_
    refine xr_get (C := RX1) (T := TX1) (N := 12) (ci := 0) (n := 0) hx hb hts in_X1 hown hE hM (by first | assumption | exact va_up_s | rfl | (refine (va_up_n ?_).trans ?_; rotate_left; (first | assumption | exact va_up_s | rfl | (refine (va_up_n ?_).trans ?_; rotate_left; (first | assumption | exact va_up_s | rfl | (refine (va_up_n ?_).trans ?_; rotate_left; (first | assumption | exact va_up_s | rfl | (refine (va_up_n ?_).trans ?_; rotate_left; (first | assumption | exact va_up_s | rfl | (refine (va_up_n ?_).trans ?_; rotate_left; (assumption); omega)); omega)); omega)); omega)); omega)) rfl 5 (by decide) (hts _ q146) (fun _ h => h) rfl dX1_order_9 ?_
    refine x_callFi (x_runF (As := []) hF hE hS hM hl (jk_size l g A w 3 4 (ad 3) 4 mc _ hL) (xw.recv hE hM (by first | assumption | exact va_up_s | rfl | (refine (va_up_n ?_).trans ?_; rotate_left; (first | assumption | exact va_up_s | rfl | (refine (va_up_n ?_).trans ?_; rotate_left; (first | assumption | exact va_up_s | rfl | (refine (va_up_n ?_).trans ?_; rotate_left; (first | assumption | exact va_up_s | rfl | (refine (va_up_n ?_).trans ?_; rotate_left; (first | assumption | exact va_up_s | rfl | (refine (va_up_n ?_).trans ?_; rotate_left; (assumption); omega)); omega)); omega)); omega)); omega)) rfl) (xw.at hE (ci := 6) rfl) (List.mem_of_getElem? (i := 0) rfl) q183 q189 q187 q41 q191 ⟨by decide +kernel, by decide +kernel, by show _ = some 0; decide +kernel⟩ rfl rfl ⟨Nat.le_of_ble_eq_true rfl, Nat.le_of_ble_eq_true rfl⟩ rfl (Nat.le_of_ble_eq_true rfl) dX1_order_12 ⟨Nat.le_of_ble_eq_true rfl, Nat.le_of_ble_eq_true rfl⟩) hS (fun r uu H locs hq2 hM hS => ?_)
    rw [hq2, oL_len]
    refine n_bipush hx hb 40 dX1_order_17 (by decide +kernel) ?_
    refine n_icmp_ge (tgt := 26) hx hb dX1_order_19 (by decide) (by omega) (by omega) (fun c1 => ?_) (fun c1 => ?_)
    · rw [if_pos (by omega)] at hop
      refine n_const hx hb 0 dX1_order_26 (by decide +kernel) ?_
      refine xr_ldc hx hb hown hE (i := 10) (k := 175) rfl dX1_order_27 ?_
      refine x_tcallv (x_runSX (As := [.int (nI 0), .ref (g.2 (100 + 175))]) hF hE hS hM hl (xk_must l hlt g A w (nI 0) (g.2 (100 + 175))) q573 q574 q38 q575 ⟨by decide +kernel, by decide +kernel, by show _ = some 2; decide +kernel⟩ rfl rfl ⟨Nat.le_of_ble_eq_true rfl, Nat.le_of_ble_eq_true rfl⟩ rfl (Nat.le_of_ble_eq_true rfl) dX1_order_29 ⟨Nat.le_of_ble_eq_true rfl, Nat.le_of_ble_eq_true rfl⟩) hS hQ hxt hlk (Nat.le_of_ble_eq_true rfl) (Nat.le_of_ble_eq_true rfl) (fun E9 H9 hE9 hP9 => ?_) (fun uu H locs hq hM hS => ?_)
      · exact ⟨⟨xCode.at (j := 1) (by rw [hop]) rfl hE9.1, rfl⟩, hP9⟩
      · exact absurd rfl hq
    · rw [if_neg (by omega)] at hop
      refine n_const hx hb 1 dX1_order_22 (by decide +kernel) ?_
      refine lv_goto (tgt := 27) hx hb dX1_order_23 (by decide) ?_
      refine xr_ldc hx hb hown hE (i := 10) (k := 175) rfl dX1_order_27 ?_
      refine x_tcallv (x_runSX (As := [.int (nI 1), .ref (g.2 (100 + 175))]) hF hE hS hM hl (xk_must l hlt g A w (nI 1) (g.2 (100 + 175))) q573 q574 q38 q575 ⟨by decide +kernel, by decide +kernel, by show _ = some 2; decide +kernel⟩ rfl rfl ⟨Nat.le_of_ble_eq_true rfl, Nat.le_of_ble_eq_true rfl⟩ rfl (Nat.le_of_ble_eq_true rfl) dX1_order_29 ⟨Nat.le_of_ble_eq_true rfl, Nat.le_of_ble_eq_true rfl⟩) hS hQ hxt hlk (Nat.le_of_ble_eq_true rfl) (Nat.le_of_ble_eq_true rfl) (fun E9 H9 hE9 hP9 => ?_) (fun uu H locs hq hM hS => ?_)
      · exact absurd hE9.2 (by decide)
      · have f1 : w (2000 + 2 * vC ν 4) = none := hX.ono (Nat.le_refl _) (by omega)
        have f2 : w (2001 + 2 * vC ν 4) = none := hX.ono (by omega) (by omega)
        refine lv_aload_n hx hb dX1_order_32 rfl (lh_at hl rfl) ?_
        refine xr_get (C := RX1) (T := TX1) (N := 12) (ci := 0) (n := 0) hx hb hts in_X1 hown hE hM (by first | assumption | exact va_up_s | rfl | (refine (va_up_n ?_).trans ?_; rotate_left; (first | assumption | exact va_up_s | rfl | (refine (va_up_n ?_).trans ?_; rotate_left; (first | assumption | exact va_up_s | rfl | (refine (va_up_n ?_).trans ?_; rotate_left; (first | assumption | exact va_up_s | rfl | (refine (va_up_n ?_).trans ?_; rotate_left; (first | assumption | exact va_up_s | rfl | (refine (va_up_n ?_).trans ?_; rotate_left; (assumption); omega)); omega)); omega)); omega)); omega)) rfl 5 (by decide) (hts _ q146) (fun _ h => h) rfl dX1_order_33 ?_
        refine xr_new hx hb hts in_X5 tyX5 tyX5_ok hown (hts _ q947) (hts _ q948) (hts _ q68) hE hM hS (2000 + 2 * vC ν 4) (ci := 4) (fs := [.int 0, .null, .int 0, .int 0]) rfl (by decide) (Nat.le_of_ble_eq_true rfl) (Nat.le_of_ble_eq_true rfl) dX1_order_36 (fun a H ha hM hS => ?_)
        refine lv_dup hx hb dX1_order_39 rfl ?_
        refine lv_iload_n hx hb dX1_order_40 rfl (lh_at hl rfl) ?_
        refine x_callv (x_runI (As := [.int (nI d)]) hF hE hS hM hl (xk_ordInit l g A _ (2000 + 2 * vC ν 4) (2001 + 2 * vC ν 4) a (nI d) (by omega) va_up_s) q949 q950 q68 q951 rfl ⟨by decide +kernel, by decide +kernel, by show _ = some 1; decide +kernel⟩ rfl rfl ⟨Nat.le_of_ble_eq_true rfl, Nat.le_of_ble_eq_true rfl⟩ rfl (Nat.le_of_ble_eq_true rfl) dX1_order_41 ⟨Nat.le_of_ble_eq_true rfl, Nat.le_of_ble_eq_true rfl⟩) hS (fun u1 H locs hq3 hM hS => ?_)
        obtain ⟨q, g1, g2, g3⟩ := hq3
        have g4 : ∀ n, n ≠ 2000 + 2 * vC ν 4 → n ≠ 2001 + 2 * vC ν 4 → u1 n = w n := fun n n1 n2 => (g3 n n1 n2).trans (va_up_n n1)
        have hd31 : u1 3 = some (ad 3, .inr (6, [.int mc, .ref d3, .int (nI (oL ad (vC ν 4)).length)])) := (g4 3 (by omega) (by omega)).trans hd3
        have hL1 : xLs g u1 3 4 (ad 3) mc 4 (oL ad (vC ν 4)) := hL.keep2 (g4 3 (by omega) (by omega)) (g4 4 (by omega) (by omega)) (fun y hy k fs e => ⟨k, fs, (g4 k (fun z => by rw [z, f1] at e; cases e) (fun z => by rw [z, f2] at e; cases e)).trans e⟩)
        refine x_callFi (x_runF (As := [.ref a]) hF hE hS hM hl (jk_add2 l g A u1 3 4 11 (ad 3) 4 a mc _ hL1 (by rw [oL_len]; omega) ⟨_, _, g1⟩ (by decide) (by decide) ((g4 11 (by omega) (by omega)).trans (hX.tmp (by decide) (by decide))) xOb4 (by decide) (fun b fs e => hX.dat (Or.inl rfl) b 4 fs (by rw [← g4 4 (by omega) (by omega)]; exact e))) (xw.recv hE hM (by first | assumption | exact va_up_s | rfl | (refine (va_up_n ?_).trans ?_; rotate_left; (first | assumption | exact va_up_s | rfl | (refine (va_up_n ?_).trans ?_; rotate_left; (first | assumption | exact va_up_s | rfl | (refine (va_up_n ?_).trans ?_; rotate_left; (first | assumption | exact va_up_s | rfl | (refine (va_up_n ?_).trans ?_; rotate_left; (first | assumption | exact va_up_s | rfl | (refine (va_up_n ?_).trans ?_; rotate_left; (assumption); omega)); omega)); omega)); omega)); omega)) rfl) (xw.at hE (ci := 6) rfl) (List.mem_of_getElem? (i := 4) rfl) q972 q977 q975 q41 q979 ⟨by decide +kernel, by decide +kernel, by show _ = some 1; decide +kernel⟩ rfl rfl ⟨Nat.le_of_ble_eq_true rfl, Nat.le_of_ble_eq_true rfl⟩ rfl (Nat.le_of_ble_eq_true rfl) dX1_order_44 ⟨Nat.le_of_ble_eq_true rfl, Nat.le_of_ble_eq_true rfl⟩) hS (fun r u2 H locs hq4 hM hS => ?_)
        obtain ⟨-, hL2, hag⟩ := hq4
        refine lv_pop hx hb dX1_order_49 rfl ?_
        have h02 : u2 0 = some (ad 0, .inr (0, fX ad ν (nI (vC ν 6)) (nI (vC ν 7)))) := (hag 0 (by decide) (by decide)).trans ((g4 0 (by omega) (by omega)).trans h0)
        refine lv_aload_n hx hb dX1_order_50 rfl (lh_at hl rfl) ?_
        refine xr_get (C := RX1) (T := TX1) (N := 12) (ci := 0) (n := 0) hx hb hts in_X1 hown hE hM (by first | assumption | exact va_up_s | rfl | (refine (va_up_n ?_).trans ?_; rotate_left; (first | assumption | exact va_up_s | rfl | (refine (va_up_n ?_).trans ?_; rotate_left; (first | assumption | exact va_up_s | rfl | (refine (va_up_n ?_).trans ?_; rotate_left; (first | assumption | exact va_up_s | rfl | (refine (va_up_n ?_).trans ?_; rotate_left; (first | assumption | exact va_up_s | rfl | (refine (va_up_n ?_).trans ?_; rotate_left; (assumption); omega)); omega)); omega)); omega)); omega)) rfl 5 (by decide) (hts _ q146) (fun _ h => h) rfl dX1_order_51 ?_
        obtain ⟨d9, hd9b⟩ := hL2.size
        refine x_callFi (x_runF (As := []) hF hE hS hM hl (jk_size l g A u2 3 4 (ad 3) 4 (mc + 1) _ hL2) (xw.recv hE hM (by first | assumption | exact va_up_s | rfl | (refine (va_up_n ?_).trans ?_; rotate_left; (first | assumption | exact va_up_s | rfl | (refine (va_up_n ?_).trans ?_; rotate_left; (first | assumption | exact va_up_s | rfl | (refine (va_up_n ?_).trans ?_; rotate_left; (first | assumption | exact va_up_s | rfl | (refine (va_up_n ?_).trans ?_; rotate_left; (first | assumption | exact va_up_s | rfl | (refine (va_up_n ?_).trans ?_; rotate_left; (assumption); omega)); omega)); omega)); omega)); omega)) rfl) (xw.at hE (ci := 6) rfl) (List.mem_of_getElem? (i := 0) rfl) q183 q189 q187 q41 q191 ⟨by decide +kernel, by decide +kernel, by show _ = some 0; decide +kernel⟩ rfl rfl ⟨Nat.le_of_ble_eq_true rfl, Nat.le_of_ble_eq_true rfl⟩ rfl (Nat.le_of_ble_eq_true rfl) dX1_order_54 ⟨Nat.le_of_ble_eq_true rfl, Nat.le_of_ble_eq_true rfl⟩) hS (fun r uu H locs hq5 hM hS => ?_)
        rw [hq5, List.length_append, oL_len, List.length_singleton]
        refine n_const hx hb 1 dX1_order_59 (by decide +kernel) ?_
        refine n_isub hx hb (by omega) dX1_order_60 ?_
        have hdat : ∀ b c fs, u2 4 = some (b, .inr (c, fs)) → False := by
          intro b c fs e
          obtain ⟨d8, k1, k2, k3, k4⟩ := hL2
          rcases k4 with ⟨k5, -⟩ | ⟨cap, f, k5, -⟩
          · simp at k5
          · rw [k5] at e
            cases e
        have hXn := hX.addOrd (d := d) hβ hL2 ((hag _ (by omega) (by omega)).trans g1) ((hag _ (by omega) (by omega)).trans g2) (fun n n1 n2 n3 n4 => (hag n n1 n2).trans (g4 n n3 n4)) hdat (fun o ho => (hO.V.2.2.2.2.2.2.2 o ho).2.2.1)
        exact hQ ▸ vx_ret (x_iret hx hb hr hlk hS u2 ⟨by rw [hop], by rw [hop]; rfl, by rw [hop]; exact fun hV => ⟨hO.add hV, _, β, by rw [va_up_n (by omega), va_up_n (by omega)], hβ.add, hXn⟩⟩ hM dX1_order_61)
