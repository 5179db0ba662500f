/-! Aislewright: put, setCapacity -/
set_option maxRecDepth 100000
theorem XR.setPl {g : xg} {ν : nS} {ad : Nat → Nat} {β : Nat → List Nat} {w : xw_W} (h : XR g ν ad β w) {F : Nat → Nat} {f' : Nat → Int32} (hf : ∀ q, q < 20 → f' q = eP (F q)) : XR g (vSetPl ν F) ad β (va_up w 1 (some (ad 1, .inl (g.2 0, 20, .inl f')))) := by
  obtain ⟨f1, hf1, -⟩ := h.pl
  have s : ∀ n, n ≠ 1 → va_up w 1 (some (ad 1, .inl (g.2 0, 20, .inl f'))) n = w n := fun n hn => va_up_n hn
  have kl : ∀ {nL nD a ci : Nat} {mc : Int32} {es : List Nat}, nL ≠ 1 → nD ≠ 1 → xLs g w nL nD a mc ci es → xLs g (va_up w 1 (some (ad 1, .inl (g.2 0, 20, .inl f')))) nL nD a mc ci es := fun h1 h2 hx => hx.up h1 h2 (fun y fs e => by rw [hf1] at e; cases e)
  refine h.lift (fun _ _ => rfl) (fun n hn => s n (by omega)) ((s 0 (by omega)).trans h.obj) ⟨f', va_up_s, hf⟩ ?_ ?_ ?_ ?_ (fun o ho => ?_) (fun b hb => ?_) (fun n hn b c fs e => h.dat hn b c fs (by rw [s n (by omega)] at e; exact e)) (fun n h1 h2 => (s n (by omega)).trans (h.ono h1 h2)) (fun n h1 h2 => (s n (by omega)).trans (h.bno h1 h2))
  · obtain ⟨f2, h1, h2⟩ := h.tu
    refine ⟨f2, (s 2 (by omega)).trans h1, fun q hq => (h2 q hq).trans ?_⟩
    show nI (turnN ν q (vC ν 4)) = nI (turnN (vSetPl ν F) q (vC ν 4))
    rw [turnN_congr (ν := ν) (ν' := vSetPl ν F) _ (fun o _ => ⟨Iff.rfl, fun _ => hasN_congr _ (fun _ _ => ⟨rfl, rfl⟩)⟩)]
  · obtain ⟨mc, hx⟩ := h.ord
    exact ⟨mc, kl (by omega) (by omega) hx⟩
  · obtain ⟨mc, hx⟩ := h.wav
    exact ⟨mc, kl (by omega) (by omega) hx⟩
  · obtain ⟨so, h1, h2⟩ := h.sav
    refine ⟨so, (s 7 (by omega)).trans h1, fun k hk => ⟨(h2 k hk).1, ?_⟩⟩
    rw [s (100 + k) (by omega)]
    exact (h2 k hk).2
  · obtain ⟨h1, f2, h2, h3⟩ := h.os (o := o) ho
    rw [s (2000 + 2 * o) (by omega), s (2001 + 2 * o) (by omega)]
    refine ⟨h1, f2, h2, fun q hq => (h3 q hq).trans ?_⟩
    show nI (hasN ν o q (vMn ν o)) = nI (hasN (vSetPl ν F) o q (vMn ν o))
    rw [hasN_congr (ν := ν) (ν' := vSetPl ν F) (o := o) _ (fun _ _ => ⟨rfl, rfl⟩)]
  · obtain ⟨h1, mc, h2⟩ := h.bs (b := b) hb
    have h3 := bN_ge (β := β) (b := b)
    rw [s (bN β b) (by omega)]
    refine ⟨?_, mc, kl (by omega) (by omega) h2⟩
    rw [h1]
    unfold bFs
    have e1 : pAll (vSetPl ν F) b = pAll ν b := prodsN_congr _ (fun _ _ => ⟨Iff.rfl, fun _ => rfl⟩)
    have e2 : lAll (vSetPl ν F) b = lAll ν b := linesN_congr _ (fun _ _ => ⟨Iff.rfl, fun _ => rfl⟩)
    rw [e1, e2]
theorem xOk.pl {ν : nS} (h : xOk ν) {F : Nat → Nat} (hV : vOk (vSetPl ν F)) : xOk (vSetPl ν F) := by
  refine ⟨hV, fun b hb => ?_, fun o ho => h.o (o := o) ho, ?_, ?_⟩
  · have e2 : lAll (vSetPl ν F) b = lAll ν b := linesN_congr _ (fun _ _ => ⟨Iff.rfl, fun _ => rfl⟩)
    rw [e2]
    exact h.W b hb
  · show vC ν 6 ≤ 50000 * dnN (vSetPl ν F) (vC ν 4)
    rw [dnN_congr (ν := ν) (ν' := vSetPl ν F) _ (fun _ _ => Iff.rfl)]
    exact h.2.2.2.1
  · show vC ν 7 ≤ 50000 * dnN (vSetPl ν F) (vC ν 4)
    rw [dnN_congr (ν := ν) (ν' := vSetPl ν F) _ (fun _ _ => Iff.rfl)]
    exact h.2.2.2.2
theorem takenN_s {ν : nS} {i to o : Nat} : takenN ν i to (o + 1) = true ↔ (takenN ν i to o = true ∨ (o ≠ i ∧ vPl ν o = to)) := by
  show (takenN ν i to o || (decide (o ≠ i) && decide (vPl ν o = to))) = true ↔ _
  simp only [Bool.or_eq_true, Bool.and_eq_true, decide_eq_true_eq]
theorem xk_put (l : Launch) (hlt : l.stackTraces = false) (g : xg) (A : Nat → Prop) (w : xw_W) (ν : nS) (x0 : Nat) (p0 a q : Int32) (h : xI g ν x0 w) :
    vx_Met l yX1_put (ws_ yX1_put cX1_put 7 (some .int)) (xrm 8 28 4596) (xPw g A w [.ref x0, .int p0, .int a, .int q]) (opQi g A x0 (opPut ν p0 a q)) (opQX g A w [eIB, eIS] (opPut ν p0 a q)) 28 4596 A := by
  obtain ⟨hO, ad, β, rfl, hβ, hX⟩ := id h
  have h0 := hX.obj
  have hA6 := hO.V.1.2
  have hP20 := hO.V.2.1.2
  have hB40 := hO.B
  obtain ⟨f, hf, hfv⟩ := hX.pl
  obtain ⟨mc, hL⟩ := hX.wav
  obtain ⟨d5, hd5⟩ := hL.size
  refine x_startX rfl (Nat.le_of_ble_eq_true rfl) ?_
  intro p e s m below meth c hx hb hr hlk hml hxt hown hts hnm hE hM hS ls hl
  have hF : xFix p m c cX1_put 7 s _ RX1 := ⟨hx, hb, hml, hown, hts⟩
  generalize hargs : List.toArray _ = args at hts hF ⊢
  generalize hQ : vx_MQ below _ _ _ s _ _ A = Q
  refine lv_iload_n hx hb dX1_put_0 rfl (lh_at hl rfl) ?_
  refine x_tcalli (x_runSX (As := [.int p0]) hF hE hS hM hl (xk_product l hlt g A w p0) q292 q293 q38 q294 ⟨by decide +kernel, by decide +kernel, by show _ = some 1; decide +kernel⟩ rfl rfl ⟨Nat.le_of_ble_eq_true rfl, Nat.le_of_ble_eq_true rfl⟩ rfl (Nat.le_of_ble_eq_true rfl) dX1_put_1 ⟨Nat.le_of_ble_eq_true rfl, Nat.le_of_ble_eq_true rfl⟩) hS hQ hxt hlk (Nat.le_of_ble_eq_true rfl) (Nat.le_of_ble_eq_true rfl) (fun E9 H9 hE9 hP9 => ?_) (fun r uu H locs hq hM hS => ?_)
  · exact ⟨⟨xCode.at (j := 0) (by unfold opPut; rw [hE9.2]) rfl hE9.1, rfl⟩, hP9⟩
  · obtain ⟨i, hi, rfl⟩ := hq
    obtain ⟨hi20, rfl⟩ := xr_some (by decide) hi
    refine lv_pop hx hb dX1_put_4 rfl ?_
    refine n_bipush hx hb 100 dX1_put_5 (by decide +kernel) ?_
    refine lv_iload_n hx hb dX1_put_7 rfl (lh_at hl rfl) ?_
    refine lv_aload_n hx hb dX1_put_8 rfl (lh_at hl rfl) ?_
    refine xr_get (C := RX1) (T := TX1) (N := 12) (ci := 0) (n := 0) hx hb hts in_X1 hown hE hM (by first | assumption | exact va_up_s | rfl | (refine (va_up_n ?_).trans ?_; rotate_left; (first | assumption | exact va_up_s | rfl | (refine (va_up_n ?_).trans ?_; rotate_left; (first | assumption | exact va_up_s | rfl | (refine (va_up_n ?_).trans ?_; rotate_left; (first | assumption | exact va_up_s | rfl | (refine (va_up_n ?_).trans ?_; rotate_left; (first | assumption | exact va_up_s | rfl | (refine (va_up_n ?_).trans ?_; rotate_left; (assumption); omega)); omega)); omega)); omega)); omega)) rfl 0 (by decide) (hts _ q138) (fun _ h => h) rfl dX1_put_9 ?_
    refine xr_ldc hx hb hown hE (i := 3) (k := 135) rfl dX1_put_12 ?_
    refine x_tcalli (x_runSX (As := [.int a, .int (nI (vC ν 0)), .ref (g.2 (100 + 135))]) hF hE hS hM hl (xk_within l hlt g A w a (vC ν 0) (135, "aisle") (List.mem_of_getElem? (i := 3) rfl) (by omega)) q296 q297 q38 q298 ⟨by decide +kernel, by decide +kernel, by show _ = some 3; decide +kernel⟩ rfl rfl ⟨Nat.le_of_ble_eq_true rfl, Nat.le_of_ble_eq_true rfl⟩ rfl (Nat.le_of_ble_eq_true rfl) dX1_put_14 ⟨Nat.le_of_ble_eq_true rfl, Nat.le_of_ble_eq_true rfl⟩) hS hQ hxt hlk (Nat.le_of_ble_eq_true rfl) (Nat.le_of_ble_eq_true rfl) (fun E9 H9 hE9 hP9 => ?_) (fun r uu H locs hq hM hS => ?_)
    · exact ⟨⟨xCode.at (j := 0) (by unfold opPut; rw [hi]; simp only [hE9.2]) rfl hE9.1, rfl⟩, hP9⟩
    · obtain ⟨j, hj, rfl⟩ := hq
      obtain ⟨hjA, rfl⟩ := xr_some (by omega) hj
      refine n_imul hx hb dX1_put_17 ?_
      refine n_const hx hb 1 dX1_put_18 (by decide +kernel) ?_
      refine n_iadd hx hb dX1_put_19 ?_
      refine lv_iload_n hx hb dX1_put_20 rfl (lh_at hl rfl) ?_
      refine n_const hx hb 1 dX1_put_21 (by decide +kernel) ?_
      refine lv_isub hx hb dX1_put_22 ?_
      refine lv_aload_n hx hb dX1_put_23 rfl (lh_at hl rfl) ?_
      refine xr_get (C := RX1) (T := TX1) (N := 12) (ci := 0) (n := 0) hx hb hts in_X1 hown hE hM (by first | assumption | exact va_up_s | rfl | (refine (va_up_n ?_).trans ?_; rotate_left; (first | assumption | exact va_up_s | rfl | (refine (va_up_n ?_).trans ?_; rotate_left; (first | assumption | exact va_up_s | rfl | (refine (va_up_n ?_).trans ?_; rotate_left; (first | assumption | exact va_up_s | rfl | (refine (va_up_n ?_).trans ?_; rotate_left; (first | assumption | exact va_up_s | rfl | (refine (va_up_n ?_).trans ?_; rotate_left; (assumption); omega)); omega)); omega)); omega)); omega)) rfl 1 (by decide) (hts _ q139) (fun _ h => h) rfl dX1_put_24 ?_
      refine xr_ldc hx hb hown hE (i := 4) (k := 137) rfl dX1_put_27 ?_
      refine x_tcalli (x_runSX (As := [.int (q - nI 1), .int (nI (vC ν 1)), .ref (g.2 (100 + 137))]) hF hE hS hM hl (xk_within l hlt g A w (q - nI 1) (vC ν 1) (137, "position") (List.mem_of_getElem? (i := 4) rfl) (by omega)) q296 q297 q38 q298 ⟨by decide +kernel, by decide +kernel, by show _ = some 3; decide +kernel⟩ rfl rfl ⟨Nat.le_of_ble_eq_true rfl, Nat.le_of_ble_eq_true rfl⟩ rfl (Nat.le_of_ble_eq_true rfl) dX1_put_29 ⟨Nat.le_of_ble_eq_true rfl, Nat.le_of_ble_eq_true rfl⟩) hS hQ hxt hlk (Nat.le_of_ble_eq_true rfl) (Nat.le_of_ble_eq_true rfl) (fun E9 H9 hE9 hP9 => ?_) (fun r uu H locs hq hM hS => ?_)
      · have hn9 : xr (q - 1) (vC ν 1) = none := hE9.2
        exact ⟨⟨xCode.at (j := 0) (by unfold opPut; rw [hi]; simp only [hj, hn9]) rfl hE9.1, rfl⟩, hP9⟩
      · obtain ⟨k, hk, rfl⟩ := hq
        have hk : xr (q - 1) (vC ν 1) = some k := hk
        have hkP := (xr_some (by omega) hk).1
        have hop : opPut ν (nI i) (nI j) q = if takenN ν i (100 * j + (k + 1)) 20 = true ∨ 0 < vC ν 5 then (2, 0, ν) else (0, eP (vPl ν i), vSetP ν i (100 * j + (k + 1))) := by
          unfold opPut
          rw [hi]
          simp only [hj, hk]
        refine n_iadd hx hb dX1_put_32 ?_
        rw [show 100 * j + 1 + k = 100 * j + (k + 1) by omega]
        generalize hto : 100 * j + (k + 1) = to at hop
        have hto6 : to < 700 ∧ to ≠ 0 := by omega
        refine x_istore hx hb dX1_put_33 hl (by decide) (fun ls hl => ?_)
        refine lv_aload_n hx hb dX1_put_35 rfl (lh_at hl rfl) ?_
        refine xr_get (C := RX1) (T := TX1) (N := 12) (ci := 0) (n := 0) hx hb hts in_X1 hown hE hM (by first | assumption | exact va_up_s | rfl | (refine (va_up_n ?_).trans ?_; rotate_left; (first | assumption | exact va_up_s | rfl | (refine (va_up_n ?_).trans ?_; rotate_left; (first | assumption | exact va_up_s | rfl | (refine (va_up_n ?_).trans ?_; rotate_left; (first | assumption | exact va_up_s | rfl | (refine (va_up_n ?_).trans ?_; rotate_left; (first | assumption | exact va_up_s | rfl | (refine (va_up_n ?_).trans ?_; rotate_left; (assumption); omega)); omega)); omega)); omega)); omega)) rfl 6 (by decide) (hts _ q147) (fun _ h => h) rfl dX1_put_36 ?_
        refine x_callFi (x_runF (As := []) hF hE hS hM hl (jk_isEmpty l g A w 5 6 (ad 5) 5 mc _ hL) (xw.recv hE hM (by first | assumption | exact va_up_s | rfl | (refine (va_up_n ?_).trans ?_; rotate_left; (first | assumption | exact va_up_s | rfl | (refine (va_up_n ?_).trans ?_; rotate_left; (first | assumption | exact va_up_s | rfl | (refine (va_up_n ?_).trans ?_; rotate_left; (first | assumption | exact va_up_s | rfl | (refine (va_up_n ?_).trans ?_; rotate_left; (first | assumption | exact va_up_s | rfl | (refine (va_up_n ?_).trans ?_; rotate_left; (assumption); omega)); omega)); omega)); omega)); omega)) rfl) (xw.at hE (ci := 6) rfl) (List.mem_of_getElem? (i := 1) rfl) q564 q569 q567 q41 q571 ⟨by decide +kernel, by decide +kernel, by show _ = some 0; decide +kernel⟩ rfl rfl ⟨Nat.le_of_ble_eq_true rfl, Nat.le_of_ble_eq_true rfl⟩ rfl (Nat.le_of_ble_eq_true rfl) dX1_put_39 ⟨Nat.le_of_ble_eq_true rfl, Nat.le_of_ble_eq_true rfl⟩) hS (fun r uu H locs hq hM hS => ?_)
        rw [bL_len] at hq
        have hq9 : r = nI (if 0 < vC ν 5 ∨ takenN ν i to 0 = true then 0 else 1) := by
          rw [hq]
          by_cases z : vC ν 5 = 0
          · rw [if_pos z, if_neg (fun y => y.elim (fun y => by omega) (fun y => by cases y))]
            rfl
          · rw [if_neg z, if_pos (Or.inl (by omega))]
            rfl
        rw [hq9]
        refine x_istore hx hb dX1_put_44 hl (by decide) (fun ls hl => ?_)
        refine n_const hx hb 0 dX1_put_46 (by decide +kernel) ?_
        refine x_istore hx hb dX1_put_47 hl (by decide) (fun ls hl => ?_)
        have fin : ∀ (H : Heap) (locs : List Loc) (ls : Array Slot), xw g A w H → va_S A s.heap H locs → lh ls 7 (xl [(0, .ref (ad 0)), (1, .int (nI i)), (4, .int (nI to)), (5, .int (nI (if 0 < vC ν 5 ∨ takenN ν i to 20 = true then 0 else 1)))]) → W p l e (xrm 8 28 4596) s m args below meth c H locs 27 4590 Q (F0 m 92 ls []) := by
          intro H locs ls hM hS hl
          refine lv_iload hx hb dX1_put_92 (lh_at hl rfl) ?_
          refine xr_ldc hx hb hown hE (i := 5) (k := 143) rfl dX1_put_94 ?_
          by_cases hbk : 0 < vC ν 5 ∨ takenN ν i to 20 = true
          · rw [if_pos hbk]
            refine x_tcallv (x_runSX (As := [.int (nI 0), .ref (g.2 (100 + 143))]) hF hE hS hM hl (xk_must l hlt g A w (nI 0) (g.2 (100 + 143))) q573 q574 q38 q575 ⟨by decide +kernel, by decide +kernel, by show _ = some 2; decide +kernel⟩ rfl rfl ⟨Nat.le_of_ble_eq_true rfl, Nat.le_of_ble_eq_true rfl⟩ rfl (Nat.le_of_ble_eq_true rfl) dX1_put_96 ⟨Nat.le_of_ble_eq_true rfl, Nat.le_of_ble_eq_true rfl⟩) hS hQ hxt hlk (Nat.le_of_ble_eq_true rfl) (Nat.le_of_ble_eq_true rfl) (fun E9 H9 hE9 hP9 => ?_) (fun uu H locs hq hM hS => ?_)
            · exact ⟨⟨xCode.at (j := 1) (by rw [hop, if_pos hbk.symm]) rfl hE9.1, rfl⟩, hP9⟩
            · exact absurd rfl hq
          · rw [if_neg hbk]
            refine x_tcallv (x_runSX (As := [.int (nI 1), .ref (g.2 (100 + 143))]) hF hE hS hM hl (xk_must l hlt g A w (nI 1) (g.2 (100 + 143))) q573 q574 q38 q575 ⟨by decide +kernel, by decide +kernel, by show _ = some 2; decide +kernel⟩ rfl rfl ⟨Nat.le_of_ble_eq_true rfl, Nat.le_of_ble_eq_true rfl⟩ rfl (Nat.le_of_ble_eq_true rfl) dX1_put_96 ⟨Nat.le_of_ble_eq_true rfl, Nat.le_of_ble_eq_true rfl⟩) hS hQ hxt hlk (Nat.le_of_ble_eq_true rfl) (Nat.le_of_ble_eq_true rfl) (fun E9 H9 hE9 hP9 => ?_) (fun uu H locs hq hM hS => ?_)
            · exact absurd hE9.2 (by decide)
            · have hb2 : ¬ (takenN ν i to 20 = true ∨ 0 < vC ν 5) := fun z => hbk z.symm
              rw [if_neg hb2] at hop
              refine lv_aload_n hx hb dX1_put_99 rfl (lh_at hl rfl) ?_
              refine xr_get (C := RX1) (T := TX1) (N := 12) (ci := 0) (n := 0) hx hb hts in_X1 hown hE hM (by first | assumption | exact va_up_s | rfl | (refine (va_up_n ?_).trans ?_; rotate_left; (first | assumption | exact va_up_s | rfl | (refine (va_up_n ?_).trans ?_; rotate_left; (first | assumption | exact va_up_s | rfl | (refine (va_up_n ?_).trans ?_; rotate_left; (first | assumption | exact va_up_s | rfl | (refine (va_up_n ?_).trans ?_; rotate_left; (first | assumption | exact va_up_s | rfl | (refine (va_up_n ?_).trans ?_; rotate_left; (assumption); omega)); omega)); omega)); omega)); omega)) rfl 3 (by decide) (hts _ q143) (fun _ h => h) rfl dX1_put_100 ?_
              refine lv_iload_n hx hb dX1_put_103 rfl (lh_at hl rfl) ?_
              refine xr_iald (n := 1) hx hb hE hM (by first | assumption | exact va_up_s | rfl | (refine (va_up_n ?_).trans ?_; rotate_left; (first | assumption | exact va_up_s | rfl | (refine (va_up_n ?_).trans ?_; rotate_left; (first | assumption | exact va_up_s | rfl | (refine (va_up_n ?_).trans ?_; rotate_left; (first | assumption | exact va_up_s | rfl | (refine (va_up_n ?_).trans ?_; rotate_left; (first | assumption | exact va_up_s | rfl | (refine (va_up_n ?_).trans ?_; rotate_left; (assumption); omega)); omega)); omega)); omega)); omega)) (by omega) (by first | decide | omega) (by exact hfv i hi20) dX1_put_104 ?_
              refine x_istore hx hb dX1_put_105 hl (by decide) (fun ls hl => ?_)
              refine lv_aload_n hx hb dX1_put_107 rfl (lh_at hl rfl) ?_
              refine xr_get (C := RX1) (T := TX1) (N := 12) (ci := 0) (n := 0) hx hb hts in_X1 hown hE hM (by first | assumption | exact va_up_s | rfl | (refine (va_up_n ?_).trans ?_; rotate_left; (first | assumption | exact va_up_s | rfl | (refine (va_up_n ?_).trans ?_; rotate_left; (first | assumption | exact va_up_s | rfl | (refine (va_up_n ?_).trans ?_; rotate_left; (first | assumption | exact va_up_s | rfl | (refine (va_up_n ?_).trans ?_; rotate_left; (first | assumption | exact va_up_s | rfl | (refine (va_up_n ?_).trans ?_; rotate_left; (assumption); omega)); omega)); omega)); omega)); omega)) rfl 3 (by decide) (hts _ q143) (fun _ h => h) rfl dX1_put_108 ?_
              refine lv_iload_n hx hb dX1_put_111 rfl (lh_at hl rfl) ?_
              refine lv_iload hx hb dX1_put_112 (lh_at hl rfl) ?_
              refine xr_iast (n := 1) hx hb hE hM hS (by first | assumption | exact va_up_s | rfl | (refine (va_up_n ?_).trans ?_; rotate_left; (first | assumption | exact va_up_s | rfl | (refine (va_up_n ?_).trans ?_; rotate_left; (first | assumption | exact va_up_s | rfl | (refine (va_up_n ?_).trans ?_; rotate_left; (first | assumption | exact va_up_s | rfl | (refine (va_up_n ?_).trans ?_; rotate_left; (first | assumption | exact va_up_s | rfl | (refine (va_up_n ?_).trans ?_; rotate_left; (assumption); omega)); omega)); omega)); omega)); omega)) (by omega) (by first | decide | omega) dX1_put_114 (fun H locs hM hS => ?_)
              refine lv_iload hx hb dX1_put_115 (lh_at hl rfl) ?_
              have hup : ∀ z, z < 20 → upd f i (nI to) z = eP (va_up (vPl ν) i to z) := by
                intro z hz
                by_cases e : z = i
                · rw [e, pk_us, va_up_s, eP_pos hto6.2]
                · rw [pk_un e, va_up_n e]
                  exact hfv z hz
              exact hQ ▸ vx_ret (x_iret hx hb hr hlk hS _ ⟨by rw [hop], by rw [hop], by rw [hop]; exact fun hV => ⟨hO.pl (F := va_up (vPl ν) i to) hV, ad, β, rfl, hβ, hX.setPl (F := va_up (vPl ν) i to) hup⟩⟩ hM dX1_put_117)
        have J : ∀ (n o : Nat), o ≤ 20 → 20 < o + n → ∀ (ls : Array Slot), lh ls 7 (xl [(0, .ref (ad 0)), (1, .int (nI i)), (4, .int (nI to)), (5, .int (nI (if 0 < vC ν 5 ∨ takenN ν i to o = true then 0 else 1))), (6, .int (nI o))]) → W p l e (xrm 8 28 4596) s m args below meth c H locs 27 4590 Q (F0 m 49 ls []) := by
          intro n
          induction n with
          | zero => intro o h1 h2; exact absurd h2 (by omega)
          | succ n ih =>
            intro o h1 h2 ls hl
            refine lv_iload hx hb dX1_put_49 (lh_at hl rfl) ?_
            refine n_bipush hx hb 20 dX1_put_51 (by decide +kernel) ?_
            refine n_icmp_ge (tgt := 92) hx hb dX1_put_53 (by decide) (by omega) (by omega) (fun c1 => ?_) (fun c1 => ?_)
            · have e20 : o = 20 := by omega
              subst e20
              exact fin H locs ls hM hS (lh_sub hl _ ⟨rfl, rfl, rfl, rfl, trivial⟩)
            · have ho : o < 20 := by omega
              have nx : ∀ (d : Nat), (d = if 0 < vC ν 5 ∨ takenN ν i to (o + 1) = true then 0 else 1) → ∀ (ls : Array Slot), lh ls 7 (xl [(0, .ref (ad 0)), (1, .int (nI i)), (4, .int (nI to)), (6, .int (nI o))]) → W p l e (xrm 8 28 4596) s m args below meth c H locs 27 4590 Q (F0 m 84 ls [.int (nI d)]) := by
                intro d hd ls hl
                refine x_istore hx hb dX1_put_84 hl (by decide) (fun ls hl => ?_)
                refine n_iinc hx hb 1 dX1_put_86 hl rfl (by decide +kernel) (by decide) (fun ls hl => ?_)
                refine lv_goto (tgt := 49) hx hb dX1_put_89 (by decide) ?_
                refine ih (o + 1) (by omega) (by omega) _ (lh_sub hl _ ⟨rfl, rfl, rfl, ?_, rfl, trivial⟩)
                rw [← hd]
                rfl
              refine lv_iload hx hb dX1_put_56 (lh_at hl rfl) ?_
              by_cases hz : 0 < vC ν 5 ∨ takenN ν i to o = true
              · rw [if_pos hz]
                refine n_if_eq (tgt := 83) hx hb dX1_put_58 (by decide) (by omega) (fun c2 => ?_) (fun c2 => ?_)
                · refine n_const hx hb 0 dX1_put_83 (by decide +kernel) ?_
                  refine nx 0 ?_ _ (lh_sub hl _ ⟨rfl, rfl, rfl, rfl, trivial⟩)
                  rw [if_pos]
                  exact hz.imp id (fun z => takenN_s.mpr (Or.inl z))
                · exact absurd rfl c2
              · rw [if_neg hz]
                refine n_if_eq (tgt := 83) hx hb dX1_put_58 (by decide) (by omega) (fun c2 => ?_) (fun c2 => ?_)
                · exact absurd c2 (by decide)
                · refine lv_iload hx hb dX1_put_61 (lh_at hl rfl) ?_
                  refine lv_iload_n hx hb dX1_put_63 rfl (lh_at hl rfl) ?_
                  refine n_icmp_eq (tgt := 79) hx hb dX1_put_64 (by decide) (by omega) (by omega) (fun c3 => ?_) (fun c3 => ?_)
                  · refine n_const hx hb 1 dX1_put_79 (by decide +kernel) ?_
                    refine lv_goto (tgt := 84) hx hb dX1_put_80 (by decide) ?_
                    refine nx 1 ?_ _ (lh_sub hl _ ⟨rfl, rfl, rfl, rfl, trivial⟩)
                    rw [if_neg]
                    rintro (z | z)
                    · exact hz (Or.inl z)
                    · rcases takenN_s.mp z with z | z
                      · exact hz (Or.inr z)
                      · exact z.1 c3
                  · refine lv_aload_n hx hb dX1_put_67 rfl (lh_at hl rfl) ?_
                    refine xr_get (C := RX1) (T := TX1) (N := 12) (ci := 0) (n := 0) hx hb hts in_X1 hown hE hM (by first | assumption | exact va_up_s | rfl | (refine (va_up_n ?_).trans ?_; rotate_left; (first | assumption | exact va_up_s | rfl | (refine (va_up_n ?_).trans ?_; rotate_left; (first | assumption | exact va_up_s | rfl | (refine (va_up_n ?_).trans ?_; rotate_left; (first | assumption | exact va_up_s | rfl | (refine (va_up_n ?_).trans ?_; rotate_left; (first | assumption | exact va_up_s | rfl | (refine (va_up_n ?_).trans ?_; rotate_left; (assumption); omega)); omega)); omega)); omega)); omega)) rfl 3 (by decide) (hts _ q143) (fun _ h => h) rfl dX1_put_68 ?_
                    refine lv_iload hx hb dX1_put_71 (lh_at hl rfl) ?_
                    refine xr_iald (n := 1) hx hb hE hM (by first | assumption | exact va_up_s | rfl | (refine (va_up_n ?_).trans ?_; rotate_left; (first | assumption | exact va_up_s | rfl | (refine (va_up_n ?_).trans ?_; rotate_left; (first | assumption | exact va_up_s | rfl | (refine (va_up_n ?_).trans ?_; rotate_left; (first | assumption | exact va_up_s | rfl | (refine (va_up_n ?_).trans ?_; rotate_left; (first | assumption | exact va_up_s | rfl | (refine (va_up_n ?_).trans ?_; rotate_left; (assumption); omega)); omega)); omega)); omega)); omega)) (by omega) (by first | decide | omega) (by exact hfv o ho) dX1_put_73 ?_
                    refine lv_iload hx hb dX1_put_74 (lh_at hl rfl) ?_
                    have hpo := vPl_lt hO.V ho
                    have e1 : eP (vPl ν o) = nI to ↔ vPl ν o = to := eP_nI (by omega) (by omega) hto6.2
                    refine lv_icmp_eq (tgt := 83) hx hb dX1_put_76 (by decide) (fun c4 => ?_) (fun c4 => ?_)
                    · refine n_const hx hb 0 dX1_put_83 (by decide +kernel) ?_
                      refine nx 0 ?_ _ (lh_sub hl _ ⟨rfl, rfl, rfl, rfl, trivial⟩)
                      rw [if_pos]
                      exact Or.inr (takenN_s.mpr (Or.inr ⟨c3, e1.mp c4⟩))
                    · refine n_const hx hb 1 dX1_put_79 (by decide +kernel) ?_
                      refine lv_goto (tgt := 84) hx hb dX1_put_80 (by decide) ?_
                      refine nx 1 ?_ _ (lh_sub hl _ ⟨rfl, rfl, rfl, rfl, trivial⟩)
                      rw [if_neg]
                      rintro (z | z)
                      · exact hz (Or.inl z)
                      · rcases takenN_s.mp z with z | z
                        · exact hz (Or.inr z)
                        · exact c4 (e1.mpr z.2)
        exact J 21 0 (by omega) (by omega) _ (lh_sub hl _ ⟨rfl, rfl, rfl, rfl, rfl, trivial⟩)
theorem canN_s {ν : nS} {n o : Nat} : canN ν n (o + 1) = true ↔ (canN ν n o = true ∧ (vSt ν o = 2 ∨ vMn ν o ≤ n)) := by
  show (canN ν n o && (decide (vSt ν o = 2) || decide (vMn ν o ≤ n))) = true ↔ _
  simp only [Bool.or_eq_true, Bool.and_eq_true, decide_eq_true_eq]
theorem XR.setCap {g : xg} {ν : nS} {ad : Nat → Nat} {β : Nat → List Nat} {w : xw_W} (h : XR g ν ad β w) (v : Nat) : XR g (vSetC ν 3 v) ad β (va_up w 0 (some (ad 0, .inr (0, fX ad (vSetC ν 3 v) (nI (vC ν 6)) (nI (vC ν 7)))))) := by
  have h0 := h.obj
  generalize he : (some (ad 0, .inr (0, fX ad (vSetC ν 3 v) (nI (vC ν 6)) (nI (vC ν 7)))) : Option (Nat × va_E)) = e0
  have s : ∀ n, n ≠ 0 → va_up w 0 e0 n = w n := fun n hn => va_up_n hn
  have kl : ∀ {nL nD a ci : Nat} {mc : Int32} {es : List Nat}, nL ≠ 0 → nD ≠ 0 → xLs g w nL nD a mc ci es → xLs g (va_up w 0 e0) nL nD a mc ci es := fun h1 h2 hx => hx.up h1 h2 (fun y fs e => by
    rw [h0] at e
    cases e
    exact ⟨_, he.symm⟩)
  refine h.lift (fun _ _ => rfl) (fun n hn => s n (by omega)) (by rw [va_up_s, ← he]; rfl) ?_ ?_ ?_ ?_ ?_ (fun o ho => ?_) (fun b hb => ?_) (fun n hn b c fs e => h.dat hn b c fs (by rw [s n (by omega)] at e; exact e)) (fun n h1 h2 => (s n (by omega)).trans (h.ono h1 h2)) (fun n h1 h2 => (s n (by omega)).trans (h.bno h1 h2))
  · rw [s 1 (by omega)]
    exact h.pl
  · obtain ⟨f2, h1, h2⟩ := h.tu
    refine ⟨f2, (s 2 (by omega)).trans h1, fun q hq => (h2 q hq).trans ?_⟩
    show nI (turnN ν q (vC ν 4)) = nI (turnN (vSetC ν 3 v) q (vC ν 4))
    rw [turnN_congr (ν := ν) (ν' := vSetC ν 3 v) _ (fun o _ => ⟨Iff.rfl, fun _ => hasN_congr _ (fun _ _ => ⟨rfl, rfl⟩)⟩)]
  · obtain ⟨mc, hx⟩ := h.ord
    exact ⟨mc, kl (by omega) (by omega) hx⟩
  · obtain ⟨mc, hx⟩ := h.wav
    exact ⟨mc, kl (by omega) (by omega) hx⟩
  · obtain ⟨so, h1, h2⟩ := h.sav
    refine ⟨so, (s 7 (by omega)).trans h1, fun k hk => ⟨(h2 k hk).1, ?_⟩⟩
    rw [s (100 + k) (by omega)]
    exact (h2 k hk).2
  · have ho : o < vC ν 4 := ho
    obtain ⟨h1, f2, h2, h3⟩ := h.os (o := o) ho
    rw [s (2000 + 2 * o) (by omega), s (2001 + 2 * o) (by omega)]
    refine ⟨h1, f2, h2, fun q hq => (h3 q hq).trans ?_⟩
    show nI (hasN ν o q (vMn ν o)) = nI (hasN (vSetC ν 3 v) o q (vMn ν o))
    rw [hasN_congr (ν := ν) (ν' := vSetC ν 3 v) (o := o) _ (fun _ _ => ⟨rfl, rfl⟩)]
  · have hb : b < vC ν 5 := hb
    obtain ⟨h1, mc, h2⟩ := h.bs (b := b) hb
    have h3 := bN_ge (β := β) (b := b)
    rw [s (bN β b) (by omega)]
    refine ⟨?_, mc, kl (by omega) (by omega) h2⟩
    rw [h1]
    unfold bFs
    have e1 : pAll (vSetC ν 3 v) b = pAll ν b := prodsN_congr (vC ν 4) (fun _ _ => ⟨Iff.rfl, fun _ => rfl⟩)
    have e2 : lAll (vSetC ν 3 v) b = lAll ν b := linesN_congr (vC ν 4) (fun _ _ => ⟨Iff.rfl, fun _ => rfl⟩)
    rw [e1, e2]
theorem xOk.cap {ν : nS} (h : xOk ν) {v : Nat} (hV : vOk (vSetC ν 3 v)) : xOk (vSetC ν 3 v) := by
  refine ⟨hV, fun b hb => ?_, fun o ho => h.o (o := o) ho, ?_, ?_⟩
  · have e2 : lAll (vSetC ν 3 v) b = lAll ν b := linesN_congr (vC ν 4) (fun _ _ => ⟨Iff.rfl, fun _ => rfl⟩)
    rw [e2]
    exact h.W b hb
  · show vC ν 6 ≤ 50000 * dnN (vSetC ν 3 v) (vC ν 4)
    rw [dnN_congr (ν := ν) (ν' := vSetC ν 3 v) _ (fun _ _ => Iff.rfl)]
    exact h.2.2.2.1
  · show vC ν 7 ≤ 50000 * dnN (vSetC ν 3 v) (vC ν 4)
    rw [dnN_congr (ν := ν) (ν' := vSetC ν 3 v) _ (fun _ _ => Iff.rfl)]
    exact h.2.2.2.2
theorem xk_setCapacity (l : Launch) (hlt : l.stackTraces = false) (g : xg) (A : Nat → Prop) (w : xw_W) (ν : nS) (x0 : Nat) (p0 : Int32) (h : xI g ν x0 w) :
    vx_Met l yX1_setCapacity (ws_ yX1_setCapacity cX1_setCapacity 5 (some .int)) (xrm 8 12 1840) (xPw g A w [.ref x0, .int p0]) (opQi g A x0 (opSetCap ν p0)) (opQX g A w [eIA, eIS] (opSetCap ν p0)) 12 1840 A := by
  obtain ⟨hO, ad, β, rfl, hβ, hX⟩ := id h
  have h0 := hX.obj
  have hN := hO.N
  have hB40 := hO.B
  have h11 : w 11 = none := hX.tmp (by decide) (by decide)
  obtain ⟨mc, hL⟩ := hX.ord
  obtain ⟨d3, hd3⟩ := hL.size
  obtain ⟨mcw, hLw⟩ := hX.wav
  obtain ⟨d5, hd5⟩ := hLw.size
  refine x_startX rfl (Nat.le_of_ble_eq_true rfl) ?_
  intro p e s m below meth c hx hb hr hlk hml hxt hown hts hnm hE hM hS ls hl
  have hF : xFix p m c cX1_setCapacity 5 s _ RX1 := ⟨hx, hb, hml, hown, hts⟩
  generalize hargs : List.toArray _ = args at hts hF ⊢
  generalize hQ : vx_MQ below _ _ _ s _ _ A = Q
  refine lv_iload_n hx hb dX1_setCapacity_0 rfl (lh_at hl rfl) ?_
  refine n_const hx hb 1 dX1_setCapacity_1 (by decide +kernel) ?_
  refine n_bipush hx hb 9 dX1_setCapacity_2 (by decide +kernel) ?_
  refine x_tcallv (x_runSX (As := [.int p0, .int (nI 1), .int (nI 9)]) hF hE hS hM hl (xk_isWithin l hlt g A w p0 (nI 1) (nI 9)) q939 q940 q38 q941 ⟨by decide +kernel, by decide +kernel, by show _ = some 3; decide +kernel⟩ rfl rfl ⟨Nat.le_of_ble_eq_true rfl, Nat.le_of_ble_eq_true rfl⟩ rfl (Nat.le_of_ble_eq_true rfl) dX1_setCapacity_4 ⟨Nat.le_of_ble_eq_true rfl, Nat.le_of_ble_eq_true rfl⟩) hS hQ hxt hlk (Nat.le_of_ble_eq_true rfl) (Nat.le_of_ble_eq_true rfl) (fun E9 H9 hE9 hP9 => ?_) (fun uu H locs hq hM hS => ?_)
  · exact ⟨⟨xCode.at (j := 0) (by unfold opSetCap; rw [isW_none (n := 9) (by decide) hE9.2]) rfl hE9.1, rfl⟩, hP9⟩
  · obtain ⟨k, hk⟩ := isW_some (n := 9) (by decide) hq
    obtain ⟨hk9, rfl⟩ := xr_pred_some (by decide) hk
    have hop : opSetCap ν (nI (k + 1)) = if canN ν (k + 1) (vC ν 4) = true then (0, nI (vC ν 3), vSetC ν 3 (k + 1)) else (2, 0, ν) := by
      unfold opSetCap
      rw [hk]
    refine lv_aload_n hx hb dX1_setCapacity_7 rfl (lh_at hl rfl) ?_
    refine xr_get (C := RX1) (T := TX1) (N := 12) (ci := 0) (n := 0) hx hb hts in_X1 hown hE hM (by first | assumption | exact va_up_s | rfl | (refine (va_up_n ?_).trans ?_; rotate_left; (first | assumption | exact va_up_s | rfl | (refine (va_up_n ?_).trans ?_; rotate_left; (first | assumption | exact va_up_s | rfl | (refine (va_up_n ?_).trans ?_; rotate_left; (first | assumption | exact va_up_s | rfl | (refine (va_up_n ?_).trans ?_; rotate_left; (first | assumption | exact va_up_s | rfl | (refine (va_up_n ?_).trans ?_; rotate_left; (assumption); omega)); omega)); omega)); omega)); omega)) rfl 6 (by decide) (hts _ q147) (fun _ h => h) rfl dX1_setCapacity_8 ?_
    refine x_callFi (x_runF (As := []) hF hE hS hM hl (jk_isEmpty l g A w 5 6 (ad 5) 5 mcw _ hLw) (xw.recv hE hM (by first | assumption | exact va_up_s | rfl | (refine (va_up_n ?_).trans ?_; rotate_left; (first | assumption | exact va_up_s | rfl | (refine (va_up_n ?_).trans ?_; rotate_left; (first | assumption | exact va_up_s | rfl | (refine (va_up_n ?_).trans ?_; rotate_left; (first | assumption | exact va_up_s | rfl | (refine (va_up_n ?_).trans ?_; rotate_left; (first | assumption | exact va_up_s | rfl | (refine (va_up_n ?_).trans ?_; rotate_left; (assumption); omega)); omega)); omega)); omega)); omega)) rfl) (xw.at hE (ci := 6) rfl) (List.mem_of_getElem? (i := 1) rfl) q564 q569 q567 q41 q571 ⟨by decide +kernel, by decide +kernel, by show _ = some 0; decide +kernel⟩ rfl rfl ⟨Nat.le_of_ble_eq_true rfl, Nat.le_of_ble_eq_true rfl⟩ rfl (Nat.le_of_ble_eq_true rfl) dX1_setCapacity_11 ⟨Nat.le_of_ble_eq_true rfl, Nat.le_of_ble_eq_true rfl⟩) hS (fun r uu H locs hq2 hM hS => ?_)
    rw [bL_len] at hq2
    have hq9 : r = nI (if canN ν (k + 1) 0 = true then 1 else 0) := by
      rw [hq2]
      show _ = nI (if decide (vC ν 5 = 0) = true then 1 else 0)
      by_cases z : vC ν 5 = 0
      · rw [if_pos z, decide_eq_true z]
        rfl
      · rw [if_neg z, decide_eq_false z]
        rfl
    rw [hq9]
    refine x_istore_n hx hb dX1_setCapacity_16 rfl hl (by decide) (fun ls hl => ?_)
    refine lv_aload_n hx hb dX1_setCapacity_17 rfl (lh_at hl rfl) ?_
    refine xr_get (C := RX1) (T := TX1) (N := 12) (ci := 0) (n := 0) hx hb hts in_X1 hown hE hM (by first | assumption | exact va_up_s | rfl | (refine (va_up_n ?_).trans ?_; rotate_left; (first | assumption | exact va_up_s | rfl | (refine (va_up_n ?_).trans ?_; rotate_left; (first | assumption | exact va_up_s | rfl | (refine (va_up_n ?_).trans ?_; rotate_left; (first | assumption | exact va_up_s | rfl | (refine (va_up_n ?_).trans ?_; rotate_left; (first | assumption | exact va_up_s | rfl | (refine (va_up_n ?_).trans ?_; rotate_left; (assumption); omega)); omega)); omega)); omega)); omega)) rfl 5 (by decide) (hts _ q146) (fun _ h => h) rfl dX1_setCapacity_18 ?_
    refine x_callFr (x_runF (As := []) hF hE hS hM hl (jk_iterator l g A w 3 4 11 (ad 3) 4 mc _ hL (by decide) (fun q hq => by rw [h11] at hq; cases hq) (fun q fs e => by rw [h11] at e; cases e)) (xw.recv hE hM (by first | assumption | exact va_up_s | rfl | (refine (va_up_n ?_).trans ?_; rotate_left; (first | assumption | exact va_up_s | rfl | (refine (va_up_n ?_).trans ?_; rotate_left; (first | assumption | exact va_up_s | rfl | (refine (va_up_n ?_).trans ?_; rotate_left; (first | assumption | exact va_up_s | rfl | (refine (va_up_n ?_).trans ?_; rotate_left; (first | assumption | exact va_up_s | rfl | (refine (va_up_n ?_).trans ?_; rotate_left; (assumption); omega)); omega)); omega)); omega)); omega)) rfl) (xw.at hE (ci := 6) rfl) (List.mem_of_getElem? (i := 5) rfl) q1049 q1054 q1052 q41 q1056 ⟨by decide +kernel, by decide +kernel, by show _ = some 0; decide +kernel⟩ rfl rfl ⟨Nat.le_of_ble_eq_true rfl, Nat.le_of_ble_eq_true rfl⟩ rfl (Nat.le_of_ble_eq_true rfl) dX1_setCapacity_21 ⟨Nat.le_of_ble_eq_true rfl, Nat.le_of_ble_eq_true rfl⟩) hS (fun u it H locs hq3 hM hS => ?_)
    obtain ⟨⟨hit, hag⟩, hM⟩ := hM
    rw [hag.eq hit] at hM
    clear hag hit
    refine x_astore_n hx hb dX1_setCapacity_26 rfl hl (by decide) (fun ls hl => ?_)
    have J : ∀ (n o : Nat), o ≤ vC ν 4 → vC ν 4 < o + n → ∀ (last : Int32) (H : Heap) (locs : List Loc) (ls : Array Slot), xw g A (va_up w 11 (some (xIt it (nI o) last mc (ad 3)))) H → va_S A s.heap H locs → lh ls 5 (xl [(0, .ref (ad 0)), (1, .int (nI (k + 1))), (2, .int (nI (if canN ν (k + 1) o = true then 1 else 0))), (3, .ref it)]) → W p l e (xrm 8 12 1840) s m args below meth c H locs 11 1834 Q (F0 m 27 ls []) := by
      intro n
      induction n with
      | zero => intro o h1 h2; exact absurd h2 (by omega)
      | succ n ih =>
        intro o h1 h2 last H locs ls hM hS hl
        have hLu : ∀ e, xLs g (va_up w 11 e) 3 4 (ad 3) mc 4 (oL ad (vC ν 4)) := fun e => hL.tmp h11 (by decide) (by decide)
        refine lv_aload_n hx hb dX1_setCapacity_27 rfl (lh_at hl rfl) ?_
        refine x_callFi (x_runF (As := []) hF hE hS hM hl (jk_hasNext l g A (va_up w 11 (some (xIt it (nI o) last mc (ad 3)))) 3 4 11 it (ad 3) 4 o mc last _ (hLu _) va_up_s (by rw [oL_len]; exact h1)) (xw.recv hE hM (by first | assumption | exact va_up_s | rfl | (refine (va_up_n ?_).trans ?_; rotate_left; (first | assumption | exact va_up_s | rfl | (refine (va_up_n ?_).trans ?_; rotate_left; (first | assumption | exact va_up_s | rfl | (refine (va_up_n ?_).trans ?_; rotate_left; (first | assumption | exact va_up_s | rfl | (refine (va_up_n ?_).trans ?_; rotate_left; (first | assumption | exact va_up_s | rfl | (refine (va_up_n ?_).trans ?_; rotate_left; (assumption); omega)); omega)); omega)); omega)); omega)) rfl) (xw.at hE (ci := 7) rfl) (List.mem_of_getElem? (i := 8) rfl) q1077 q1083 q1081 q69 q1085 ⟨by decide +kernel, by decide +kernel, by show _ = some 0; decide +kernel⟩ rfl rfl ⟨Nat.le_of_ble_eq_true rfl, Nat.le_of_ble_eq_true rfl⟩ rfl (Nat.le_of_ble_eq_true rfl) dX1_setCapacity_28 ⟨Nat.le_of_ble_eq_true rfl, Nat.le_of_ble_eq_true rfl⟩) hS (fun r uu H locs hq hM hS => ?_)
        rw [oL_len] at hq
        by_cases hoN : o = vC ν 4
        · rw [if_pos hoN] at hq
          rw [hq]
          rw [hoN] at hl
          refine lv_if_eq (tgt := 78) hx hb dX1_setCapacity_33 (by decide) (fun c1 => ?_) (fun c1 => ?_)
          · have hM := hM.drop h11
            refine lv_iload_n hx hb dX1_setCapacity_78 rfl (lh_at hl rfl) ?_
            refine xr_ldc hx hb hown hE (i := 13) (k := 217) rfl dX1_setCapacity_79 ?_
            by_cases hcan : canN ν (k + 1) (vC ν 4) = true
            · rw [if_pos hcan]
              rw [if_pos hcan] at hop
              refine x_tcallv (x_runSX (As := [.int (nI 1), .ref (g.2 (100 + 217))]) hF hE hS hM hl (xk_must l hlt g A w (nI 1) (g.2 (100 + 217))) q573 q574 q38 q575 ⟨by decide +kernel, by decide +kernel, by show _ = some 2; decide +kernel⟩ rfl rfl ⟨Nat.le_of_ble_eq_true rfl, Nat.le_of_ble_eq_true rfl⟩ rfl (Nat.le_of_ble_eq_true rfl) dX1_setCapacity_81 ⟨Nat.le_of_ble_eq_true rfl, Nat.le_of_ble_eq_true rfl⟩) hS hQ hxt hlk (Nat.le_of_ble_eq_true rfl) (Nat.le_of_ble_eq_true rfl) (fun E9 H9 hE9 hP9 => ?_) (fun uu H locs hq hM hS => ?_)
              · exact absurd hE9.2 (by decide)
              · refine lv_aload_n hx hb dX1_setCapacity_84 rfl (lh_at hl rfl) ?_
                refine xr_get (C := RX1) (T := TX1) (N := 12) (ci := 0) (n := 0) hx hb hts in_X1 hown hE hM (by first | assumption | exact va_up_s | rfl | (refine (va_up_n ?_).trans ?_; rotate_left; (first | assumption | exact va_up_s | rfl | (refine (va_up_n ?_).trans ?_; rotate_left; (first | assumption | exact va_up_s | rfl | (refine (va_up_n ?_).trans ?_; rotate_left; (first | assumption | exact va_up_s | rfl | (refine (va_up_n ?_).trans ?_; rotate_left; (first | assumption | exact va_up_s | rfl | (refine (va_up_n ?_).trans ?_; rotate_left; (assumption); omega)); omega)); omega)); omega)); omega)) rfl 9 (by decide) (hts _ q150) (fun _ h => h) rfl dX1_setCapacity_85 ?_
                refine x_istore_n hx hb dX1_setCapacity_88 rfl hl (by decide) (fun ls hl => ?_)
                refine lv_aload_n hx hb dX1_setCapacity_89 rfl (lh_at hl rfl) ?_
                refine lv_iload_n hx hb dX1_setCapacity_90 rfl (lh_at hl rfl) ?_
                refine xr_put (C := RX1) (T := TX1) (N := 12) (ci := 0) (n := 0) hx hb hts in_X1 tyX1 tyX1_ok nmX1 hown hE hM hS (by first | assumption | exact va_up_s | rfl | (refine (va_up_n ?_).trans ?_; rotate_left; (first | assumption | exact va_up_s | rfl | (refine (va_up_n ?_).trans ?_; rotate_left; (first | assumption | exact va_up_s | rfl | (refine (va_up_n ?_).trans ?_; rotate_left; (first | assumption | exact va_up_s | rfl | (refine (va_up_n ?_).trans ?_; rotate_left; (first | assumption | exact va_up_s | rfl | (refine (va_up_n ?_).trans ?_; rotate_left; (assumption); omega)); omega)); omega)); omega)); omega)) rfl 9 (by decide) (hts _ q150) (fun _ h => h) rfl (tyX1_ok 9 (by decide)) rfl rfl (Nat.le_of_ble_eq_true rfl) dX1_setCapacity_91 (fun H locs hM hS => ?_)
                refine lv_iload_n hx hb dX1_setCapacity_94 rfl (lh_at hl rfl) ?_
                exact hQ ▸ vx_ret (x_iret hx hb hr hlk hS _ ⟨by rw [hop], by rw [hop], by rw [hop]; exact fun hV => ⟨hO.cap hV, ad, β, rfl, hβ, hX.setCap (k + 1)⟩⟩ hM dX1_setCapacity_95)
            · rw [if_neg hcan]
              rw [if_neg hcan] at hop
              refine x_tcallv (x_runSX (As := [.int (nI 0), .ref (g.2 (100 + 217))]) hF hE hS hM hl (xk_must l hlt g A w (nI 0) (g.2 (100 + 217))) q573 q574 q38 q575 ⟨by decide +kernel, by decide +kernel, by show _ = some 2; decide +kernel⟩ rfl rfl ⟨Nat.le_of_ble_eq_true rfl, Nat.le_of_ble_eq_true rfl⟩ rfl (Nat.le_of_ble_eq_true rfl) dX1_setCapacity_81 ⟨Nat.le_of_ble_eq_true rfl, Nat.le_of_ble_eq_true rfl⟩) hS hQ hxt hlk (Nat.le_of_ble_eq_true rfl) (Nat.le_of_ble_eq_true rfl) (fun E9 H9 hE9 hP9 => ?_) (fun uu H locs hq hM hS => ?_)
              · exact ⟨⟨xCode.at (j := 1) (by rw [hop]) rfl hE9.1, rfl⟩, hP9⟩
              · exact absurd rfl hq
          · exact absurd rfl c1
        · rw [if_neg hoN] at hq
          rw [hq]
          have ho : o < vC ν 4 := by omega
          obtain ⟨ho2, -⟩ := hX.os ho
          have ho11 : 2000 + 2 * o ≠ 11 := by omega
          refine lv_if_eq (tgt := 78) hx hb dX1_setCapacity_33 (by decide) (fun c1 => ?_) (fun c1 => ?_)
          · exact absurd c1 (by decide)
          · refine lv_aload_n hx hb dX1_setCapacity_36 rfl (lh_at hl rfl) ?_
            refine x_callFr (x_runF (As := []) hF hE hS hM hl (jk_next l g A (va_up w 11 (some (xIt it (nI o) last mc (ad 3)))) 3 4 11 it (ad 3) 4 o (ad (2000 + 2 * o)) mc last _ (hLu _) va_up_s (oL_at ho)) (xw.recv hE hM (by first | assumption | exact va_up_s | rfl | (refine (va_up_n ?_).trans ?_; rotate_left; (first | assumption | exact va_up_s | rfl | (refine (va_up_n ?_).trans ?_; rotate_left; (first | assumption | exact va_up_s | rfl | (refine (va_up_n ?_).trans ?_; rotate_left; (first | assumption | exact va_up_s | rfl | (refine (va_up_n ?_).trans ?_; rotate_left; (first | assumption | exact va_up_s | rfl | (refine (va_up_n ?_).trans ?_; rotate_left; (assumption); omega)); omega)); omega)); omega)); omega)) rfl) (xw.at hE (ci := 7) rfl) (List.mem_of_getElem? (i := 9) rfl) q1087 q1092 q1090 q69 q1094 ⟨by decide +kernel, by decide +kernel, by show _ = some 0; decide +kernel⟩ rfl rfl ⟨Nat.le_of_ble_eq_true rfl, Nat.le_of_ble_eq_true rfl⟩ rfl (Nat.le_of_ble_eq_true rfl) dX1_setCapacity_37 ⟨Nat.le_of_ble_eq_true rfl, Nat.le_of_ble_eq_true rfl⟩) hS (fun u1 ra H locs hq2 hM hS => ?_)
            obtain ⟨⟨hra, hu1⟩, hM⟩ := hM
            rw [hu1, va_up_up] at hM
            rw [hra]
            have hou : va_up w 11 (some (xIt it (nI (o + 1)) (nI o) mc (ad 3))) (2000 + 2 * o) = some (ad (2000 + 2 * o), .inr (4, oFs ν ad o)) := (va_up_n ho11).trans ho2
            refine xr_cast (n := (2000 + 2 * o)) (r := (RX5, TX5, 4)) (ci := 4) hx hb hown hE hM (by first | assumption | exact va_up_s | rfl | (refine (va_up_n ?_).trans ?_; rotate_left; (first | assumption | exact va_up_s | rfl | (refine (va_up_n ?_).trans ?_; rotate_left; (first | assumption | exact va_up_s | rfl | (refine (va_up_n ?_).trans ?_; rotate_left; (first | assumption | exact va_up_s | rfl | (refine (va_up_n ?_).trans ?_; rotate_left; (first | assumption | exact va_up_s | rfl | (refine (va_up_n ?_).trans ?_; rotate_left; (assumption); omega)); omega)); omega)); omega)); omega)) rfl (hts _ q947) dX1_setCapacity_42 ?_
            refine x_astore hx hb dX1_setCapacity_45 hl (by decide) (fun ls hl => ?_)
            have nx : ∀ (d : Nat), (d = if canN ν (k + 1) (o + 1) = true then 1 else 0) → ∀ (H : Heap) (locs : List Loc) (ls : Array Slot), xw g A (va_up w 11 (some (xIt it (nI (o + 1)) (nI o) mc (ad 3)))) H → va_S A s.heap H locs → lh ls 5 (xl [(0, .ref (ad 0)), (1, .int (nI (k + 1))), (3, .ref it)]) → W p l e (xrm 8 12 1840) s m args below meth c H locs 11 1834 Q (F0 m 74 ls [.int (nI d)]) := by
              intro d hd H locs ls hM hS hl
              refine x_istore_n hx hb dX1_setCapacity_74 rfl hl (by decide) (fun ls hl => ?_)
              refine lv_goto (tgt := 27) hx hb dX1_setCapacity_75 (by decide) ?_
              refine ih (o + 1) (by omega) (by omega) (nI o) H locs _ hM hS (lh_sub hl _ ⟨rfl, rfl, ?_, rfl, trivial⟩)
              rw [← hd]
              rfl
            refine lv_iload_n hx hb dX1_setCapacity_47 rfl (lh_at hl rfl) ?_
            by_cases hc : canN ν (k + 1) o = true
            · rw [if_pos hc]
              refine n_if_eq (tgt := 73) hx hb dX1_setCapacity_48 (by decide) (by omega) (fun c2 => ?_) (fun c2 => ?_)
              · exact absurd c2 (by decide)
              · have hst := (hO.V.2.2.2.2.2.2.2 o ho).2.1
                have hmn := (hO.V.2.2.2.2.2.2.2 o ho).2.2.2.1
                refine lv_aload hx hb dX1_setCapacity_51 (lh_at hl rfl) ?_
                refine xr_getN (C := RX5) (T := TX5) (N := 4) (ci := 4) (n := (2000 + 2 * o)) hx hb hts in_X5 hown hE hM (by first | assumption | exact va_up_s | rfl | (refine (va_up_n ?_).trans ?_; rotate_left; (first | assumption | exact va_up_s | rfl | (refine (va_up_n ?_).trans ?_; rotate_left; (first | assumption | exact va_up_s | rfl | (refine (va_up_n ?_).trans ?_; rotate_left; (first | assumption | exact va_up_s | rfl | (refine (va_up_n ?_).trans ?_; rotate_left; (first | assumption | exact va_up_s | rfl | (refine (va_up_n ?_).trans ?_; rotate_left; (assumption); omega)); omega)); omega)); omega)); omega)) rfl 3 (by decide) q961 (fun _ h => h) rfl dX1_setCapacity_53 ?_
                refine n_const hx hb 2 dX1_setCapacity_56 (by decide +kernel) ?_
                refine n_icmp_eq (tgt := 69) hx hb dX1_setCapacity_57 (by decide) (by omega) (by omega) (fun c3 => ?_) (fun c3 => ?_)
                · refine n_const hx hb 1 dX1_setCapacity_69 (by decide +kernel) ?_
                  refine lv_goto (tgt := 74) hx hb dX1_setCapacity_70 (by decide) ?_
                  exact nx 1 (by rw [if_pos (canN_s.mpr ⟨hc, Or.inl c3⟩)]) H locs _ hM hS (lh_sub hl _ ⟨rfl, rfl, rfl, trivial⟩)
                · refine lv_aload hx hb dX1_setCapacity_60 (lh_at hl rfl) ?_
                  refine x_calli (x_runV (As := []) hF hE hS hM hl (xk_ordLines l g A (va_up w 11 (some (xIt it (nI (o + 1)) (nI o) mc (ad 3)))) (2000 + 2 * o) (ad (2000 + 2 * o)) (wantN ν o) _ _ _ hou (hO.want ho)) (xw.recv hE hM (by first | assumption | exact va_up_s | rfl | (refine (va_up_n ?_).trans ?_; rotate_left; (first | assumption | exact va_up_s | rfl | (refine (va_up_n ?_).trans ?_; rotate_left; (first | assumption | exact va_up_s | rfl | (refine (va_up_n ?_).trans ?_; rotate_left; (first | assumption | exact va_up_s | rfl | (refine (va_up_n ?_).trans ?_; rotate_left; (first | assumption | exact va_up_s | rfl | (refine (va_up_n ?_).trans ?_; rotate_left; (assumption); omega)); omega)); omega)); omega)); omega)) rfl) q996 q997 q998 q68 q999 ⟨rfl, by decide +kernel, by decide +kernel, by show _ = some 0; decide +kernel⟩ rfl rfl ⟨Nat.le_of_ble_eq_true rfl, Nat.le_of_ble_eq_true rfl⟩ rfl (Nat.le_of_ble_eq_true rfl) dX1_setCapacity_62 ⟨Nat.le_of_ble_eq_true rfl, Nat.le_of_ble_eq_true rfl⟩) hS (fun r uu H locs hq3 hM hS => ?_)
                  rw [hq3, hO.lines ho]
                  refine lv_iload_n hx hb dX1_setCapacity_65 rfl (lh_at hl rfl) ?_
                  refine n_icmp_gt (tgt := 73) hx hb dX1_setCapacity_66 (by decide) (by omega) (by omega) (fun c4 => ?_) (fun c4 => ?_)
                  · refine n_const hx hb 0 dX1_setCapacity_73 (by decide +kernel) ?_
                    exact nx 0 (by rw [if_neg (fun z => (canN_s.mp z).2.elim c3 (fun z => by omega))]) H locs _ hM hS (lh_sub hl _ ⟨rfl, rfl, rfl, trivial⟩)
                  · refine n_const hx hb 1 dX1_setCapacity_69 (by decide +kernel) ?_
                    refine lv_goto (tgt := 74) hx hb dX1_setCapacity_70 (by decide) ?_
                    exact nx 1 (by rw [if_pos (canN_s.mpr ⟨hc, Or.inr (by omega)⟩)]) H locs _ hM hS (lh_sub hl _ ⟨rfl, rfl, rfl, trivial⟩)
            · rw [if_neg hc]
              refine n_if_eq (tgt := 73) hx hb dX1_setCapacity_48 (by decide) (by omega) (fun c2 => ?_) (fun c2 => ?_)
              · refine n_const hx hb 0 dX1_setCapacity_73 (by decide +kernel) ?_
                exact nx 0 (by rw [if_neg (fun z => hc (canN_s.mp z).1)]) H locs _ hM hS (lh_sub hl _ ⟨rfl, rfl, rfl, trivial⟩)
              · exact absurd rfl c2
    exact J (vC ν 4 + 1) 0 (by omega) (by omega) (-1) H locs _ hM hS (lh_sub hl _ ⟨rfl, rfl, rfl, rfl, trivial⟩)
