/-! Aislewright: line -/
set_option maxRecDepth 100000
theorem hasN_0 {ν : nS} {o q : Nat} : ∀ n, (∀ k, k < n → 1 ≤ vQt ν o k) → (hasN ν o q n = 0 ↔ ¬ (orM (vPr ν o) n).testBit q = true)
  | 0, _ => by simp [hasN, orM]
  | n + 1, h => by
    have ih := hasN_0 (ν := ν) (o := o) (q := q) n (fun k hk => h k (by omega))
    have h1 := h n (by omega)
    unfold hasN orM
    rw [Nat.testBit_or, Nat.shiftLeft_eq, Nat.one_mul, Nat.testBit_two_pow]
    by_cases e : vPr ν o n = q
    · rw [if_pos e, decide_eq_true e, Bool.or_true]
      constructor
      · intro z
        omega
      · intro z
        exact absurd rfl z
    · rw [if_neg e, decide_eq_false e, Bool.or_false]
      exact ih
section LN
variable {ν : nS} {o q c : Nat}
theorem vLine_M : vMn (vLine ν o q c) o = vMn ν o + 1 := by
  show va_up (vMn ν) o (vMn ν o + 1) o = _
  exact va_up_s
theorem vLine_Mn {a : Nat} (h : a ≠ o) : vMn (vLine ν o q c) a = vMn ν a := by
  show va_up (vMn ν) o (vMn ν o + 1) a = _
  exact va_up_n h
theorem vLine_P {a k : Nat} (h : a ≠ o ∨ k ≠ vMn ν o) : vPr (vLine ν o q c) a k = vPr ν a k ∧ vQt (vLine ν o q c) a k = vQt ν a k := by
  have h2 : ¬ (a = o ∧ k = vMn ν o) := fun z => h.elim (fun y => y z.1) (fun y => y z.2)
  exact ⟨if_neg h2, if_neg h2⟩
theorem vLine_N : vPr (vLine ν o q c) o (vMn ν o) = q ∧ vQt (vLine ν o q c) o (vMn ν o) = c := ⟨if_pos ⟨rfl, rfl⟩, if_pos ⟨rfl, rfl⟩⟩
theorem vLine_want : wantN (vLine ν o q c) o = wantN ν o ||| (1 <<< q) := by
  unfold wantN
  rw [vLine_M]
  conv => lhs; unfold orM
  rw [vLine_N.1, orM_congr (f := vPr ν o) (f' := vPr (vLine ν o q c) o) _ (fun k hk => (vLine_P (Or.inr (by omega))).1)]
theorem vLine_wantN {a : Nat} (h : a ≠ o) : wantN (vLine ν o q c) a = wantN ν a := by
  unfold wantN
  rw [vLine_Mn h]
  exact orM_congr _ (fun k hk => (vLine_P (Or.inl h)).1)
theorem vLine_has {z : Nat} : hasN (vLine ν o q c) o z (vMn ν o + 1) = if q = z then hasN ν o z (vMn ν o) + c else hasN ν o z (vMn ν o) := by
  conv => lhs; unfold hasN
  rw [vLine_N.1, vLine_N.2, hasN_congr (ν := ν) (ν' := vLine ν o q c) (o := o) (o' := o) _ (fun k hk => vLine_P (Or.inr (by omega)))]
end LN
theorem XR.setLine {g : xg} {ν : nS} {ad : Nat → Nat} {β : Nat → List Nat} {w : xw_W} {o q c : Nat} {f' : Nat → Int32} (h : XR g ν ad β w) (hO : xOk ν) (ho : o < vC ν 4) (hst : vSt ν o = 0) (hf : ∀ z, z < 20 → f' z = nI (hasN (vLine ν o q c) o z (vMn ν o + 1))) :
    XR g (vLine ν o q c) ad β (va_up (va_up w (2001 + 2 * o) (some (ad (2001 + 2 * o), .inl (g.2 0, 20, .inl f')))) (2000 + 2 * o) (some (ad (2000 + 2 * o), .inr (4, oFs (vLine ν o q c) ad o)))) := by
  obtain ⟨k1, f1, k2, -⟩ := h.os ho
  have hN40 := hO.N
  have hbt : vBt ν o = 0 := by
    rcases Nat.eq_zero_or_pos (vBt ν o) with z | z
    · exact z
    · have := (hO.o ho).1.mpr (by omega)
      omega
  have s : ∀ n, n ≠ 2000 + 2 * o → n ≠ 2001 + 2 * o → va_up (va_up w (2001 + 2 * o) (some (ad (2001 + 2 * o), .inl (g.2 0, 20, .inl f')))) (2000 + 2 * o) (some (ad (2000 + 2 * o), .inr (4, oFs (vLine ν o q c) ad o))) n = w n := fun n n1 n2 => by rw [va_up_n n1, va_up_n n2]
  have kl : ∀ {nL nD a ci : Nat} {mc : Int32} {es : List Nat}, (nL < 2000 ∨ 3000 ≤ nL) → (nD < 2000 ∨ 3000 ≤ nD) → xLs g w nL nD a mc ci es → xLs g (va_up (va_up w (2001 + 2 * o) (some (ad (2001 + 2 * o), .inl (g.2 0, 20, .inl f')))) (2000 + 2 * o) (some (ad (2000 + 2 * o), .inr (4, oFs (vLine ν o q c) ad o)))) nL nD a mc ci es := by
    intro nL nD a ci mc es n1 n2 hx
    refine (hx.up (n := 2001 + 2 * o) (by omega) (by omega) (fun y fs e => ?_)).up (n := 2000 + 2 * o) (by omega) (by omega) (fun y fs e => ?_)
    · rw [k2] at e
      cases e
    · rw [va_up_n (by omega), k1] at e
      cases e
      exact ⟨_, rfl⟩
  have hBo : ∀ b, ¬ vBt ν o = b + 1 := fun b => by omega
  refine h.lift (fun _ _ => rfl) (fun n hn => s n (by omega) (by omega)) ((s 0 (by omega) (by omega)).trans h.obj) ?_ ?_ ?_ ?_ ?_ (fun o' ho' => ?_) (fun b hb => ?_) (fun n hn b c fs e => h.dat hn b c fs (by rw [s n (by omega) (by omega)] at e; exact e)) (fun n h1 h2 => (s n (by have : 2000 + 2 * vC ν 4 ≤ n := h1; omega) (by have : 2000 + 2 * vC ν 4 ≤ n := h1; omega)).trans (h.ono h1 h2)) (fun n h1 h2 => (s n (by omega) (by omega)).trans (h.bno h1 h2))
  · rw [s 1 (by omega) (by omega)]
    exact h.pl
  · obtain ⟨f2, g1, g2⟩ := h.tu
    refine ⟨f2, (s 2 (by omega) (by omega)).trans g1, fun z hz => (g2 z hz).trans ?_⟩
    show nI (turnN ν z (vC ν 4)) = nI (turnN (vLine ν o q c) z (vC ν 4))
    rw [turnN_congr (ν := ν) (ν' := vLine ν o q c) _ (fun a _ => ⟨Iff.rfl, fun hs => ?_⟩)]
    have ha : a ≠ o := fun e => by
      rw [e, hst] at hs
      cases hs
    rw [vLine_Mn ha]
    exact hasN_congr _ (fun k _ => vLine_P (Or.inl ha))
  · obtain ⟨mc, hx⟩ := h.ord
    exact ⟨mc, kl (by omega) (by omega) hx⟩
  · obtain ⟨mc, hx⟩ := h.wav
    exact ⟨mc, kl (by omega) (by omega) hx⟩
  · obtain ⟨so, g1, g2⟩ := h.sav
    refine ⟨so, (s 7 (by omega) (by omega)).trans g1, fun k hk => ⟨(g2 k hk).1, ?_⟩⟩
    rw [s (100 + k) (by omega) (by omega)]
    exact (g2 k hk).2
  · by_cases e : o' = o
    · subst e
      rw [va_up_s, va_up_n (by omega), va_up_s, vLine_M]
      exact ⟨rfl, _, rfl, hf⟩
    · have ho2 : o' < vC ν 4 := ho'
      obtain ⟨g1, f2, g2, g3⟩ := h.os ho2
      rw [s (2000 + 2 * o') (by omega) (by omega), s (2001 + 2 * o') (by omega) (by omega), vLine_Mn e]
      refine ⟨?_, f2, g2, fun z hz => (g3 z hz).trans ?_⟩
      · rw [g1]
        unfold oFs
        rw [vLine_wantN e]
        rfl
      · exact congrArg nI (hasN_congr (ν := ν) (ν' := vLine ν o q c) (o := o') _ (fun k _ => vLine_P (Or.inl e))).symm
  · have hb : b < vC ν 5 := hb
    obtain ⟨g1, mc, g2⟩ := h.bs hb
    have h3 := bN_ge (β := β) (b := b)
    rw [s (bN β b) (by omega) (by omega)]
    refine ⟨?_, mc, kl (by omega) (by omega) g2⟩
    rw [g1]
    unfold bFs
    have e1 : pAll (vLine ν o q c) b = pAll ν b := prodsN_congr (vC ν 4) (fun a _ => ⟨Iff.rfl, fun z => vLine_wantN (fun e => hBo b (by rw [← e]; exact z))⟩)
    have e2 : lAll (vLine ν o q c) b = lAll ν b := linesN_congr (vC ν 4) (fun a _ => ⟨Iff.rfl, fun z => vLine_Mn (fun e => hBo b (by rw [← e]; exact z))⟩)
    rw [e1, e2]
theorem xOk.line {ν : nS} {o q c : Nat} (h : xOk ν) (ho : o < vC ν 4) (hst : vSt ν o = 0) (hq : ¬ (wantN ν o).testBit q = true) (hV : vOk (vLine ν o q c)) : xOk (vLine ν o q c) := by
  have hbt : vBt ν o = 0 := by
    rcases Nat.eq_zero_or_pos (vBt ν o) with z | z
    · exact z
    · have := (h.o ho).1.mpr (by omega)
      omega
  refine ⟨hV, fun b hb => ?_, fun a ha => ?_, ?_, ?_⟩
  · have e2 : lAll (vLine ν o q c) b = lAll ν b := linesN_congr (vC ν 4) (fun a _ => ⟨Iff.rfl, fun z => vLine_Mn (fun e => by rw [e, hbt] at z; omega)⟩)
    rw [e2]
    exact h.W b hb
  · have ha : a < vC ν 4 := ha
    obtain ⟨h1, h2, h3⟩ := h.o ha
    refine ⟨h1, fun z => ?_, ?_⟩
    · by_cases e : a = o
      · subst e
        exact absurd hbt z
      · rw [vLine_Mn e]
        exact h2 z
    · by_cases e : a = o
      · subst e
        rw [vLine_M]
        have hnew : ∀ k, k < vMn ν a → vPr ν a k ≠ q := fun k hk z => hq (by rw [← z]; exact want_bit hk)
        intro k k' k1 k2 e
        by_cases ek : k = vMn ν a
        · by_cases ek' : k' = vMn ν a
          · omega
          · rw [ek, vLine_N.1, (vLine_P (Or.inr ek')).1] at e
            exact absurd e.symm (hnew k' (by omega))
        · by_cases ek' : k' = vMn ν a
          · rw [ek', vLine_N.1, (vLine_P (Or.inr ek)).1] at e
            exact absurd e (hnew k (by omega))
          · rw [(vLine_P (Or.inr ek)).1, (vLine_P (Or.inr ek')).1] at e
            exact h3 k k' (by omega) (by omega) e
      · rw [vLine_Mn e]
        intro k k' k1 k2 e2
        rw [(vLine_P (Or.inl e)).1, (vLine_P (Or.inl e)).1] at e2
        exact h3 k k' k1 k2 e2
  · show vC ν 6 ≤ 50000 * dnN (vLine ν o q c) (vC ν 4)
    rw [dnN_congr (ν := ν) (ν' := vLine ν o q c) _ (fun _ _ => Iff.rfl)]
    exact h.2.2.2.1
  · show vC ν 7 ≤ 50000 * dnN (vLine ν o q c) (vC ν 4)
    rw [dnN_congr (ν := ν) (ν' := vLine ν o q c) _ (fun _ _ => Iff.rfl)]
    exact h.2.2.2.2
theorem xk_line (l : Launch) (hlt : l.stackTraces = false) (g : xg) (A : Nat → Prop) (w : xw_W) (ν : nS) (x0 : Nat) (p0 p1 p2 : Int32) (h : xI g ν x0 w) :
    vx_Met l yX1_line (ws_ yX1_line cX1_line 6 (some .int)) (xrm 8 29 4896) (xPw g A w [.ref x0, .int p0, .int p1, .int p2]) (opQi g A x0 (opLine ν p0 p1 p2)) (opQX g A w [eIB, eIA, eIS] (opLine ν p0 p1 p2)) 29 4896 A := by
  obtain ⟨hO, ad, β, rfl, hβ, hX⟩ := id h
  have h0 := hX.obj
  have hN := hO.N
  obtain ⟨fp, hfp, hfpv⟩ := hX.pl
  refine x_startX rfl (Nat.le_of_ble_eq_true rfl) ?_
  intro p e s m below meth c hx hb hr hlk hml hxt hown hts hnm hE hM hS ls hl
  have hF : xFix p m c cX1_line 6 s _ RX1 := ⟨hx, hb, hml, hown, hts⟩
  generalize hargs : List.toArray _ = args at hts hF ⊢
  generalize hQ : vx_MQ below _ _ _ s _ _ A = Q
  refine lv_aload_n hx hb dX1_line_0 rfl (lh_at hl rfl) ?_
  refine lv_iload_n hx hb dX1_line_1 rfl (lh_at hl rfl) ?_
  refine x_tcallr (x_runVX (As := [.int p0]) hF hE hS hM hl (xk_written l hlt g A w ν ad β p0 hO hX) (xw.recv hE hM (by first | assumption | exact va_up_s | rfl | (refine (va_up_n ?_).trans ?_; rotate_left; (first | assumption | exact va_up_s | rfl | (refine (va_up_n ?_).trans ?_; rotate_left; (first | assumption | exact va_up_s | rfl | (refine (va_up_n ?_).trans ?_; rotate_left; (first | assumption | exact va_up_s | rfl | (refine (va_up_n ?_).trans ?_; rotate_left; (first | assumption | exact va_up_s | rfl | (refine (va_up_n ?_).trans ?_; rotate_left; (assumption); omega)); omega)); omega)); omega)); omega)) rfl) q991 q993 qs8 q38 q994 ⟨rfl, by decide +kernel, by decide +kernel, by show _ = some 1; decide +kernel⟩ rfl rfl ⟨Nat.le_of_ble_eq_true rfl, Nat.le_of_ble_eq_true rfl⟩ rfl (Nat.le_of_ble_eq_true rfl) dX1_line_2 ⟨Nat.le_of_ble_eq_true rfl, Nat.le_of_ble_eq_true rfl⟩) hS hQ hxt hlk (Nat.le_of_ble_eq_true rfl) (Nat.le_of_ble_eq_true rfl) (fun E9 H9 hE9 hP9 => ?_) (fun uu ra H locs hq hM hS => ?_)
  · exact ⟨⟨xCode.at (j := 0) (by unfold opLine; rw [hE9.2]) rfl hE9.1, rfl⟩, hP9⟩
  · obtain ⟨⟨o, ho, hra⟩, hM⟩ := hM
    rw [hra]
    have hoN := (xr_some (by omega) ho).1
    obtain ⟨ho2, fq, hfq, hfqv⟩ := hX.os hoN
    have hVo := hO.V.2.2.2.2.2.2.2 o hoN
    refine x_astore hx hb dX1_line_5 hl (by decide) (fun ls hl => ?_)
    refine lv_iload_n hx hb dX1_line_7 rfl (lh_at hl rfl) ?_
    refine x_tcalli (x_runSX (As := [.int p1]) hF hE hS hM hl (xk_product l hlt g A w p1) q292 q293 q38 q294 ⟨by decide +kernel, by decide +kernel, by show _ = some 1; decide +kernel⟩ rfl rfl ⟨Nat.le_of_ble_eq_true rfl, Nat.le_of_ble_eq_true rfl⟩ rfl (Nat.le_of_ble_eq_true rfl) dX1_line_8 ⟨Nat.le_of_ble_eq_true rfl, Nat.le_of_ble_eq_true rfl⟩) hS hQ hxt hlk (Nat.le_of_ble_eq_true rfl) (Nat.le_of_ble_eq_true rfl) (fun E9 H9 hE9 hP9 => ?_) (fun r uu H locs hq hM hS => ?_)
    · exact ⟨⟨xCode.at (j := 0) (by unfold opLine; rw [ho]; simp only [hE9.2]) rfl hE9.1, rfl⟩, hP9⟩
    · obtain ⟨q, hq1, rfl⟩ := hq
      obtain ⟨hq20, rfl⟩ := xr_some (by decide) hq1
      refine lv_pop hx hb dX1_line_11 rfl ?_
      refine lv_iload_n hx hb dX1_line_12 rfl (lh_at hl rfl) ?_
      refine n_const hx hb 1 dX1_line_13 (by decide +kernel) ?_
      refine n_bipush hx hb 99 dX1_line_14 (by decide +kernel) ?_
      refine x_tcallv (x_runSX (As := [.int p2, .int (nI 1), .int (nI 99)]) hF hE hS hM hl (xk_isWithin l hlt g A w p2 (nI 1) (nI 99)) q939 q940 q38 q941 ⟨by decide +kernel, by decide +kernel, by show _ = some 3; decide +kernel⟩ rfl rfl ⟨Nat.le_of_ble_eq_true rfl, Nat.le_of_ble_eq_true rfl⟩ rfl (Nat.le_of_ble_eq_true rfl) dX1_line_16 ⟨Nat.le_of_ble_eq_true rfl, Nat.le_of_ble_eq_true rfl⟩) hS hQ hxt hlk (Nat.le_of_ble_eq_true rfl) (Nat.le_of_ble_eq_true rfl) (fun E9 H9 hE9 hP9 => ?_) (fun uu H locs hq2 hM hS => ?_)
      · have hn9 := isW_none (n := 99) (by decide) hE9.2
        exact ⟨⟨xCode.at (j := 1) (by unfold opLine; rw [ho]; simp only [hq1, hn9]) rfl hE9.1, rfl⟩, hP9⟩
      · obtain ⟨k, hk⟩ := isW_some (n := 99) (by decide) hq2
        obtain ⟨hk9, rfl⟩ := xr_pred_some (by decide) hk
        have hop : opLine ν p0 (nI q) (nI (k + 1)) = if vSt ν o ≠ 0 ∨ vMn ν o = 5 ∨ vC ν 3 ≤ vMn ν o ∨ (wantN ν o).testBit q = true ∨ vPl ν q = 0 then (3, 0, ν) else (0, nI (vMn ν o + 1), vLine ν o q (k + 1)) := by
          unfold opLine
          rw [ho]
          simp only [hq1, hk]
        have hcap := hO.V.2.2.2.1
        have hhas := hasN_le (ν := ν) (o := o) (q := q) (vMn ν o) (fun k hk => (hVo.2.2.2.2 k hk).2.2.1)
        have hmn5 := hVo.2.2.2.1
        have h00 : hasN ν o q (vMn ν o) = 0 ↔ ¬ (wantN ν o).testBit q = true := hasN_0 _ (fun k hk => (hVo.2.2.2.2 k hk).2.1)
        have hpq := vPl_lt hO.V hq20
        have bad : (vSt ν o ≠ 0 ∨ vMn ν o = 5 ∨ vC ν 3 ≤ vMn ν o ∨ (wantN ν o).testBit q = true ∨ vPl ν q = 0) → ∀ (H : Heap) (locs : List Loc) (ls : Array Slot), xw g A w H → va_S A s.heap H locs → lh ls 6 (xl [(0, .ref (ad 0))]) → W p l e (xrm 8 29 4896) s m args below meth c H locs 28 4890 Q (F0 m 84 ls []) := by
          intro hz H locs ls hM hS hl
          rw [if_pos hz] at hop
          refine n_const hx hb 0 dX1_line_84 (by decide +kernel) ?_
          refine xr_ldc hx hb hown hE (i := 12) (k := 196) rfl dX1_line_85 ?_
          refine x_tcallv (x_runSX (As := [.int (nI 0), .ref (g.2 (100 + 196))]) hF hE hS hM hl (xk_must l hlt g A w (nI 0) (g.2 (100 + 196))) q573 q574 q38 q575 ⟨by decide +kernel, by decide +kernel, by show _ = some 2; decide +kernel⟩ rfl rfl ⟨Nat.le_of_ble_eq_true rfl, Nat.le_of_ble_eq_true rfl⟩ rfl (Nat.le_of_ble_eq_true rfl) dX1_line_87 ⟨Nat.le_of_ble_eq_true rfl, Nat.le_of_ble_eq_true rfl⟩) hS hQ hxt hlk (Nat.le_of_ble_eq_true rfl) (Nat.le_of_ble_eq_true rfl) (fun E9 H9 hE9 hP9 => ?_) (fun uu H locs hq hM hS => ?_)
          · exact ⟨⟨xCode.at (j := 2) (by rw [hop]) rfl hE9.1, rfl⟩, hP9⟩
          · exact absurd rfl hq
        have mid0 : (vSt ν o ≠ 0 ∨ vMn ν o = 5 ∨ vC ν 3 ≤ vMn ν o) → ∀ (H : Heap) (locs : List Loc) (ls : Array Slot), xw g A w H → va_S A s.heap H locs → lh ls 6 (xl [(0, .ref (ad 0))]) → W p l e (xrm 8 29 4896) s m args below meth c H locs 28 4890 Q (F0 m 52 ls []) := by
          intro hz H locs ls hM hS hl
          refine n_const hx hb 0 dX1_line_52 (by decide +kernel) ?_
          refine x_istore hx hb dX1_line_53 hl (by decide) (fun ls hl => ?_)
          refine lv_iload hx hb dX1_line_55 (lh_at hl rfl) ?_
          refine n_if_eq (tgt := 84) hx hb dX1_line_57 (by decide) (by omega) (fun c1 => ?_) (fun c1 => ?_)
          · exact bad (hz.imp id (fun z => z.imp id Or.inl)) H locs _ hM hS (lh_sub hl _ ⟨rfl, trivial⟩)
          · exact absurd rfl c1
        refine lv_aload hx hb dX1_line_19 (lh_at hl rfl) ?_
        refine xr_getN (C := RX5) (T := TX5) (N := 4) (ci := 4) (n := (2000 + 2 * o)) hx hb hts in_X5 hown hE hM (by first | assumption | exact va_up_s | rfl | (refine (va_up_n ?_).trans ?_; rotate_left; (first | assumption | exact va_up_s | rfl | (refine (va_up_n ?_).trans ?_; rotate_left; (first | assumption | exact va_up_s | rfl | (refine (va_up_n ?_).trans ?_; rotate_left; (first | assumption | exact va_up_s | rfl | (refine (va_up_n ?_).trans ?_; rotate_left; (first | assumption | exact va_up_s | rfl | (refine (va_up_n ?_).trans ?_; rotate_left; (assumption); omega)); omega)); omega)); omega)); omega)) rfl 3 (by decide) q961 (fun _ h => h) rfl dX1_line_21 ?_
        refine n_if_ne (tgt := 52) hx hb dX1_line_24 (by decide) (by omega) (fun c1 => ?_) (fun c1 => ?_)
        · exact mid0 (Or.inl c1) H locs _ hM hS (lh_sub hl _ ⟨rfl, trivial⟩)
        · refine lv_aload hx hb dX1_line_27 (lh_at hl rfl) ?_
          refine x_calli (x_runV (As := []) hF hE hS hM hl (xk_ordLines l g A w (2000 + 2 * o) (ad (2000 + 2 * o)) (wantN ν o) _ _ _ ho2 (hO.want hoN)) (xw.recv hE hM (by first | assumption | exact va_up_s | rfl | (refine (va_up_n ?_).trans ?_; rotate_left; (first | assumption | exact va_up_s | rfl | (refine (va_up_n ?_).trans ?_; rotate_left; (first | assumption | exact va_up_s | rfl | (refine (va_up_n ?_).trans ?_; rotate_left; (first | assumption | exact va_up_s | rfl | (refine (va_up_n ?_).trans ?_; rotate_left; (first | assumption | exact va_up_s | rfl | (refine (va_up_n ?_).trans ?_; rotate_left; (assumption); omega)); omega)); omega)); omega)); omega)) rfl) q996 q997 q998 q68 q999 ⟨rfl, by decide +kernel, by decide +kernel, by show _ = some 0; decide +kernel⟩ rfl rfl ⟨Nat.le_of_ble_eq_true rfl, Nat.le_of_ble_eq_true rfl⟩ rfl (Nat.le_of_ble_eq_true rfl) dX1_line_29 ⟨Nat.le_of_ble_eq_true rfl, Nat.le_of_ble_eq_true rfl⟩) hS (fun r uu H locs hq3 hM hS => ?_)
          rw [hq3, hO.lines hoN]
          refine n_const hx hb 5 dX1_line_32 (by decide +kernel) ?_
          refine n_icmp_ge (tgt := 52) hx hb dX1_line_33 (by decide) (by omega) (by omega) (fun c2 => ?_) (fun c2 => ?_)
          · exact mid0 (Or.inr (Or.inl (by omega))) H locs _ hM hS (lh_sub hl _ ⟨rfl, trivial⟩)
          · refine lv_aload hx hb dX1_line_36 (lh_at hl rfl) ?_
            refine x_calli (x_runV (As := []) hF hE hS hM hl (xk_ordLines l g A w (2000 + 2 * o) (ad (2000 + 2 * o)) (wantN ν o) _ _ _ ho2 (hO.want hoN)) (xw.recv hE hM (by first | assumption | exact va_up_s | rfl | (refine (va_up_n ?_).trans ?_; rotate_left; (first | assumption | exact va_up_s | rfl | (refine (va_up_n ?_).trans ?_; rotate_left; (first | assumption | exact va_up_s | rfl | (refine (va_up_n ?_).trans ?_; rotate_left; (first | assumption | exact va_up_s | rfl | (refine (va_up_n ?_).trans ?_; rotate_left; (first | assumption | exact va_up_s | rfl | (refine (va_up_n ?_).trans ?_; rotate_left; (assumption); omega)); omega)); omega)); omega)); omega)) rfl) q996 q997 q998 q68 q999 ⟨rfl, by decide +kernel, by decide +kernel, by show _ = some 0; decide +kernel⟩ rfl rfl ⟨Nat.le_of_ble_eq_true rfl, Nat.le_of_ble_eq_true rfl⟩ rfl (Nat.le_of_ble_eq_true rfl) dX1_line_38 ⟨Nat.le_of_ble_eq_true rfl, Nat.le_of_ble_eq_true rfl⟩) hS (fun r uu H locs hq3 hM hS => ?_)
            rw [hq3, hO.lines hoN]
            refine lv_aload_n hx hb dX1_line_41 rfl (lh_at hl rfl) ?_
            refine xr_get (C := RX1) (T := TX1) (N := 12) (ci := 0) (n := 0) hx hb hts in_X1 hown hE hM (by first | assumption | exact va_up_s | rfl | (refine (va_up_n ?_).trans ?_; rotate_left; (first | assumption | exact va_up_s | rfl | (refine (va_up_n ?_).trans ?_; rotate_left; (first | assumption | exact va_up_s | rfl | (refine (va_up_n ?_).trans ?_; rotate_left; (first | assumption | exact va_up_s | rfl | (refine (va_up_n ?_).trans ?_; rotate_left; (first | assumption | exact va_up_s | rfl | (refine (va_up_n ?_).trans ?_; rotate_left; (assumption); omega)); omega)); omega)); omega)); omega)) rfl 9 (by decide) (hts _ q150) (fun _ h => h) rfl dX1_line_42 ?_
            refine n_icmp_ge (tgt := 52) hx hb dX1_line_45 (by decide) (by omega) (by omega) (fun c3 => ?_) (fun c3 => ?_)
            · exact mid0 (Or.inr (Or.inr c3)) H locs _ hM hS (lh_sub hl _ ⟨rfl, trivial⟩)
            · refine n_const hx hb 1 dX1_line_48 (by decide +kernel) ?_
              refine lv_goto (tgt := 53) hx hb dX1_line_49 (by decide) ?_
              refine x_istore hx hb dX1_line_53 hl (by decide) (fun ls hl => ?_)
              refine lv_iload hx hb dX1_line_55 (lh_at hl rfl) ?_
              refine n_if_eq (tgt := 84) hx hb dX1_line_57 (by decide) (by omega) (fun c4 => ?_) (fun c4 => ?_)
              · exact absurd c4 (by decide)
              · refine lv_aload hx hb dX1_line_60 (lh_at hl rfl) ?_
                refine xr_getN (C := RX5) (T := TX5) (N := 4) (ci := 4) (n := (2000 + 2 * o)) hx hb hts in_X5 hown hE hM (by first | assumption | exact va_up_s | rfl | (refine (va_up_n ?_).trans ?_; rotate_left; (first | assumption | exact va_up_s | rfl | (refine (va_up_n ?_).trans ?_; rotate_left; (first | assumption | exact va_up_s | rfl | (refine (va_up_n ?_).trans ?_; rotate_left; (first | assumption | exact va_up_s | rfl | (refine (va_up_n ?_).trans ?_; rotate_left; (first | assumption | exact va_up_s | rfl | (refine (va_up_n ?_).trans ?_; rotate_left; (assumption); omega)); omega)); omega)); omega)); omega)) rfl 1 (by decide) q956 (fun _ h => h) rfl dX1_line_62 ?_
                refine lv_iload_n hx hb dX1_line_65 rfl (lh_at hl rfl) ?_
                refine xr_iald (n := (2001 + 2 * o)) hx hb hE hM (by first | assumption | exact va_up_s | rfl | (refine (va_up_n ?_).trans ?_; rotate_left; (first | assumption | exact va_up_s | rfl | (refine (va_up_n ?_).trans ?_; rotate_left; (first | assumption | exact va_up_s | rfl | (refine (va_up_n ?_).trans ?_; rotate_left; (first | assumption | exact va_up_s | rfl | (refine (va_up_n ?_).trans ?_; rotate_left; (first | assumption | exact va_up_s | rfl | (refine (va_up_n ?_).trans ?_; rotate_left; (assumption); omega)); omega)); omega)); omega)); omega)) (by omega) (by first | decide | omega) (by exact hfqv q hq20) dX1_line_66 ?_
                refine n_if_ne (tgt := 84) hx hb dX1_line_67 (by decide) (by omega) (fun c5 => ?_) (fun c5 => ?_)
                · exact bad (Or.inr (Or.inr (Or.inr (Or.inl (by
                    cases hz : (wantN ν o).testBit q with
                    | true => rfl
                    | false =>
                      rw [hz] at h00
                      exact absurd (h00.mpr (by decide)) c5))))) H locs _ hM hS (lh_sub hl _ ⟨rfl, trivial⟩)
                · refine lv_aload_n hx hb dX1_line_70 rfl (lh_at hl rfl) ?_
                  refine xr_get (C := RX1) (T := TX1) (N := 12) (ci := 0) (n := 0) hx hb hts in_X1 hown hE hM (by first | assumption | exact va_up_s | rfl | (refine (va_up_n ?_).trans ?_; rotate_left; (first | assumption | exact va_up_s | rfl | (refine (va_up_n ?_).trans ?_; rotate_left; (first | assumption | exact va_up_s | rfl | (refine (va_up_n ?_).trans ?_; rotate_left; (first | assumption | exact va_up_s | rfl | (refine (va_up_n ?_).trans ?_; rotate_left; (first | assumption | exact va_up_s | rfl | (refine (va_up_n ?_).trans ?_; rotate_left; (assumption); omega)); omega)); omega)); omega)); omega)) rfl 3 (by decide) (hts _ q143) (fun _ h => h) rfl dX1_line_71 ?_
                  refine lv_iload_n hx hb dX1_line_74 rfl (lh_at hl rfl) ?_
                  refine xr_iald (n := 1) hx hb hE hM (by first | assumption | exact va_up_s | rfl | (refine (va_up_n ?_).trans ?_; rotate_left; (first | assumption | exact va_up_s | rfl | (refine (va_up_n ?_).trans ?_; rotate_left; (first | assumption | exact va_up_s | rfl | (refine (va_up_n ?_).trans ?_; rotate_left; (first | assumption | exact va_up_s | rfl | (refine (va_up_n ?_).trans ?_; rotate_left; (first | assumption | exact va_up_s | rfl | (refine (va_up_n ?_).trans ?_; rotate_left; (assumption); omega)); omega)); omega)); omega)); omega)) (by omega) (by first | decide | omega) (by exact hfpv q hq20) dX1_line_75 ?_
                  refine lv_iconst (v := -1) hx hb dX1_line_76 (by decide +kernel) ?_
                  refine lv_icmp_eq (tgt := 84) hx hb dX1_line_77 (by decide) (fun c6 => ?_) (fun c6 => ?_)
                  · exact bad (Or.inr (Or.inr (Or.inr (Or.inr ((eP_m1 (by omega)).mp c6))))) H locs _ hM hS (lh_sub hl _ ⟨rfl, trivial⟩)
                  · have hnb : ¬ (wantN ν o).testBit q = true := h00.mp c5
                    have hgood : ¬ (vSt ν o ≠ 0 ∨ vMn ν o = 5 ∨ vC ν 3 ≤ vMn ν o ∨ (wantN ν o).testBit q = true ∨ vPl ν q = 0) := by
                      rintro (z | z | z | z | z)
                      · exact z c1
                      · omega
                      · exact c3 z
                      · exact hnb z
                      · exact c6 ((eP_m1 (by omega)).mpr z)
                    rw [if_neg hgood] at hop
                    refine n_const hx hb 1 dX1_line_80 (by decide +kernel) ?_
                    refine lv_goto (tgt := 85) hx hb dX1_line_81 (by decide) ?_
                    refine xr_ldc hx hb hown hE (i := 12) (k := 196) rfl dX1_line_85 ?_
                    refine x_tcallv (x_runSX (As := [.int (nI 1), .ref (g.2 (100 + 196))]) hF hE hS hM hl (xk_must l hlt g A w (nI 1) (g.2 (100 + 196))) q573 q574 q38 q575 ⟨by decide +kernel, by decide +kernel, by show _ = some 2; decide +kernel⟩ rfl rfl ⟨Nat.le_of_ble_eq_true rfl, Nat.le_of_ble_eq_true rfl⟩ rfl (Nat.le_of_ble_eq_true rfl) dX1_line_87 ⟨Nat.le_of_ble_eq_true rfl, Nat.le_of_ble_eq_true rfl⟩) hS hQ hxt hlk (Nat.le_of_ble_eq_true rfl) (Nat.le_of_ble_eq_true rfl) (fun E9 H9 hE9 hP9 => ?_) (fun uu H locs hq hM hS => ?_)
                    · exact absurd hE9.2 (by decide)
                    · refine lv_aload hx hb dX1_line_90 (lh_at hl rfl) ?_
                      refine xr_getN (C := RX5) (T := TX5) (N := 4) (ci := 4) (n := (2000 + 2 * o)) hx hb hts in_X5 hown hE hM (by first | assumption | exact va_up_s | rfl | (refine (va_up_n ?_).trans ?_; rotate_left; (first | assumption | exact va_up_s | rfl | (refine (va_up_n ?_).trans ?_; rotate_left; (first | assumption | exact va_up_s | rfl | (refine (va_up_n ?_).trans ?_; rotate_left; (first | assumption | exact va_up_s | rfl | (refine (va_up_n ?_).trans ?_; rotate_left; (first | assumption | exact va_up_s | rfl | (refine (va_up_n ?_).trans ?_; rotate_left; (assumption); omega)); omega)); omega)); omega)); omega)) rfl 1 (by decide) q956 (fun _ h => h) rfl dX1_line_92 ?_
                      refine lv_iload_n hx hb dX1_line_95 rfl (lh_at hl rfl) ?_
                      refine lv_iload_n hx hb dX1_line_96 rfl (lh_at hl rfl) ?_
                      refine xr_iast (n := (2001 + 2 * o)) hx hb hE hM hS (by first | assumption | exact va_up_s | rfl | (refine (va_up_n ?_).trans ?_; rotate_left; (first | assumption | exact va_up_s | rfl | (refine (va_up_n ?_).trans ?_; rotate_left; (first | assumption | exact va_up_s | rfl | (refine (va_up_n ?_).trans ?_; rotate_left; (first | assumption | exact va_up_s | rfl | (refine (va_up_n ?_).trans ?_; rotate_left; (first | assumption | exact va_up_s | rfl | (refine (va_up_n ?_).trans ?_; rotate_left; (assumption); omega)); omega)); omega)); omega)); omega)) (by omega) (by first | decide | omega) dX1_line_97 (fun H locs hM hS => ?_)
                      have ho3 : va_up w (2001 + 2 * o) (some (ad (2001 + 2 * o), .inl (g.2 0, 20, .inl (upd fq q (nI (k + 1)))))) (2000 + 2 * o) = some (ad (2000 + 2 * o), .inr (4, oFs ν ad o)) := (va_up_n (by omega)).trans ho2
                      refine lv_aload hx hb dX1_line_98 (lh_at hl rfl) ?_
                      refine lv_dup hx hb dX1_line_100 rfl ?_
                      refine xr_getN (C := RX5) (T := TX5) (N := 4) (ci := 4) (n := (2000 + 2 * o)) hx hb hts in_X5 hown hE hM (by first | assumption | exact va_up_s | rfl | (refine (va_up_n ?_).trans ?_; rotate_left; (first | assumption | exact va_up_s | rfl | (refine (va_up_n ?_).trans ?_; rotate_left; (first | assumption | exact va_up_s | rfl | (refine (va_up_n ?_).trans ?_; rotate_left; (first | assumption | exact va_up_s | rfl | (refine (va_up_n ?_).trans ?_; rotate_left; (first | assumption | exact va_up_s | rfl | (refine (va_up_n ?_).trans ?_; rotate_left; (assumption); omega)); omega)); omega)); omega)); omega)) rfl 2 (by decide) q959 (fun _ h => h) rfl dX1_line_101 ?_
                      refine n_const hx hb 1 dX1_line_104 (by decide +kernel) ?_
                      refine lv_iload_n hx hb dX1_line_105 rfl (lh_at hl rfl) ?_
                      refine n_ishl hx hb (by omega) (by exact pw32 (by omega)) dX1_line_106 ?_
                      refine n_ior hx hb dX1_line_107 ?_
                      refine xr_putN (C := RX5) (T := TX5) (N := 4) (ci := 4) (n := (2000 + 2 * o)) hx hb hts in_X5 tyX5 tyX5_ok nmX5 hown hE hM hS (by first | assumption | exact va_up_s | rfl | (refine (va_up_n ?_).trans ?_; rotate_left; (first | assumption | exact va_up_s | rfl | (refine (va_up_n ?_).trans ?_; rotate_left; (first | assumption | exact va_up_s | rfl | (refine (va_up_n ?_).trans ?_; rotate_left; (first | assumption | exact va_up_s | rfl | (refine (va_up_n ?_).trans ?_; rotate_left; (first | assumption | exact va_up_s | rfl | (refine (va_up_n ?_).trans ?_; rotate_left; (assumption); omega)); omega)); omega)); omega)); omega)) rfl 2 (by decide) q959 (fun _ h => h) rfl (tyX5_ok 2 (by decide)) rfl rfl (Nat.le_of_ble_eq_true rfl) dX1_line_108 (fun H locs hM hS => ?_)
                      have hfin : ∀ z, z < 20 → upd fq q (nI (k + 1)) z = nI (hasN (vLine ν o q (k + 1)) o z (vMn ν o + 1)) := by
                        intro z hz
                        rw [vLine_has]
                        by_cases e : q = z
                        · subst e
                          rw [pk_us, if_pos rfl, c5, Nat.zero_add]
                        · rw [pk_un (fun y => e y.symm), if_neg e]
                          exact hfqv z hz
                      have hXn := hX.setLine (q := q) (c := k + 1) hO hoN c1 hfin
                      have hfs : (oFs ν ad o).set 2 (.int (nI (wantN ν o ||| 1 <<< q))) = oFs (vLine ν o q (k + 1)) ad o := by
                        unfold oFs
                        rw [vLine_want]
                        rfl
                      rw [hfs] at hM
                      have hob : va_up (va_up w (2001 + 2 * o) (some (ad (2001 + 2 * o), .inl (g.2 0, 20, .inl (upd fq q (nI (k + 1))))))) (2000 + 2 * o) (some (ad (2000 + 2 * o), .inr (4, oFs (vLine ν o q (k + 1)) ad o))) (2000 + 2 * o) = some (ad (2000 + 2 * o), .inr (4, [.int (nI (vDue ν o)), .ref (ad (2001 + 2 * o)), .int (nI (wantN ν o ||| 1 <<< q)), .int (nI (vSt ν o))])) := by
                        rw [va_up_s]
                        unfold oFs
                        rw [vLine_want]
                        rfl
                      have hw20 : wantN ν o ||| 1 <<< q < 2 ^ 20 := Nat.or_lt_two_pow (hO.want hoN) (shl_lt hq20)
                      refine lv_aload hx hb dX1_line_111 (lh_at hl rfl) ?_
                      refine x_calli (x_runV (As := []) hF hE hS hM hl (xk_ordLines l g A _ (2000 + 2 * o) (ad (2000 + 2 * o)) (wantN ν o ||| 1 <<< q) _ _ _ hob hw20) (xw.recv hE hM (by first | assumption | exact va_up_s | rfl | (refine (va_up_n ?_).trans ?_; rotate_left; (first | assumption | exact va_up_s | rfl | (refine (va_up_n ?_).trans ?_; rotate_left; (first | assumption | exact va_up_s | rfl | (refine (va_up_n ?_).trans ?_; rotate_left; (first | assumption | exact va_up_s | rfl | (refine (va_up_n ?_).trans ?_; rotate_left; (first | assumption | exact va_up_s | rfl | (refine (va_up_n ?_).trans ?_; rotate_left; (assumption); omega)); omega)); omega)); omega)); omega)) rfl) q996 q997 q998 q68 q999 ⟨rfl, by decide +kernel, by decide +kernel, by show _ = some 0; decide +kernel⟩ rfl rfl ⟨Nat.le_of_ble_eq_true rfl, Nat.le_of_ble_eq_true rfl⟩ rfl (Nat.le_of_ble_eq_true rfl) dX1_line_113 ⟨Nat.le_of_ble_eq_true rfl, Nat.le_of_ble_eq_true rfl⟩) hS (fun r uu H locs hq3 hM hS => ?_)
                      have hbf : (wantN ν o).testBit q = false := by
                        cases hz : (wantN ν o).testBit q with
                        | true => exact absurd hz hnb
                        | false => rfl
                      rw [cntB_add hbf, hO.lines hoN, if_pos hq20] at hq3
                      exact hQ ▸ vx_ret (x_iret hx hb hr hlk hS _ ⟨by rw [hop], by rw [hop]; exact hq3, by rw [hop]; exact fun hV => ⟨hO.line hoN c1 hnb hV, ad, β, rfl, hβ, hXn⟩⟩ hM dX1_line_116)
