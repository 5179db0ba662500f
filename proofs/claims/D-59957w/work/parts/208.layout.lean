/-! Aislewright: layOut -/
set_option maxRecDepth 100000
/-- what a ranked object holds, by its address -/
noncomputable def rkW (u : xw_W) (y : Nat) : Int32 × Int32 := by
  classical
  exact if h : ∃ q : Int32 × Int32, ∃ n, u n = some (y, .inr (3, [.int q.1, .int q.2])) then h.choose else (0, 0)
theorem rkW_eq {g : xg} {A : Nat → Prop} {u : xw_W} {H : Heap} (hM : xw g A u H) {n y : Nat} {a b : Int32} (h : u n = some (y, .inr (3, [.int a, .int b]))) : rkW u y = (a, b) := by
  have hex : ∃ q : Int32 × Int32, ∃ n, u n = some (y, .inr (3, [.int q.1, .int q.2])) := ⟨(a, b), n, h⟩
  unfold rkW
  rw [dif_pos hex]
  obtain ⟨n', hn'⟩ := hex.choose_spec
  by_cases e : n' = n
  · rw [e, h] at hn'
    have h2 := (Prod.mk.inj (Option.some.inj hn')).2
    have h3 := (Prod.mk.inj (Sum.inr.inj h2)).2
    simp only [List.cons.injEq, Value.int.injEq, and_true] at h3
    exact Prod.ext h3.1.symm h3.2.symm
  · have h9 := hM.inj hn' h e
    exact absurd rfl h9
theorem insP_posG {rk : Nat → Int32 × Int32} {es : List Nat} {y : Nat} {f : Nat → Bool} : ∀ k, k ≤ es.length → (∀ j z, j < k → es[j]? = some z → rkLt (rk y) (rk z) = f j) → insP rk es y k = posG f k
  | 0, _, _ => rfl
  | k + 1, hk, h => by
    have ih := insP_posG (rk := rk) (es := es) (y := y) (f := f) k (by omega) (fun j z hj => h j z (by omega))
    have hz : es[k]? = some es[k] := List.getElem?_eq_getElem (by omega)
    unfold insP posG
    rw [hz]
    simp only
    rw [h k _ (by omega) hz, ih]
theorem cmpI_neg {a b : Int32} : cmpI a b < 0 ↔ a < b := by
  unfold cmpI
  by_cases h : a < b
  · rw [if_pos h]
    exact ⟨fun _ => h, fun _ => by decide⟩
  · rw [if_neg h]
    by_cases e : a = b
    · rw [if_pos e]
      exact ⟨fun z => absurd z (by decide), fun z => absurd z h⟩
    · rw [if_neg e]
      exact ⟨fun z => absurd z (by decide), fun z => absurd z h⟩
theorem spot_rk {ν : nS} {x y : Nat} (hx : x < 2 ^ 31) (hy : y < 2 ^ 31) (h1 : w0N ν x < 2 ^ 31) (h2 : w0N ν y < 2 ^ 31) : rkLt (nI (w0N ν x), nI x) (nI (w0N ν y), nI y) = spotB ν x y := by
  unfold rkLt spotB
  simp only
  rw [Bool.eq_iff_iff]
  simp only [Bool.or_eq_true, Bool.and_eq_true, decide_eq_true_eq]
  rw [cmpI_neg, cmpI_neg, nI_ltI h1 h2, nI_eq h1 h2, nI_ltI hx hy]
theorem neg_lt {a b : Nat} (ha : a < 2 ^ 31) (hb : b < 2 ^ 31) : -(nI a) < -(nI b) ↔ b < a := by
  rw [Int32.lt_iff_toInt_lt, i32_neg_toInt (by rw [nI_toInt ha]; omega), i32_neg_toInt (by rw [nI_toInt hb]; omega), nI_toInt ha, nI_toInt hb]
  omega
theorem rank_rk {ν : nS} {q r : Nat} (hq : q < 2 ^ 31) (hr : r < q) (h1 : tvN ν q < 2 ^ 31) (h2 : tvN ν r < 2 ^ 31) : rkLt (-(nI (tvN ν q)), nI q) (-(nI (tvN ν r)), nI r) = rankB ν q r := by
  unfold rkLt rankB
  simp only
  rw [Bool.eq_iff_iff]
  simp only [Bool.or_eq_true, Bool.and_eq_true, decide_eq_true_eq]
  rw [cmpI_neg, cmpI_neg, neg_lt h1 h2, nI_ltI hq (by omega)]
  omega
/-- the ranked objects of a list: s of the k-th, what it is worth -/
def rkL (u : xw_W) (es : List Nat) (m : Nat) (wo : Nat → Int32) (nu : Nat → Nat) (q : Nat) : Prop := es.length = m ∧ ∀ k, k < m → ∃ y n, es[k]? = some y ∧ 20 ≤ n ∧ n < 20 + 2 * q ∧ u n = some (y, .inr (3, [.int (wo (nu k)), .int (nI (nu k))]))
theorem rkL.ins {u u' : xw_W} {es : List Nat} {m j y q x n : Nat} {wo : Nat → Int32} {nu : Nat → Nat} (h : rkL u es m wo nu q) (hj : j ≤ m) (hu : ∀ n, 20 ≤ n → n < 20 + 2 * q → u' n = u n) (hn : 20 ≤ n ∧ n < 20 + 2 * (q + 1)) (hy : u' n = some (y, .inr (3, [.int (wo x), .int (nI x)]))) : rkL u' (es.take j ++ y :: es.drop j) (m + 1) wo (insF nu x j) (q + 1) := by
  obtain ⟨h1, h2⟩ := h
  refine ⟨by rw [List.length_append, List.length_take, List.length_cons, List.length_drop, h1]; omega, fun k hk => ?_⟩
  have lt : (es.take j).length = j := by rw [List.length_take, h1]; omega
  unfold insF
  by_cases c1 : k < j
  · obtain ⟨y1, n1, e1, e2, e3, e4⟩ := h2 k (by omega)
    refine ⟨y1, n1, ?_, e2, by omega, ?_⟩
    · rw [List.getElem?_append_left (by omega), List.getElem?_take_of_lt c1]
      exact e1
    · rw [if_pos c1, hu n1 e2 e3]
      exact e4
  · rw [if_neg c1]
    by_cases c2 : k = j
    · subst c2
      refine ⟨y, n, ?_, hn.1, hn.2, ?_⟩
      · rw [List.getElem?_append_right (by omega), lt, Nat.sub_self]
        rfl
      · rw [if_pos rfl]
        exact hy
    · rw [if_neg c2]
      obtain ⟨y1, n1, e1, e2, e3, e4⟩ := h2 (k - 1) (by omega)
      refine ⟨y1, n1, ?_, e2, by omega, by rw [hu n1 e2 e3]; exact e4⟩
      rw [List.getElem?_append_right (by omega), lt, show k - j = (k - j - 1) + 1 by omega, List.getElem?_cons_succ, List.getElem?_drop]
      rw [show j + (k - j - 1) = k - 1 by omega]
      exact e1
theorem applyF_lt {ν : nS} (hV : vOk ν) : ∀ k, k ≤ (layF ν 20).1 → ∀ p, p < 20 → (applyF ν k).2 p < 600
  | 0, _, p, hp => vPl_lt hV hp
  | k + 1, hk, p, hp => by
    have ih := applyF_lt hV k (by omega) p hp
    show va_up (applyF ν k).2 ((layF ν 20).2.1 k) ((layF ν 20).2.2 k) p < 600
    by_cases e : p = (layF ν 20).2.1 k
    · rw [e, va_up_s]
      obtain ⟨-, x, hx, h2, h3⟩ := (layF_in (ν := ν) 20).2 k (by omega)
      rw [h2]
      exact vPl_lt hV hx
    · rw [va_up_n e]
      exact ih
theorem applyF_n {ν : nS} : ∀ k, (applyF ν k).1 ≤ k
  | 0 => Nat.le_refl _
  | k + 1 => by
    have ih := applyF_n (ν := ν) k
    show (applyF ν k).1 + _ ≤ k + 1
    split <;> omega
theorem posG_congr {f f' : Nat → Bool} : ∀ k, (∀ j, j < k → f j = f' j) → posG f k = posG f' k
  | 0, _ => rfl
  | k + 1, h => by
    have ih := posG_congr (f := f) (f' := f') k (fun j hj => h j (by omega))
    unfold posG
    rw [h k (by omega), ih]
set_option maxHeartbeats 2000000 in
theorem xk_layOut (l : Launch) (hlt : l.stackTraces = false) (g : xg) (A : Nat → Prop) (w : xw_W) (ν : nS) (x0 : Nat) (h : xI g ν x0 w) :
    vx_Met l yX1_layOut (ws_ yX1_layOut cX1_layOut 6 (some .int)) (xrm 8 83 2492) (xPw g A w [.ref x0]) (opQi g A x0 (opLayOut ν)) (opQX g A w [eIS] (opLayOut ν)) 83 2492 A := by
  obtain ⟨hO, ad, β, rfl, hβ, hX⟩ := id h
  have h0 := hX.obj
  have hB40 := hO.B
  have hV := hO.V
  have tmp : ∀ n, 11 ≤ n → n < 100 → w n = none := fun n h1 h2 => hX.tmp h1 h2
  obtain ⟨fp, hfp, hfpv⟩ := hX.pl
  obtain ⟨ft, hft, hftv⟩ := hX.tu
  obtain ⟨mcw, hLw⟩ := hX.wav
  obtain ⟨d5, hd5⟩ := hLw.size
  have htv : ∀ q, tvN ν q ≤ 495 * 40 := fun q => by
    have h1 := turnN_le hV (q := q) (vC ν 4) (Nat.le_refl _)
    have h2 := hO.N
    show turnN ν q (vC ν 4) ≤ _
    omega
  have hw0 : ∀ v, okPl (vC ν 0) (vC ν 1) v → w0N ν v < 1000 := by
    intro v hv
    have hG := hV.2.2.1.2
    have h6 := (hv.lt hV.1.2 hV.2.1.2).1
    have h7 : v % 100 < 100 := Nat.mod_lt _ (by decide)
    have h8 : vC ν 2 * (v / 100) ≤ 9 * 5 := Nat.mul_le_mul hG (by omega)
    show wayN (vC ν 2) (vC ν 1) 0 v < 1000
    rw [← w0_eq hv hV]
    omega
  refine x_startX rfl (Nat.le_of_ble_eq_true rfl) ?_
  intro p e s m below meth c hx hb hr hlk hml hxt hown hts hnm hE hM hS ls hl
  have hF : xFix p m c cX1_layOut 6 s _ RX1 := ⟨hx, hb, hml, hown, hts⟩
  generalize hargs : List.toArray _ = args at hts hF ⊢
  generalize hQ : vx_MQ below _ _ _ s _ _ A = Q
  refine lv_aload_n hx hb dX1_layOut_0 rfl (lh_at hl rfl) ?_
  refine xr_get (C := RX1) (T := TX1) (N := 12) (ci := 0) (n := 0) hx hb hts in_X1 hown hE hM (by first | assumption | exact va_up_s | rfl | (refine (va_up_n ?_).trans ?_; rotate_left; (first | assumption | exact va_up_s | rfl | (refine (va_up_n ?_).trans ?_; rotate_left; (first | assumption | exact va_up_s | rfl | (refine (va_up_n ?_).trans ?_; rotate_left; (first | assumption | exact va_up_s | rfl | (refine (va_up_n ?_).trans ?_; rotate_left; (first | assumption | exact va_up_s | rfl | (refine (va_up_n ?_).trans ?_; rotate_left; (assumption); omega)); omega)); omega)); omega)); omega)) rfl 6 (by decide) (hts _ q147) (fun _ h => h) rfl dX1_layOut_1 ?_
  refine x_callFi (x_runF (As := []) hF hE hS hM hl (jk_isEmpty l g A w 5 6 (ad 5) 5 mcw _ hLw) (xw.recv hE hM (by first | assumption | exact va_up_s | rfl | (refine (va_up_n ?_).trans ?_; rotate_left; (first | assumption | exact va_up_s | rfl | (refine (va_up_n ?_).trans ?_; rotate_left; (first | assumption | exact va_up_s | rfl | (refine (va_up_n ?_).trans ?_; rotate_left; (first | assumption | exact va_up_s | rfl | (refine (va_up_n ?_).trans ?_; rotate_left; (first | assumption | exact va_up_s | rfl | (refine (va_up_n ?_).trans ?_; rotate_left; (assumption); omega)); omega)); omega)); omega)); omega)) rfl) (xw.at hE (ci := 6) rfl) (List.mem_of_getElem? (i := 1) rfl) q564 q569 q567 q41 q571 ⟨by decide +kernel, by decide +kernel, by show _ = some 0; decide +kernel⟩ rfl rfl ⟨Nat.le_of_ble_eq_true rfl, Nat.le_of_ble_eq_true rfl⟩ rfl (Nat.le_of_ble_eq_true rfl) dX1_layOut_4 ⟨Nat.le_of_ble_eq_true rfl, Nat.le_of_ble_eq_true rfl⟩) hS (fun r uu H locs hq2 hM hS => ?_)
  rw [bL_len] at hq2
  refine xr_ldc hx hb hown hE (i := 6) (k := 149) rfl dX1_layOut_9 ?_
  by_cases hz : vC ν 5 = 0
  · rw [if_pos hz] at hq2
    rw [hq2]
    have hop : opLayOut ν = (0, nI (applyF ν (layF ν 20).1).1, vSetPl ν (applyF ν (layF ν 20).1).2) := by
      unfold opLayOut
      rw [if_neg (by omega)]
    refine x_tcallv (x_runSX (As := [.int 1, .ref (g.2 (100 + 149))]) hF hE hS hM hl (xk_must l hlt g A w 1 (g.2 (100 + 149))) q573 q574 q38 q575 ⟨by decide +kernel, by decide +kernel, by show _ = some 2; decide +kernel⟩ rfl rfl ⟨Nat.le_of_ble_eq_true rfl, Nat.le_of_ble_eq_true rfl⟩ rfl (Nat.le_of_ble_eq_true rfl) dX1_layOut_11 ⟨Nat.le_of_ble_eq_true rfl, Nat.le_of_ble_eq_true rfl⟩) hS hQ hxt hlk (Nat.le_of_ble_eq_true rfl) (Nat.le_of_ble_eq_true rfl) (fun E9 H9 hE9 hP9 => ?_) (fun uu H locs hq hM hS => ?_)
    · exact absurd hE9.2 (by decide)
    · refine xr_new hx hb hts in_J2 tyJ2 tyJ2_ok hown (hts _ q79) (hts _ q80) (hts _ q41) hE hM hS 12 (ci := 6) (fs := [.int 0, .null, .int 0]) rfl (by decide) (Nat.le_of_ble_eq_true rfl) (Nat.le_of_ble_eq_true rfl) dX1_layOut_14 (fun a1 H ha1 hM hS => ?_)
      refine lv_dup hx hb dX1_layOut_17 rfl ?_
      refine x_callv (x_runI (As := []) hF hE hS hM hl (jk_init l g A _ 12 a1 .null 0 va_up_s) q81 q82 q41 q83 rfl ⟨by decide +kernel, by decide +kernel, by show _ = some 0; decide +kernel⟩ rfl rfl ⟨Nat.le_of_ble_eq_true rfl, Nat.le_of_ble_eq_true rfl⟩ rfl (Nat.le_of_ble_eq_true rfl) dX1_layOut_18 ⟨Nat.le_of_ble_eq_true rfl, Nat.le_of_ble_eq_true rfl⟩) hS (fun u1 H locs hq3 hM hS => ?_)
      rw [hq3, va_up_up] at hM
      refine x_astore_n hx hb dX1_layOut_21 rfl hl (by decide) (fun ls hl => ?_)
      refine xr_new hx hb hts in_J2 tyJ2 tyJ2_ok hown (hts _ q79) (hts _ q80) (hts _ q41) hE hM hS 14 (ci := 6) (fs := [.int 0, .null, .int 0]) rfl (by decide) (Nat.le_of_ble_eq_true rfl) (Nat.le_of_ble_eq_true rfl) dX1_layOut_22 (fun a2 H ha2 hM hS => ?_)
      refine lv_dup hx hb dX1_layOut_25 rfl ?_
      refine x_callv (x_runI (As := []) hF hE hS hM hl (jk_init l g A _ 14 a2 .null 0 va_up_s) q81 q82 q41 q83 rfl ⟨by decide +kernel, by decide +kernel, by show _ = some 0; decide +kernel⟩ rfl rfl ⟨Nat.le_of_ble_eq_true rfl, Nat.le_of_ble_eq_true rfl⟩ rfl (Nat.le_of_ble_eq_true rfl) dX1_layOut_26 ⟨Nat.le_of_ble_eq_true rfl, Nat.le_of_ble_eq_true rfl⟩) hS (fun u2 H locs hq4 hM hS => ?_)
      rw [hq4, va_up_up] at hM
      clear hq3 hq4
      refine x_astore_n hx hb dX1_layOut_29 rfl hl (by decide) (fun ls hl => ?_)
      refine n_const hx hb 0 dX1_layOut_30 (by decide +kernel) ?_
      refine x_istore_n hx hb dX1_layOut_31 rfl hl (by decide) (fun ls hl => ?_)
      have J : ∀ (n q : Nat), q ≤ 20 → 20 < q + n → ∀ (cells slots : Nat) (u : xw_W) (es1 es2 : List Nat) (mc1 mc2 : Int32) (H : Heap) (locs : List Loc) (ls : Array Slot), cells ≤ 3 + 4 * q → slots ≤ 12 + 124 * q → xw g A u H → va_S A s.heap H locs →
          (∀ n, n < 12 ∨ 60 ≤ n → u n = w n) → u 11 = none → (∀ n, 20 + 2 * q ≤ n → n < 60 → u n = none) → xLs g u 12 13 a1 mc1 3 es1 → xLs g u 14 15 a2 mc2 3 es2 → (∀ n, n = 13 ∨ n = 15 → ∀ b c fs, u n = some (b, .inr (c, fs)) → False) →
          rkL u es1 (layF ν q).1 (fun v => nI (w0N ν v)) (layF ν q).2.2 q → rkL u es2 (layF ν q).1 (fun r => -(nI (tvN ν r))) (layF ν q).2.1 q → lh ls 6 (xl [(0, .ref (ad 0)), (1, .ref a1), (2, .ref a2), (3, .int (nI q))]) → W p l e (xrm 8 83 2492) s m args below meth c H locs cells slots Q (F0 m 32 ls []) := by
        intro n
        induction n with
        | zero => intro q h1 h2; exact absurd h2 (by omega)
        | succ n ih =>
          intro q h1 h2 cells slots u es1 es2 mc1 mc2 H locs ls hc1 hc2 hM hS hU hU11 hUn hL1 hL2 hdat hk1 hk2 hl
          have u0 : u 0 = some (ad 0, .inr (0, fX ad ν (nI (vC ν 6)) (nI (vC ν 7)))) := (hU 0 (by omega)).trans h0
          have u1 : u 1 = some (ad 1, .inl (g.2 0, 20, .inl fp)) := (hU 1 (by omega)).trans hfp
          have u2 : u 2 = some (ad 2, .inl (g.2 0, 20, .inl ft)) := (hU 2 (by omega)).trans hft
          refine lv_iload_n hx hb dX1_layOut_32 rfl (lh_at hl rfl) ?_
          refine n_bipush hx hb 20 dX1_layOut_33 (by decide +kernel) ?_
          refine n_icmp_ge (tgt := 98) hx hb dX1_layOut_35 (by decide) (by omega) (by omega) (fun c1 => ?_) (fun c1 => ?_)
          · have e20 : q = 20 := by omega
            subst e20
            obtain ⟨e1, r1⟩ := hk1
            obtain ⟨e2, r2⟩ := hk2
            have hm20 := (layF_in (ν := ν) 20).1
            have hlin := (layF_in (ν := ν) 20).2
            obtain ⟨d1, hd1⟩ := hL1.size
            obtain ⟨d2, hd2⟩ := hL2.size
            refine n_const hx hb 0 dX1_layOut_98 (by decide +kernel) ?_
            refine x_istore_n hx hb dX1_layOut_99 rfl hl (by decide) (fun ls hl => ?_)
            refine n_const hx hb 0 dX1_layOut_100 (by decide +kernel) ?_
            refine x_istore hx hb dX1_layOut_101 hl (by decide) (fun ls hl => ?_)
            refine W.widen (k := 83) (n := 2492) (by omega) (by omega) ?_
            have K : ∀ (n2 k : Nat), k ≤ (layF ν 20).1 → (layF ν 20).1 < k + n2 → ∀ (f : Nat → Int32) (H : Heap) (locs : List Loc) (ls : Array Slot), (∀ p, p < 20 → f p = eP ((applyF ν k).2 p)) → xw g A (va_up u 1 (some (ad 1, .inl (g.2 0, 20, .inl f)))) H → va_S A s.heap H locs → lh ls 6 (xl [(0, .ref (ad 0)), (1, .ref a1), (2, .ref a2), (3, .int (nI (applyF ν k).1)), (4, .int (nI k))]) → W p l e (xrm 8 83 2492) s m args below meth c H locs 83 2492 Q (F0 m 103 ls []) := by
              intro n2
              induction n2 with
              | zero => intro k h1 h2; exact absurd h2 (by omega)
              | succ n2 ih2 =>
                intro k k1 k2 f H locs ls hf hM hS hl
                have cU : ∀ y fs, u 1 = some (y, .inr (3, fs)) → ∃ fs', (some (ad 1, (.inl (g.2 0, 20, .inl f) : va_E)) : Option (Nat × va_E)) = some (y, .inr (3, fs')) := fun y fs e => by
                  rw [u1] at e
                  cases e
                have hL1u : xLs g (va_up u 1 (some (ad 1, .inl (g.2 0, 20, .inl f)))) 12 13 a1 mc1 3 es1 := hL1.up (by decide) (by decide) cU
                have hL2u : xLs g (va_up u 1 (some (ad 1, .inl (g.2 0, 20, .inl f)))) 14 15 a2 mc2 3 es2 := hL2.up (by decide) (by decide) cU
                obtain ⟨d1u, hd1u⟩ := hL1u.size
                obtain ⟨d2u, hd2u⟩ := hL2u.size
                refine lv_iload hx hb dX1_layOut_103 (lh_at hl rfl) ?_
                refine lv_aload_n hx hb dX1_layOut_105 rfl (lh_at hl rfl) ?_
                refine x_callFi (x_runF (As := []) hF hE hS hM hl (jk_size l g A _ 12 13 a1 3 mc1 es1 hL1u) (xw.recv hE hM (by first | assumption | exact va_up_s | rfl | (refine (va_up_n ?_).trans ?_; rotate_left; (first | assumption | exact va_up_s | rfl | (refine (va_up_n ?_).trans ?_; rotate_left; (first | assumption | exact va_up_s | rfl | (refine (va_up_n ?_).trans ?_; rotate_left; (first | assumption | exact va_up_s | rfl | (refine (va_up_n ?_).trans ?_; rotate_left; (first | assumption | exact va_up_s | rfl | (refine (va_up_n ?_).trans ?_; rotate_left; (assumption); omega)); omega)); omega)); omega)); omega)) rfl) (xw.at hE (ci := 6) rfl) (List.mem_of_getElem? (i := 0) rfl) q183 q189 q187 q41 q191 ⟨by decide +kernel, by decide +kernel, by show _ = some 0; decide +kernel⟩ rfl rfl ⟨Nat.le_of_ble_eq_true rfl, Nat.le_of_ble_eq_true rfl⟩ rfl (Nat.le_of_ble_eq_true rfl) dX1_layOut_106 ⟨Nat.le_of_ble_eq_true rfl, Nat.le_of_ble_eq_true rfl⟩) hS (fun r uu H locs hq hM hS => ?_)
                rw [hq, e1]
                refine n_icmp_ge (tgt := 189) hx hb dX1_layOut_111 (by decide) (by omega) (by omega) (fun c2 => ?_) (fun c2 => ?_)
                · have ek : k = (layF ν 20).1 := by omega
                  subst ek
                  refine lv_iload_n hx hb dX1_layOut_189 rfl (lh_at hl rfl) ?_
                  have hMf : xw g A (va_up w 1 (some (ad 1, .inl (g.2 0, 20, .inl f)))) H := hM.mono (fun n q hn => by
                    by_cases en : n = 1
                    · rw [en, va_up_s] at hn ⊢
                      exact hn
                    · rw [va_up_n en] at hn ⊢
                      by_cases hr : n < 12 ∨ 60 ≤ n
                      · rw [hU n hr]
                        exact hn
                      · rw [tmp n (by omega) (by omega)] at hn
                        cases hn)
                  exact hQ ▸ vx_ret (x_iret hx hb hr hlk hS _ ⟨by rw [hop], by rw [hop], by rw [hop]; exact fun hV2 => ⟨hO.pl hV2, ad, β, rfl, hβ, hX.setPl hf⟩⟩ hMf dX1_layOut_190)
                · have hk : k < (layF ν 20).1 := by omega
                  obtain ⟨y1, n1, g1, g2, g3, g4⟩ := r1 k hk
                  obtain ⟨y2, n3, f1, f2, f3, f4⟩ := r2 k hk
                  obtain ⟨l1, x, l2, l3, l4⟩ := hlin k hk
                  have hx6 := vPl_lt hV l2
                  have hap := applyF_lt hV k (by omega) _ l1
                  have gy1 : va_up u 1 (some (ad 1, .inl (g.2 0, 20, .inl f))) n1 = some (y1, .inr (3, [.int (nI (w0N ν ((layF ν 20).2.2 k))), .int (nI ((layF ν 20).2.2 k))])) := (va_up_n (by omega)).trans g4
                  have gy2 : va_up u 1 (some (ad 1, .inl (g.2 0, 20, .inl f))) n3 = some (y2, .inr (3, [.int (-(nI (tvN ν ((layF ν 20).2.1 k)))), .int (nI ((layF ν 20).2.1 k))])) := (va_up_n (by omega)).trans f4
                  have gu0 : va_up u 1 (some (ad 1, .inl (g.2 0, 20, .inl f))) 0 = some (ad 0, .inr (0, fX ad ν (nI (vC ν 6)) (nI (vC ν 7)))) := (va_up_n (by decide)).trans u0
                  refine lv_aload_n hx hb dX1_layOut_114 rfl (lh_at hl rfl) ?_
                  refine lv_iload hx hb dX1_layOut_115 (lh_at hl rfl) ?_
                  refine x_callFr (x_runF (As := [.int (nI k)]) hF hE hS hM hl (jk_get l g A _ 14 15 a2 3 k y2 mc2 es2 hL2u f1) (xw.recv hE hM (by first | assumption | exact va_up_s | rfl | (refine (va_up_n ?_).trans ?_; rotate_left; (first | assumption | exact va_up_s | rfl | (refine (va_up_n ?_).trans ?_; rotate_left; (first | assumption | exact va_up_s | rfl | (refine (va_up_n ?_).trans ?_; rotate_left; (first | assumption | exact va_up_s | rfl | (refine (va_up_n ?_).trans ?_; rotate_left; (first | assumption | exact va_up_s | rfl | (refine (va_up_n ?_).trans ?_; rotate_left; (assumption); omega)); omega)); omega)); omega)); omega)) rfl) (xw.at hE (ci := 6) rfl) (List.mem_of_getElem? (i := 2) rfl) q621 q626 q624 q41 q628 ⟨by decide +kernel, by decide +kernel, by show _ = some 1; decide +kernel⟩ rfl rfl ⟨Nat.le_of_ble_eq_true rfl, Nat.le_of_ble_eq_true rfl⟩ rfl (Nat.le_of_ble_eq_true rfl) dX1_layOut_117 ⟨Nat.le_of_ble_eq_true rfl, Nat.le_of_ble_eq_true rfl⟩) hS (fun uu ra H locs hq hM hS => ?_)
                  obtain ⟨hra, hM⟩ := hM
                  rw [hra]
                  refine xr_cast (n := n3) (r := (RX4, TX4, 2)) (ci := 3) hx hb hown hE hM (by first | assumption | exact va_up_s | rfl | (refine (va_up_n ?_).trans ?_; rotate_left; (first | assumption | exact va_up_s | rfl | (refine (va_up_n ?_).trans ?_; rotate_left; (first | assumption | exact va_up_s | rfl | (refine (va_up_n ?_).trans ?_; rotate_left; (first | assumption | exact va_up_s | rfl | (refine (va_up_n ?_).trans ?_; rotate_left; (first | assumption | exact va_up_s | rfl | (refine (va_up_n ?_).trans ?_; rotate_left; (assumption); omega)); omega)); omega)); omega)); omega)) rfl (hts _ q599) dX1_layOut_122 ?_
                  refine xr_getN (C := RX4) (T := TX4) (N := 2) (ci := 3) (n := n3) hx hb hts in_X4 hown hE hM (by first | assumption | exact va_up_s | rfl | (refine (va_up_n ?_).trans ?_; rotate_left; (first | assumption | exact va_up_s | rfl | (refine (va_up_n ?_).trans ?_; rotate_left; (first | assumption | exact va_up_s | rfl | (refine (va_up_n ?_).trans ?_; rotate_left; (first | assumption | exact va_up_s | rfl | (refine (va_up_n ?_).trans ?_; rotate_left; (first | assumption | exact va_up_s | rfl | (refine (va_up_n ?_).trans ?_; rotate_left; (assumption); omega)); omega)); omega)); omega)); omega)) rfl 1 (by decide) q611 (fun _ h => h) rfl dX1_layOut_125 ?_
                  refine x_istore hx hb dX1_layOut_128 hl (by decide) (fun ls hl => ?_)
                  refine lv_iload_n hx hb dX1_layOut_130 rfl (lh_at hl rfl) ?_
                  refine lv_aload_n hx hb dX1_layOut_131 rfl (lh_at hl rfl) ?_
                  refine xr_get (C := RX1) (T := TX1) (N := 12) (ci := 0) (n := 0) hx hb hts in_X1 hown hE hM (by first | assumption | exact va_up_s | rfl | (refine (va_up_n ?_).trans ?_; rotate_left; (first | assumption | exact va_up_s | rfl | (refine (va_up_n ?_).trans ?_; rotate_left; (first | assumption | exact va_up_s | rfl | (refine (va_up_n ?_).trans ?_; rotate_left; (first | assumption | exact va_up_s | rfl | (refine (va_up_n ?_).trans ?_; rotate_left; (first | assumption | exact va_up_s | rfl | (refine (va_up_n ?_).trans ?_; rotate_left; (assumption); omega)); omega)); omega)); omega)); omega)) rfl 3 (by decide) (hts _ q143) (fun _ h => h) rfl dX1_layOut_132 ?_
                  refine lv_iload hx hb dX1_layOut_135 (lh_at hl rfl) ?_
                  refine xr_iald (n := 1) hx hb hE hM (by first | assumption | exact va_up_s | rfl | (refine (va_up_n ?_).trans ?_; rotate_left; (first | assumption | exact va_up_s | rfl | (refine (va_up_n ?_).trans ?_; rotate_left; (first | assumption | exact va_up_s | rfl | (refine (va_up_n ?_).trans ?_; rotate_left; (first | assumption | exact va_up_s | rfl | (refine (va_up_n ?_).trans ?_; rotate_left; (first | assumption | exact va_up_s | rfl | (refine (va_up_n ?_).trans ?_; rotate_left; (assumption); omega)); omega)); omega)); omega)); omega)) (by omega) (by first | decide | omega) (by exact hf _ l1) dX1_layOut_137 ?_
                  refine lv_aload_n hx hb dX1_layOut_138 rfl (lh_at hl rfl) ?_
                  refine lv_iload hx hb dX1_layOut_139 (lh_at hl rfl) ?_
                  refine x_callFr (x_runF (As := [.int (nI k)]) hF hE hS hM hl (jk_get l g A _ 12 13 a1 3 k y1 mc1 es1 hL1u g1) (xw.recv hE hM (by first | assumption | exact va_up_s | rfl | (refine (va_up_n ?_).trans ?_; rotate_left; (first | assumption | exact va_up_s | rfl | (refine (va_up_n ?_).trans ?_; rotate_left; (first | assumption | exact va_up_s | rfl | (refine (va_up_n ?_).trans ?_; rotate_left; (first | assumption | exact va_up_s | rfl | (refine (va_up_n ?_).trans ?_; rotate_left; (first | assumption | exact va_up_s | rfl | (refine (va_up_n ?_).trans ?_; rotate_left; (assumption); omega)); omega)); omega)); omega)); omega)) rfl) (xw.at hE (ci := 6) rfl) (List.mem_of_getElem? (i := 2) rfl) q621 q626 q624 q41 q628 ⟨by decide +kernel, by decide +kernel, by show _ = some 1; decide +kernel⟩ rfl rfl ⟨Nat.le_of_ble_eq_true rfl, Nat.le_of_ble_eq_true rfl⟩ rfl (Nat.le_of_ble_eq_true rfl) dX1_layOut_141 ⟨Nat.le_of_ble_eq_true rfl, Nat.le_of_ble_eq_true rfl⟩) hS (fun uu ra H locs hq hM hS => ?_)
                  obtain ⟨hra, hM⟩ := hM
                  rw [hra]
                  refine xr_cast (n := n1) (r := (RX4, TX4, 2)) (ci := 3) hx hb hown hE hM (by first | assumption | exact va_up_s | rfl | (refine (va_up_n ?_).trans ?_; rotate_left; (first | assumption | exact va_up_s | rfl | (refine (va_up_n ?_).trans ?_; rotate_left; (first | assumption | exact va_up_s | rfl | (refine (va_up_n ?_).trans ?_; rotate_left; (first | assumption | exact va_up_s | rfl | (refine (va_up_n ?_).trans ?_; rotate_left; (first | assumption | exact va_up_s | rfl | (refine (va_up_n ?_).trans ?_; rotate_left; (assumption); omega)); omega)); omega)); omega)); omega)) rfl (hts _ q599) dX1_layOut_146 ?_
                  refine xr_getN (C := RX4) (T := TX4) (N := 2) (ci := 3) (n := n1) hx hb hts in_X4 hown hE hM (by first | assumption | exact va_up_s | rfl | (refine (va_up_n ?_).trans ?_; rotate_left; (first | assumption | exact va_up_s | rfl | (refine (va_up_n ?_).trans ?_; rotate_left; (first | assumption | exact va_up_s | rfl | (refine (va_up_n ?_).trans ?_; rotate_left; (first | assumption | exact va_up_s | rfl | (refine (va_up_n ?_).trans ?_; rotate_left; (first | assumption | exact va_up_s | rfl | (refine (va_up_n ?_).trans ?_; rotate_left; (assumption); omega)); omega)); omega)); omega)); omega)) rfl 1 (by decide) q611 (fun _ h => h) rfl dX1_layOut_149 ?_
                  have e9 : eP ((applyF ν k).2 ((layF ν 20).2.1 k)) = nI ((layF ν 20).2.2 k) ↔ (applyF ν k).2 ((layF ν 20).2.1 k) = (layF ν 20).2.2 k := eP_nI (by omega) (by omega) (by omega)
                  have nx : ∀ (d : Nat), (d = if (applyF ν k).2 ((layF ν 20).2.1 k) = (layF ν 20).2.2 k then 0 else 1) → ∀ (H : Heap) (locs : List Loc) (ls : Array Slot), xw g A (va_up u 1 (some (ad 1, .inl (g.2 0, 20, .inl f)))) H → va_S A s.heap H locs → lh ls 6 (xl [(0, .ref (ad 0)), (1, .ref a1), (2, .ref a2), (4, .int (nI k)), (5, .int (nI ((layF ν 20).2.1 k)))]) → W p l e (xrm 8 83 2492) s m args below meth c H locs 83 2492 Q (F0 m 160 ls [.int (nI d), .int (nI (applyF ν k).1)]) := by
                    intro d hd H locs ls hM hS hl
                    refine n_iadd hx hb dX1_layOut_160 ?_
                    refine x_istore_n hx hb dX1_layOut_161 rfl hl (by decide) (fun ls hl => ?_)
                    refine lv_aload_n hx hb dX1_layOut_162 rfl (lh_at hl rfl) ?_
                    refine xr_get (C := RX1) (T := TX1) (N := 12) (ci := 0) (n := 0) hx hb hts in_X1 hown hE hM (by first | assumption | exact va_up_s | rfl | (refine (va_up_n ?_).trans ?_; rotate_left; (first | assumption | exact va_up_s | rfl | (refine (va_up_n ?_).trans ?_; rotate_left; (first | assumption | exact va_up_s | rfl | (refine (va_up_n ?_).trans ?_; rotate_left; (first | assumption | exact va_up_s | rfl | (refine (va_up_n ?_).trans ?_; rotate_left; (first | assumption | exact va_up_s | rfl | (refine (va_up_n ?_).trans ?_; rotate_left; (assumption); omega)); omega)); omega)); omega)); omega)) rfl 3 (by decide) (hts _ q143) (fun _ h => h) rfl dX1_layOut_163 ?_
                    refine lv_iload hx hb dX1_layOut_166 (lh_at hl rfl) ?_
                    refine lv_aload_n hx hb dX1_layOut_168 rfl (lh_at hl rfl) ?_
                    refine lv_iload hx hb dX1_layOut_169 (lh_at hl rfl) ?_
                    refine x_callFr (x_runF (As := [.int (nI k)]) hF hE hS hM hl (jk_get l g A _ 12 13 a1 3 k y1 mc1 es1 hL1u g1) (xw.recv hE hM (by first | assumption | exact va_up_s | rfl | (refine (va_up_n ?_).trans ?_; rotate_left; (first | assumption | exact va_up_s | rfl | (refine (va_up_n ?_).trans ?_; rotate_left; (first | assumption | exact va_up_s | rfl | (refine (va_up_n ?_).trans ?_; rotate_left; (first | assumption | exact va_up_s | rfl | (refine (va_up_n ?_).trans ?_; rotate_left; (first | assumption | exact va_up_s | rfl | (refine (va_up_n ?_).trans ?_; rotate_left; (assumption); omega)); omega)); omega)); omega)); omega)) rfl) (xw.at hE (ci := 6) rfl) (List.mem_of_getElem? (i := 2) rfl) q621 q626 q624 q41 q628 ⟨by decide +kernel, by decide +kernel, by show _ = some 1; decide +kernel⟩ rfl rfl ⟨Nat.le_of_ble_eq_true rfl, Nat.le_of_ble_eq_true rfl⟩ rfl (Nat.le_of_ble_eq_true rfl) dX1_layOut_171 ⟨Nat.le_of_ble_eq_true rfl, Nat.le_of_ble_eq_true rfl⟩) hS (fun uu ra H locs hq hM hS => ?_)
                    obtain ⟨hra, hM⟩ := hM
                    rw [hra]
                    refine xr_cast (n := n1) (r := (RX4, TX4, 2)) (ci := 3) hx hb hown hE hM (by first | assumption | exact va_up_s | rfl | (refine (va_up_n ?_).trans ?_; rotate_left; (first | assumption | exact va_up_s | rfl | (refine (va_up_n ?_).trans ?_; rotate_left; (first | assumption | exact va_up_s | rfl | (refine (va_up_n ?_).trans ?_; rotate_left; (first | assumption | exact va_up_s | rfl | (refine (va_up_n ?_).trans ?_; rotate_left; (first | assumption | exact va_up_s | rfl | (refine (va_up_n ?_).trans ?_; rotate_left; (assumption); omega)); omega)); omega)); omega)); omega)) rfl (hts _ q599) dX1_layOut_176 ?_
                    refine xr_getN (C := RX4) (T := TX4) (N := 2) (ci := 3) (n := n1) hx hb hts in_X4 hown hE hM (by first | assumption | exact va_up_s | rfl | (refine (va_up_n ?_).trans ?_; rotate_left; (first | assumption | exact va_up_s | rfl | (refine (va_up_n ?_).trans ?_; rotate_left; (first | assumption | exact va_up_s | rfl | (refine (va_up_n ?_).trans ?_; rotate_left; (first | assumption | exact va_up_s | rfl | (refine (va_up_n ?_).trans ?_; rotate_left; (first | assumption | exact va_up_s | rfl | (refine (va_up_n ?_).trans ?_; rotate_left; (assumption); omega)); omega)); omega)); omega)); omega)) rfl 1 (by decide) q611 (fun _ h => h) rfl dX1_layOut_179 ?_
                    refine xr_iast (n := 1) hx hb hE hM hS (by first | assumption | exact va_up_s | rfl | (refine (va_up_n ?_).trans ?_; rotate_left; (first | assumption | exact va_up_s | rfl | (refine (va_up_n ?_).trans ?_; rotate_left; (first | assumption | exact va_up_s | rfl | (refine (va_up_n ?_).trans ?_; rotate_left; (first | assumption | exact va_up_s | rfl | (refine (va_up_n ?_).trans ?_; rotate_left; (first | assumption | exact va_up_s | rfl | (refine (va_up_n ?_).trans ?_; rotate_left; (assumption); omega)); omega)); omega)); omega)); omega)) (by omega) (by first | decide | omega) dX1_layOut_182 (fun H locs hM hS => ?_)
                    rw [va_up_up] at hM
                    refine n_iinc hx hb 1 dX1_layOut_183 hl rfl (by decide +kernel) (by decide) (fun ls hl => ?_)
                    refine lv_goto (tgt := 103) hx hb dX1_layOut_186 (by decide) ?_
                    refine ih2 (k + 1) (by omega) (by omega) _ H locs _ (fun p hp => ?_) hM hS (lh_sub hl _ ⟨rfl, rfl, rfl, ?_, rfl, trivial⟩)
                    · show upd f ((layF ν 20).2.1 k) (nI ((layF ν 20).2.2 k)) p = eP (va_up (applyF ν k).2 ((layF ν 20).2.1 k) ((layF ν 20).2.2 k) p)
                      by_cases ep : p = (layF ν 20).2.1 k
                      · rw [ep, pk_us, va_up_s, eP_pos (by omega)]
                      · rw [pk_un ep, va_up_n ep]
                        exact hf p hp
                    · show _ = some (Value.int (nI ((applyF ν k).1 + if (applyF ν k).2 ((layF ν 20).2.1 k) = (layF ν 20).2.2 k then 0 else 1)))
                      rw [← hd]
                      rfl
                  refine lv_icmp_ne (tgt := 159) hx hb dX1_layOut_152 (by decide) (fun c3 => ?_) (fun c3 => ?_)
                  · refine n_const hx hb 1 dX1_layOut_159 (by decide +kernel) ?_
                    exact nx 1 (by rw [if_neg (fun z => c3 (e9.mpr z))]) H locs _ hM hS (lh_sub hl _ ⟨rfl, rfl, rfl, rfl, rfl, trivial⟩)
                  · refine n_const hx hb 0 dX1_layOut_155 (by decide +kernel) ?_
                    refine lv_goto (tgt := 160) hx hb dX1_layOut_156 (by decide) ?_
                    exact nx 0 (by rw [if_pos (e9.mp c3)]) H locs _ hM hS (lh_sub hl _ ⟨rfl, rfl, rfl, rfl, rfl, trivial⟩)
            have hM9 : xw g A (va_up u 1 (some (ad 1, .inl (g.2 0, 20, .inl fp)))) H := hM.eq (fun n => by
              by_cases en : n = 1
              · rw [en, va_up_s, u1]
              · rw [va_up_n en])
            exact K ((layF ν 20).1 + 1) 0 (by omega) (by omega) fp H locs _ (fun p hp => hfpv p hp) hM9 hS (lh_sub hl _ ⟨rfl, rfl, rfl, rfl, rfl, trivial⟩)
          · have hq20 : q < 20 := by omega
            have hpq := vPl_lt hV hq20
            refine lv_aload_n hx hb dX1_layOut_38 rfl (lh_at hl rfl) ?_
            refine xr_get (C := RX1) (T := TX1) (N := 12) (ci := 0) (n := 0) hx hb hts in_X1 hown hE hM (by first | assumption | exact va_up_s | rfl | (refine (va_up_n ?_).trans ?_; rotate_left; (first | assumption | exact va_up_s | rfl | (refine (va_up_n ?_).trans ?_; rotate_left; (first | assumption | exact va_up_s | rfl | (refine (va_up_n ?_).trans ?_; rotate_left; (first | assumption | exact va_up_s | rfl | (refine (va_up_n ?_).trans ?_; rotate_left; (first | assumption | exact va_up_s | rfl | (refine (va_up_n ?_).trans ?_; rotate_left; (assumption); omega)); omega)); omega)); omega)); omega)) rfl 3 (by decide) (hts _ q143) (fun _ h => h) rfl dX1_layOut_39 ?_
            refine lv_iload_n hx hb dX1_layOut_42 rfl (lh_at hl rfl) ?_
            refine xr_iald (n := 1) hx hb hE hM (by first | assumption | exact va_up_s | rfl | (refine (va_up_n ?_).trans ?_; rotate_left; (first | assumption | exact va_up_s | rfl | (refine (va_up_n ?_).trans ?_; rotate_left; (first | assumption | exact va_up_s | rfl | (refine (va_up_n ?_).trans ?_; rotate_left; (first | assumption | exact va_up_s | rfl | (refine (va_up_n ?_).trans ?_; rotate_left; (first | assumption | exact va_up_s | rfl | (refine (va_up_n ?_).trans ?_; rotate_left; (assumption); omega)); omega)); omega)); omega)); omega)) (by omega) (by first | decide | omega) (by exact hfpv q hq20) dX1_layOut_43 ?_
            refine x_istore hx hb dX1_layOut_44 hl (by decide) (fun ls hl => ?_)
            refine lv_iload hx hb dX1_layOut_46 (lh_at hl rfl) ?_
            refine lv_iconst (v := -1) hx hb dX1_layOut_48 (by decide +kernel) ?_
            refine lv_icmp_eq (tgt := 92) hx hb dX1_layOut_49 (by decide) (fun c2 => ?_) (fun c2 => ?_)
            · have hp0 : vPl ν q = 0 := (eP_m1 (by omega)).mp c2
              have hlay : layF ν (q + 1) = layF ν q := by
                conv => lhs; unfold layF
                rw [if_pos hp0]
              refine n_iinc hx hb 1 dX1_layOut_92 hl rfl (by decide +kernel) (by decide) (fun ls hl => ?_)
              refine lv_goto (tgt := 32) hx hb dX1_layOut_95 (by decide) ?_
              refine ih (q + 1) (by omega) (by omega) _ _ u es1 es2 mc1 mc2 H locs _ (by omega) (by omega) hM hS hU hU11 (fun n n1 n2 => hUn n (by omega) n2) hL1 hL2 hdat ?_ ?_ (lh_sub hl _ ⟨rfl, rfl, rfl, rfl, trivial⟩)
              · rw [hlay]
                exact ⟨hk1.1, fun k hk => by
                  obtain ⟨y, n, a, b, c, d⟩ := hk1.2 k hk
                  exact ⟨y, n, a, b, by omega, d⟩⟩
              · rw [hlay]
                exact ⟨hk2.1, fun k hk => by
                  obtain ⟨y, n, a, b, c, d⟩ := hk2.2 k hk
                  exact ⟨y, n, a, b, by omega, d⟩⟩
            · have hp0 : vPl ν q ≠ 0 := fun z => c2 ((eP_m1 (by omega)).mpr z)
              have hok := (hV.2.2.2.2.2.2.1 q hq20).resolve_left hp0
              rw [eP_pos hp0] at hl
              have hlay : layF ν (q + 1) = ((layF ν q).1 + 1, insF (layF ν q).2.1 q (posG (fun k => rankB ν q ((layF ν q).2.1 k)) (layF ν q).1), insF (layF ν q).2.2 (vPl ν q) (posG (fun k => spotB ν (vPl ν q) ((layF ν q).2.2 k)) (layF ν q).1)) := by
                conv => lhs; unfold layF
                rw [if_neg hp0]
              have hlq := (layF_in (ν := ν) q).2
              have hmq := (layF_in (ν := ν) q).1
              refine lv_aload_n hx hb dX1_layOut_52 rfl (lh_at hl rfl) ?_
              refine lv_aload_n hx hb dX1_layOut_53 rfl (lh_at hl rfl) ?_
              refine xr_new hx hb hts in_X4 tyX4 tyX4_ok hown (hts _ q599) (hts _ q600) (hts _ q63) hE hM hS (20 + 2 * q) (ci := 3) (fs := [.int 0, .int 0]) rfl (by decide) (by show (_ : Nat) ≤ 83; omega) (by show (_ : Nat) ≤ 2492; omega) dX1_layOut_54 (fun b1 H hb1 hM hS => ?_)
              have v0 : va_up u (20 + 2 * q) (some (b1, .inr (3, [.int 0, .int 0]))) 0 = some (ad 0, .inr (0, fX ad ν (nI (vC ν 6)) (nI (vC ν 7)))) := (va_up_n (by omega)).trans u0
              refine lv_dup hx hb dX1_layOut_57 rfl ?_
              refine lv_aload_n hx hb dX1_layOut_58 rfl (lh_at hl rfl) ?_
              refine lv_iload hx hb dX1_layOut_59 (lh_at hl rfl) ?_
              refine x_calli (x_runV (As := [.int (nI (vPl ν q))]) hF hE hS hM hl (xk_fromStart l g A _ (ad 0) (vPl ν q) ν ad _ _ v0 (by omega)) (xw.recv hE hM (by first | assumption | exact va_up_s | rfl | (refine (va_up_n ?_).trans ?_; rotate_left; (first | assumption | exact va_up_s | rfl | (refine (va_up_n ?_).trans ?_; rotate_left; (first | assumption | exact va_up_s | rfl | (refine (va_up_n ?_).trans ?_; rotate_left; (first | assumption | exact va_up_s | rfl | (refine (va_up_n ?_).trans ?_; rotate_left; (first | assumption | exact va_up_s | rfl | (refine (va_up_n ?_).trans ?_; rotate_left; (assumption); omega)); omega)); omega)); omega)); omega)) rfl) q601 q603 qs1 q38 q604 ⟨rfl, by decide +kernel, by decide +kernel, by show _ = some 1; decide +kernel⟩ rfl rfl ⟨Nat.le_of_ble_eq_true rfl, Nat.le_of_ble_eq_true rfl⟩ rfl (Nat.le_of_ble_eq_true rfl) dX1_layOut_61 (by show (_ : Nat) ≤ 83 ∧ (_ : Nat) ≤ 2492; omega)) hS (fun r uu H locs hq hM hS => ?_)
              rw [hq, w0_eq hok hV]
              refine lv_iload hx hb dX1_layOut_64 (lh_at hl rfl) ?_
              refine x_callv (x_runI (As := [.int (nI (w0N ν (vPl ν q))), .int (nI (vPl ν q))]) hF hE hS hM hl (xk_rankInit l g A _ (20 + 2 * q) b1 (nI (w0N ν (vPl ν q))) (nI (vPl ν q)) va_up_s) q605 q606 q63 q607 rfl ⟨by decide +kernel, by decide +kernel, by show _ = some 2; decide +kernel⟩ rfl rfl ⟨Nat.le_of_ble_eq_true rfl, Nat.le_of_ble_eq_true rfl⟩ rfl (Nat.le_of_ble_eq_true rfl) dX1_layOut_66 (by show (_ : Nat) ≤ 83 ∧ (_ : Nat) ≤ 2492; omega)) hS (fun u4 H locs hq4 hM hS => ?_)
              rw [hq4.2.eq hq4.1, va_up_up] at hM
              clear hq4
              generalize hw4 : va_up u (20 + 2 * q) (some (b1, .inr (3, [.int (nI (w0N ν (vPl ν q))), .int (nI (vPl ν q))]))) = v4 at hM
              have k4 : ∀ n, n ≠ 20 + 2 * q → v4 n = u n := fun n hn => by rw [← hw4, va_up_n hn]
              have y4 : v4 (20 + 2 * q) = some (b1, .inr (3, [.int (nI (w0N ν (vPl ν q))), .int (nI (vPl ν q))])) := by rw [← hw4, va_up_s]
              have hL14 : xLs g v4 12 13 a1 mc1 3 es1 := by rw [← hw4]; exact hL1.tmp (hUn _ (by omega) (by omega)) (by omega) (by omega)
              have hL24 : xLs g v4 14 15 a2 mc2 3 es2 := by rw [← hw4]; exact hL2.tmp (hUn _ (by omega) (by omega)) (by omega) (by omega)
              have rkY : rkW v4 b1 = (nI (w0N ν (vPl ν q)), nI (vPl ν q)) := rkW_eq hM y4
              have rkZ : ∀ k z, k < es1.length → es1[k]? = some z → ∃ n, v4 n = some (z, .inr (3, [.int (rkW v4 z).1, .int (rkW v4 z).2])) ∧ rkW v4 z = (nI (w0N ν ((layF ν q).2.2 k)), nI ((layF ν q).2.2 k)) := by
                intro k z hk hz2
                obtain ⟨y, n, a, b, c, d⟩ := hk1.2 k (by rw [← hk1.1]; exact hk)
                rw [a] at hz2
                cases hz2
                have d4 : v4 n = _ := (k4 n (by omega)).trans d
                have e4 := rkW_eq hM d4
                exact ⟨n, by rw [e4]; exact d4, e4⟩
              have hlen1 : es1.length < 40 := by rw [hk1.1]; omega
              have hpos1 : insP (rkW v4) es1 b1 es1.length = posG (fun k => spotB ν (vPl ν q) ((layF ν q).2.2 k)) (layF ν q).1 := by
                rw [insP_posG (f := fun k => spotB ν (vPl ν q) ((layF ν q).2.2 k)) es1.length (Nat.le_refl _) (fun j z hj hz2 => ?_), hk1.1]
                obtain ⟨n, -, e4⟩ := rkZ j z hj hz2
                obtain ⟨-, x, l2, l3, l4⟩ := hlq j (by rw [← hk1.1]; exact hj)
                have hx6 := vPl_lt hV (show x < 20 by omega)
                rw [rkY, e4]
                have b1 := hw0 (vPl ν q) hok
                have b2 := hw0 ((layF ν q).2.2 j) (by rw [l3]; exact (hV.2.2.2.2.2.2.1 x (by omega)).resolve_left l4)
                exact spot_rk (by omega) (by omega) (by omega) (by omega)
              have hrk1 : ∀ z ∈ es1, ∃ n, v4 n = some (z, .inr (3, [.int (rkW v4 z).1, .int (rkW v4 z).2])) := by
                intro z hz2
                obtain ⟨k, hk⟩ := List.getElem?_of_mem hz2
                obtain ⟨n, hn, -⟩ := rkZ k z (List.getElem?_eq_some_iff.mp hk).1 hk
                exact ⟨n, hn⟩
              refine x_callv (x_runS (As := [.ref a1, .ref a1, .ref b1]) hF hE hS hM hl (xk_insert l g A v4 12 13 11 (20 + 2 * q) a1 b1 mc1 es1 (rkW v4) hL14 hlen1 (by rw [rkY]; exact y4) hrk1 (by decide) (by decide) ((k4 11 (by omega)).trans hU11) (fun b fs e => hdat 13 (Or.inl rfl) b 3 fs (by rw [← k4 13 (by omega)]; exact e))) q617 q618 q38 q619 ⟨by decide +kernel, by decide +kernel, by show _ = some 3; decide +kernel⟩ rfl rfl ⟨Nat.le_of_ble_eq_true rfl, Nat.le_of_ble_eq_true rfl⟩ rfl (Nat.le_of_ble_eq_true rfl) dX1_layOut_69 (by show (_ : Nat) ≤ 83 ∧ (_ : Nat) ≤ 2492; omega)) hS (fun v5 H locs hq5 hM hS => ?_)
              obtain ⟨hL15, hag5⟩ := hq5
              rw [hpos1] at hL15
              have k5 : ∀ n, n ≠ 12 → n ≠ 13 → v5 n = v4 n := hag5
              have v50 : v5 0 = some (ad 0, .inr (0, fX ad ν (nI (vC ν 6)) (nI (vC ν 7)))) := (k5 0 (by decide) (by decide)).trans ((k4 0 (by omega)).trans u0)
              have v52 : v5 2 = some (ad 2, .inl (g.2 0, 20, .inl ft)) := (k5 2 (by decide) (by decide)).trans ((k4 2 (by omega)).trans u2)
              have hd13 : ∀ b c fs, v5 13 = some (b, .inr (c, fs)) → False := by
                intro b c fs e
                obtain ⟨d8, z1, z2, z3, z4⟩ := hL15
                rcases z4 with ⟨z5, -⟩ | ⟨cap, f, z5, -⟩
                · simp at z5
                · rw [z5] at e
                  cases e
              refine lv_aload_n hx hb dX1_layOut_72 rfl (lh_at hl rfl) ?_
              refine lv_aload_n hx hb dX1_layOut_73 rfl (lh_at hl rfl) ?_
              refine xr_new hx hb hts in_X4 tyX4 tyX4_ok hown (hts _ q599) (hts _ q600) (hts _ q63) hE hM hS (21 + 2 * q) (ci := 3) (fs := [.int 0, .int 0]) rfl (by decide) (by show (_ : Nat) ≤ 83; omega) (by show (_ : Nat) ≤ 2492; omega) dX1_layOut_74 (fun b2 H hb2 hM hS => ?_)
              have vw0 : va_up v5 (21 + 2 * q) (some (b2, .inr (3, [.int 0, .int 0]))) 0 = some (ad 0, .inr (0, fX ad ν (nI (vC ν 6)) (nI (vC ν 7)))) := (va_up_n (by omega)).trans v50
              have vw2 : va_up v5 (21 + 2 * q) (some (b2, .inr (3, [.int 0, .int 0]))) 2 = some (ad 2, .inl (g.2 0, 20, .inl ft)) := (va_up_n (by omega)).trans v52
              refine lv_dup hx hb dX1_layOut_77 rfl ?_
              refine lv_aload_n hx hb dX1_layOut_78 rfl (lh_at hl rfl) ?_
              refine xr_get (C := RX1) (T := TX1) (N := 12) (ci := 0) (n := 0) hx hb hts in_X1 hown hE hM (by first | assumption | exact va_up_s | rfl | (refine (va_up_n ?_).trans ?_; rotate_left; (first | assumption | exact va_up_s | rfl | (refine (va_up_n ?_).trans ?_; rotate_left; (first | assumption | exact va_up_s | rfl | (refine (va_up_n ?_).trans ?_; rotate_left; (first | assumption | exact va_up_s | rfl | (refine (va_up_n ?_).trans ?_; rotate_left; (first | assumption | exact va_up_s | rfl | (refine (va_up_n ?_).trans ?_; rotate_left; (assumption); omega)); omega)); omega)); omega)); omega)) rfl 4 (by decide) (hts _ q145) (fun _ h => h) rfl dX1_layOut_79 ?_
              refine lv_iload_n hx hb dX1_layOut_82 rfl (lh_at hl rfl) ?_
              refine xr_iald (n := 2) hx hb hE hM (by first | assumption | exact va_up_s | rfl | (refine (va_up_n ?_).trans ?_; rotate_left; (first | assumption | exact va_up_s | rfl | (refine (va_up_n ?_).trans ?_; rotate_left; (first | assumption | exact va_up_s | rfl | (refine (va_up_n ?_).trans ?_; rotate_left; (first | assumption | exact va_up_s | rfl | (refine (va_up_n ?_).trans ?_; rotate_left; (first | assumption | exact va_up_s | rfl | (refine (va_up_n ?_).trans ?_; rotate_left; (assumption); omega)); omega)); omega)); omega)); omega)) (by omega) (by first | decide | omega) (by exact hftv q hq20) dX1_layOut_83 ?_
              refine lv_ineg hx hb dX1_layOut_84 ?_
              refine lv_iload_n hx hb dX1_layOut_85 rfl (lh_at hl rfl) ?_
              refine x_callv (x_runI (As := [.int (-(nI (tvN ν q))), .int (nI q)]) hF hE hS hM hl (xk_rankInit l g A _ (21 + 2 * q) b2 (-(nI (tvN ν q))) (nI q) va_up_s) q605 q606 q63 q607 rfl ⟨by decide +kernel, by decide +kernel, by show _ = some 2; decide +kernel⟩ rfl rfl ⟨Nat.le_of_ble_eq_true rfl, Nat.le_of_ble_eq_true rfl⟩ rfl (Nat.le_of_ble_eq_true rfl) dX1_layOut_86 (by show (_ : Nat) ≤ 83 ∧ (_ : Nat) ≤ 2492; omega)) hS (fun u6 H locs hq6 hM hS => ?_)
              rw [hq6.2.eq hq6.1, va_up_up] at hM
              clear hq6
              generalize hw6 : va_up v5 (21 + 2 * q) (some (b2, .inr (3, [.int (-(nI (tvN ν q))), .int (nI q)]))) = v6 at hM
              have k6 : ∀ n, n ≠ 21 + 2 * q → v6 n = v5 n := fun n hn => by rw [← hw6, va_up_n hn]
              have y6 : v6 (21 + 2 * q) = some (b2, .inr (3, [.int (-(nI (tvN ν q))), .int (nI q)])) := by rw [← hw6, va_up_s]
              have hn21 : v5 (21 + 2 * q) = none := (k5 _ (by omega) (by omega)).trans ((k4 _ (by omega)).trans (hUn _ (by omega) (by omega)))
              have hL16 := hL15.tmp (n := 21 + 2 * q) (e := some (b2, .inr (3, [.int (-(nI (tvN ν q))), .int (nI q)]))) hn21 (by omega) (by omega)
              rw [hw6] at hL16
              have hn4 : ∀ y fs, v4 12 = some (y, .inr (3, fs)) → False := by
                intro y fs e
                obtain ⟨d, hd⟩ := hL14.size
                rw [hd] at e
                cases e
              have hn5 : ∀ y fs, v4 13 = some (y, .inr (3, fs)) → False := fun y fs e => hdat 13 (Or.inl rfl) y 3 fs (by rw [← k4 13 (by omega)]; exact e)
              have hL25 : xLs g v5 14 15 a2 mc2 3 es2 := hL24.keep2 (k5 14 (by decide) (by decide)) (k5 15 (by decide) (by decide)) (fun y hy k fs e => ⟨k, fs, (k5 k (fun z => hn4 y fs (by rw [← z]; exact e)) (fun z => hn5 y fs (by rw [← z]; exact e))).trans e⟩)
              have hL26 : xLs g v6 14 15 a2 mc2 3 es2 := by rw [← hw6]; exact hL25.tmp hn21 (by omega) (by omega)
              have rkY6 : rkW v6 b2 = (-(nI (tvN ν q)), nI q) := rkW_eq hM y6
              have rkZ6 : ∀ k z, k < es2.length → es2[k]? = some z → ∃ n, v6 n = some (z, .inr (3, [.int (rkW v6 z).1, .int (rkW v6 z).2])) ∧ rkW v6 z = (-(nI (tvN ν ((layF ν q).2.1 k))), nI ((layF ν q).2.1 k)) := by
                intro k z hk hz2
                obtain ⟨y, n, a, b, c, d⟩ := hk2.2 k (by rw [← hk2.1]; exact hk)
                rw [a] at hz2
                cases hz2
                have d6 : v6 n = _ := (k6 n (by omega)).trans ((k5 n (by omega) (by omega)).trans ((k4 n (by omega)).trans d))
                have e6 := rkW_eq hM d6
                exact ⟨n, by rw [e6]; exact d6, e6⟩
              have hlen2 : es2.length < 40 := by rw [hk2.1]; omega
              have hpos2 : insP (rkW v6) es2 b2 es2.length = posG (fun k => rankB ν q ((layF ν q).2.1 k)) (layF ν q).1 := by
                rw [insP_posG (f := fun k => rankB ν q ((layF ν q).2.1 k)) es2.length (Nat.le_refl _) (fun j z hj hz2 => ?_), hk2.1]
                obtain ⟨n, -, e6⟩ := rkZ6 j z hj hz2
                obtain ⟨l1, -⟩ := hlq j (by rw [← hk2.1]; exact hj)
                rw [rkY6, e6]
                have b1 := htv q
                have b2 := htv ((layF ν q).2.1 j)
                exact rank_rk (by omega) l1 (by omega) (by omega)
              have hd15 : ∀ b c fs, v6 15 = some (b, .inr (c, fs)) → False := fun b c fs e => hdat 15 (Or.inr rfl) b c fs (by rw [k6 15 (by omega), k5 15 (by decide) (by decide), k4 15 (by omega)] at e; exact e)
              have hrk2 : ∀ z ∈ es2, ∃ n, v6 n = some (z, .inr (3, [.int (rkW v6 z).1, .int (rkW v6 z).2])) := by
                intro z hz2
                obtain ⟨k, hk⟩ := List.getElem?_of_mem hz2
                obtain ⟨n, hn, -⟩ := rkZ6 k z (List.getElem?_eq_some_iff.mp hk).1 hk
                exact ⟨n, hn⟩
              refine x_callv (x_runS (As := [.ref a2, .ref a2, .ref b2]) hF hE hS hM hl (xk_insert l g A v6 14 15 11 (21 + 2 * q) a2 b2 mc2 es2 (rkW v6) hL26 hlen2 (by rw [rkY6]; exact y6) hrk2 (by decide) (by decide) ((k6 11 (by omega)).trans ((k5 11 (by decide) (by decide)).trans ((k4 11 (by omega)).trans hU11))) (fun b fs e => hd15 b 3 fs e)) q617 q618 q38 q619 ⟨by decide +kernel, by decide +kernel, by show _ = some 3; decide +kernel⟩ rfl rfl ⟨Nat.le_of_ble_eq_true rfl, Nat.le_of_ble_eq_true rfl⟩ rfl (Nat.le_of_ble_eq_true rfl) dX1_layOut_89 (by show (_ : Nat) ≤ 83 ∧ (_ : Nat) ≤ 2492; omega)) hS (fun v7 H locs hq7 hM hS => ?_)
              obtain ⟨hL27, k7⟩ := hq7
              rw [hpos2] at hL27
              have hn6 : ∀ y fs, v6 14 = some (y, .inr (3, fs)) → False := by
                intro y fs e
                obtain ⟨d, hd⟩ := hL26.size
                rw [hd] at e
                cases e
              have hL17 := hL16.keep2 (u := v7) (k7 12 (by decide) (by decide)) (k7 13 (by decide) (by decide)) (fun y hy k fs e => ⟨k, fs, (k7 k (fun z => hn6 y fs (by rw [← z]; exact e)) (fun z => hd15 y 3 fs (by rw [← z]; exact e))).trans e⟩)
              have kk7 : ∀ n, n < 12 ∨ 16 ≤ n → n ≠ 20 + 2 * q → n ≠ 21 + 2 * q → v7 n = u n := fun n n1 n2 n3 => (k7 n (by omega) (by omega)).trans ((k6 n n3).trans ((k5 n (by omega) (by omega)).trans (k4 n n2)))
              have hd7 : ∀ n, n = 13 ∨ n = 15 → ∀ b c fs, v7 n = some (b, .inr (c, fs)) → False := by
                intro n hn b c fs e
                rcases hn with rfl | rfl
                · rw [k7 13 (by decide) (by decide), k6 13 (by omega)] at e
                  exact hd13 b c fs e
                · obtain ⟨d8, z1, z2, z3, z4⟩ := hL27
                  rcases z4 with ⟨z5, -⟩ | ⟨cap, f, z5, -⟩
                  · simp at z5
                  · rw [z5] at e
                    cases e
              refine n_iinc hx hb 1 dX1_layOut_92 hl rfl (by decide +kernel) (by decide) (fun ls hl => ?_)
              refine lv_goto (tgt := 32) hx hb dX1_layOut_95 (by decide) ?_
              refine ih (q + 1) (by omega) (by omega) _ _ v7 _ _ _ _ H locs _ (by omega) (by omega) hM hS (fun n hn => (kk7 n (by omega) (by omega) (by omega)).trans (hU n hn)) ((kk7 11 (by omega) (by omega) (by omega)).trans hU11) (fun n n1 n2 => (kk7 n (by omega) (by omega) (by omega)).trans (hUn n (by omega) n2)) hL17 hL27 hd7 ?_ ?_ (lh_sub hl _ ⟨rfl, rfl, rfl, rfl, trivial⟩)
              · rw [hlay]
                exact hk1.ins (posG_le _) (fun n n1 n2 => kk7 n (by omega) (by omega) (by omega)) (n := 20 + 2 * q) (by omega) ((k7 _ (by omega) (by omega)).trans ((k6 _ (by omega)).trans ((k5 _ (by omega) (by omega)).trans y4)))
              · rw [hlay]
                exact hk2.ins (posG_le _) (fun n n1 n2 => kk7 n (by omega) (by omega) (by omega)) (n := 21 + 2 * q) (by omega) ((k7 _ (by omega) (by omega)).trans y6)
      refine J 21 0 (by omega) (by omega) _ _ _ [] [] 0 0 H locs _ (Nat.le_of_ble_eq_true rfl) (Nat.le_of_ble_eq_true rfl) hM hS (fun n hn => (va_up_n (by omega)).trans (va_up_n (by omega))) ((va_up_n (by decide)).trans ((va_up_n (by decide)).trans (tmp 11 (by decide) (by decide)))) (fun n n1 n2 => (va_up_n (by omega)).trans ((va_up_n (by omega)).trans (tmp n (by omega) (by omega)))) ?_ ?_ (fun n hn b c fs e => ?_) ⟨rfl, fun k hk => absurd hk (Nat.not_lt_zero k)⟩ ⟨rfl, fun k hk => absurd hk (Nat.not_lt_zero k)⟩ (lh_sub hl _ ⟨rfl, rfl, rfl, rfl, trivial⟩)
      · exact ⟨g.2 5, (va_up_n (by decide)).trans va_up_s, by decide, fun y hy => absurd hy List.not_mem_nil, Or.inl ⟨rfl, rfl⟩⟩
      · exact ⟨g.2 5, va_up_s, by decide, fun y hy => absurd hy List.not_mem_nil, Or.inl ⟨rfl, rfl⟩⟩
      · rw [va_up_n (by omega), va_up_n (by omega), tmp n (by omega) (by omega)] at e
        cases e
  · rw [if_neg hz] at hq2
    rw [hq2]
    have hop : opLayOut ν = (1, 0, ν) := by
      unfold opLayOut
      rw [if_pos (by omega)]
    refine x_tcallv (x_runSX (As := [.int 0, .ref (g.2 (100 + 149))]) hF hE hS hM hl (xk_must l hlt g A w 0 (g.2 (100 + 149))) q573 q574 q38 q575 ⟨by decide +kernel, by decide +kernel, by show _ = some 2; decide +kernel⟩ rfl rfl ⟨Nat.le_of_ble_eq_true rfl, Nat.le_of_ble_eq_true rfl⟩ rfl (Nat.le_of_ble_eq_true rfl) dX1_layOut_11 ⟨Nat.le_of_ble_eq_true rfl, Nat.le_of_ble_eq_true rfl⟩) hS hQ hxt hlk (Nat.le_of_ble_eq_true rfl) (Nat.le_of_ble_eq_true rfl) (fun E9 H9 hE9 hP9 => ?_) (fun uu H locs hq hM hS => ?_)
    · exact ⟨⟨xCode.at (j := 0) (by rw [hop]) rfl hE9.1, rfl⟩, hP9⟩
    · exact absurd rfl hq
