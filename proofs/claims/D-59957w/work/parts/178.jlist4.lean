/-! ArrayList: add (both), remove, contains -/
set_option maxRecDepth 100000
theorem xLs.mcs {g : xg} {w : xw_W} {nL nD a ci : Nat} {mc : Int32} {es : List Nat} (h : xLs g w nL nD a mc ci es) (hLD : nL ≠ nD) (hci : ci ≠ 6) (mc2 : Int32) {d : Nat} (hd : w nL = some (a, .inr (6, [.int mc, .ref d, .int (nI es.length)]))) : xLs g (va_up w nL (some (a, .inr (6, [.int mc2, .ref d, .int (nI es.length)])))) nL nD a mc2 ci es := by
  obtain ⟨d', h1, h2, h3, h4⟩ := h
  have e1 := hd.symm.trans h1
  simp only [Option.some.injEq, Prod.mk.injEq, Sum.inr.injEq, List.cons.injEq, Value.ref.injEq, true_and, and_true] at e1
  subst e1
  refine ⟨d, va_up_s, h2, fun y hy => (h3 y hy).keep (fun n fs e => va_up_n (fun z => ?_)), ?_⟩
  · rw [z, hd] at e
    simp only [Option.some.injEq, Prod.mk.injEq, Sum.inr.injEq] at e
    exact hci e.2.1.symm
  · rcases h4 with h4 | ⟨cap, f, h5, h6⟩
    · exact Or.inl h4
    · exact Or.inr ⟨cap, f, (va_up_n (by omega)).trans h5, h6⟩
theorem xLs.elt {g : xg} {w : xw_W} {nL nD a ci : Nat} {mc : Int32} {es : List Nat} (h : xLs g w nL nD a mc ci es) {y : Nat} (hy : y ∈ es) : xEl w ci y := by
  obtain ⟨d', h1, h2, h3, h4⟩ := h
  exact h3 y hy
theorem xLs.le {g : xg} {w : xw_W} {nL nD a ci : Nat} {mc : Int32} {es : List Nat} (h : xLs g w nL nD a mc ci es) : es.length ≤ 40 := by
  obtain ⟨d', h1, h2, h3, h4⟩ := h
  exact h2
theorem xLs.noL {g : xg} {w : xw_W} {nL nD a ci : Nat} {mc : Int32} {es : List Nat} (h : xLs g w nL nD a mc ci es) (hci : ci ≠ 6) : ∀ b fs, w nL = some (b, .inr (ci, fs)) → False := by
  intro b fs e
  obtain ⟨d, hd⟩ := h.size
  rw [hd] at e
  simp only [Option.some.injEq, Prod.mk.injEq, Sum.inr.injEq] at e
  exact hci e.2.1.symm
theorem jk_add2 (l : Launch) (g : xg) (A : Nat → Prop) (w : xw_W) (nL nD nT a ci y : Nat) (mc : Int32) (es : List Nat) (h : xLs g w nL nD a mc ci es) (hn : es.length < 40) (hy : xEl w ci y) (hLD : nL ≠ nD) (hTD : nT ≠ nD) (hT : w nT = none) (hob : xOb ci) (hci : ci ≠ 6) (hnD : ∀ b fs, w nD = some (b, .inr (ci, fs)) → False) :
    Met l yJ2_add_2 (ws_ yJ2_add_2 cJ2_add_2 2 (some .boolean)) (xrm 6 1 60) (xPw g A w [.ref a, .ref y]) (xQwi g A (fun r u => r = 1 ∧ xLs g u nL nD a (mc + 1) ci (es ++ [y]) ∧ xAg2 w u nL nD)) 1 60 A := by
  obtain ⟨d, hd⟩ := h.size
  have hLc := h.noL hci
  refine x_start rfl (Nat.le_of_ble_eq_true rfl) ?_
  intro p e s m below meth c hx hb hr hlk hml hown hts hnm hE hM hS ls hl
  have hF : xFix p m c cJ2_add_2 2 s _ RJ2 := ⟨hx, hb, hml, hown, hts⟩
  generalize hargs : List.toArray _ = args at hts hF ⊢
  generalize hQ : MQ below _ _ s _ _ A = Q
  refine lv_aload_n hx hb dJ2_add_2_0 rfl (lh_at hl rfl) ?_
  refine lv_dup hx hb dJ2_add_2_1 rfl ?_
  refine xr_get (C := RJ2) (T := TJ2) (N := 3) (ci := 6) (n := nL) hx hb hts in_J2 hown hE hM (by first | assumption | exact va_up_s | rfl | (refine (va_up_n ?_).trans ?_; rotate_left; (first | assumption | exact va_up_s | rfl | (refine (va_up_n ?_).trans ?_; rotate_left; (first | assumption | exact va_up_s | rfl | (refine (va_up_n ?_).trans ?_; rotate_left; (first | assumption | exact va_up_s | rfl | (refine (va_up_n ?_).trans ?_; rotate_left; (first | assumption | exact va_up_s | rfl | (refine (va_up_n ?_).trans ?_; rotate_left; (assumption); omega)); omega)); omega)); omega)); omega)) rfl 0 (by decide) (hts _ q100) (fun x h => u_same (hts _ q99) x h) rfl dJ2_add_2_2 ?_
  refine lv_iconst (v := 1) hx hb dJ2_add_2_5 (by decide +kernel) ?_
  refine lv_iadd hx hb dJ2_add_2_6 ?_
  refine xr_put (C := RJ2) (T := TJ2) (N := 3) (ci := 6) (n := nL) hx hb hts in_J2 tyJ2 tyJ2_ok nmJ2 hown hE hM hS (by first | assumption | exact va_up_s | rfl | (refine (va_up_n ?_).trans ?_; rotate_left; (first | assumption | exact va_up_s | rfl | (refine (va_up_n ?_).trans ?_; rotate_left; (first | assumption | exact va_up_s | rfl | (refine (va_up_n ?_).trans ?_; rotate_left; (first | assumption | exact va_up_s | rfl | (refine (va_up_n ?_).trans ?_; rotate_left; (first | assumption | exact va_up_s | rfl | (refine (va_up_n ?_).trans ?_; rotate_left; (assumption); omega)); omega)); omega)); omega)); omega)) rfl 0 (by decide) (hts _ q100) (fun x h => u_same (hts _ q99) x h) rfl (tyJ2_ok 0 (by decide)) rfl rfl (Nat.le_of_ble_eq_true rfl) dJ2_add_2_7 (fun H locs hM hS => ?_)
  refine lv_aload_n hx hb dJ2_add_2_10 rfl (lh_at hl rfl) ?_
  refine lv_aload_n hx hb dJ2_add_2_11 rfl (lh_at hl rfl) ?_
  refine lv_aload_n hx hb dJ2_add_2_12 rfl (lh_at hl rfl) ?_
  refine xr_get (C := RJ2) (T := TJ2) (N := 3) (ci := 6) (n := nL) hx hb hts in_J2 hown hE hM (by first | assumption | exact va_up_s | rfl | (refine (va_up_n ?_).trans ?_; rotate_left; (first | assumption | exact va_up_s | rfl | (refine (va_up_n ?_).trans ?_; rotate_left; (first | assumption | exact va_up_s | rfl | (refine (va_up_n ?_).trans ?_; rotate_left; (first | assumption | exact va_up_s | rfl | (refine (va_up_n ?_).trans ?_; rotate_left; (first | assumption | exact va_up_s | rfl | (refine (va_up_n ?_).trans ?_; rotate_left; (assumption); omega)); omega)); omega)); omega)); omega)) rfl 1 (by decide) (hts _ q93) (fun _ h => h) rfl dJ2_add_2_13 ?_
  refine lv_aload_n hx hb dJ2_add_2_16 rfl (lh_at hl rfl) ?_
  refine xr_get (C := RJ2) (T := TJ2) (N := 3) (ci := 6) (n := nL) hx hb hts in_J2 hown hE hM (by first | assumption | exact va_up_s | rfl | (refine (va_up_n ?_).trans ?_; rotate_left; (first | assumption | exact va_up_s | rfl | (refine (va_up_n ?_).trans ?_; rotate_left; (first | assumption | exact va_up_s | rfl | (refine (va_up_n ?_).trans ?_; rotate_left; (first | assumption | exact va_up_s | rfl | (refine (va_up_n ?_).trans ?_; rotate_left; (first | assumption | exact va_up_s | rfl | (refine (va_up_n ?_).trans ?_; rotate_left; (assumption); omega)); omega)); omega)); omega)); omega)) rfl 2 (by decide) (hts _ q96) (fun _ h => h) rfl dJ2_add_2_17 ?_
  have h2 := h.mcs hLD hci (mc + 1) hd
  have hTL : nT ≠ nL := by
    intro z
    rw [z, hd] at hT
    cases hT
  have hy2 : xEl (va_up w nL (some (a, .inr (6, [.int (mc + 1), .ref d, .int (nI es.length)])))) ci y := hy.keep (fun n fs e => va_up_n (fun z => hLc _ _ (by rw [← z]; exact e)))
  refine x_callv (x_runV (As := [.ref y, .ref d, .int (nI es.length)]) hF hE hS hM hl (jk_add3 l g A _ nL nD nT a d ci y (mc + 1) es h2 va_up_s hn hy2 hLD hTD ((va_up_n hTL).trans hT) hob hci (fun b fs e => hnD b fs (by rw [va_up_n (by omega)] at e; exact e))) (xw.recv hE hM (by first | assumption | exact va_up_s | rfl | (refine (va_up_n ?_).trans ?_; rotate_left; (first | assumption | exact va_up_s | rfl | (refine (va_up_n ?_).trans ?_; rotate_left; (first | assumption | exact va_up_s | rfl | (refine (va_up_n ?_).trans ?_; rotate_left; (first | assumption | exact va_up_s | rfl | (refine (va_up_n ?_).trans ?_; rotate_left; (first | assumption | exact va_up_s | rfl | (refine (va_up_n ?_).trans ?_; rotate_left; (assumption); omega)); omega)); omega)); omega)); omega)) rfl) q980 q982 qs7 q41 q983 ⟨rfl, by decide +kernel, by decide +kernel, by show _ = some 3; decide +kernel⟩ rfl rfl ⟨Nat.le_of_ble_eq_true rfl, Nat.le_of_ble_eq_true rfl⟩ rfl (Nat.le_of_ble_eq_true rfl) dJ2_add_2_20 ⟨Nat.le_of_ble_eq_true rfl, Nat.le_of_ble_eq_true rfl⟩) hS (fun u H locs hq hM hS => ?_)
  refine lv_iconst (v := 1) hx hb dJ2_add_2_23 (by decide +kernel) ?_
  refine hQ ▸ x_zret hx hb hr hlk hS u rfl ⟨rfl, hq.1, fun k g1 g2 => ?_⟩ hM dJ2_add_2_24
  rw [hq.2 k g1 g2, va_up_n g1]
theorem jk_rangeCheckForAdd (l : Launch) (g : xg) (A : Nat → Prop) (w : xw_W) (nL nD a ci i : Nat) (mc : Int32) (es : List Nat) (h : xLs g w nL nD a mc ci es) (hi : i ≤ es.length) :
    Met l yJ2_rangeCheckForAdd (ws_ yJ2_rangeCheckForAdd cJ2_rangeCheckForAdd 2 none) (xrm 0 0 0) (xPw g A w [.ref a, .int (nI i)]) (zQv A (xw g A w)) 0 0 A := by
  obtain ⟨d, hd⟩ := h.size
  have hle := h.le
  refine x_start rfl (Nat.le_of_ble_eq_true rfl) ?_
  intro p e s m below meth c hx hb hr hlk hml hown hts hnm hE hM hS ls hl
  have hF : xFix p m c cJ2_rangeCheckForAdd 2 s _ RJ2 := ⟨hx, hb, hml, hown, hts⟩
  generalize hargs : List.toArray _ = args at hts hF ⊢
  generalize hQ : MQ below _ _ s _ _ A = Q
  refine lv_iload_n hx hb dJ2_rangeCheckForAdd_0 rfl (lh_at hl rfl) ?_
  refine lv_aload_n hx hb dJ2_rangeCheckForAdd_1 rfl (lh_at hl rfl) ?_
  refine xr_get (C := RJ2) (T := TJ2) (N := 3) (ci := 6) (n := nL) hx hb hts in_J2 hown hE hM (by first | assumption | exact va_up_s | rfl | (refine (va_up_n ?_).trans ?_; rotate_left; (first | assumption | exact va_up_s | rfl | (refine (va_up_n ?_).trans ?_; rotate_left; (first | assumption | exact va_up_s | rfl | (refine (va_up_n ?_).trans ?_; rotate_left; (first | assumption | exact va_up_s | rfl | (refine (va_up_n ?_).trans ?_; rotate_left; (first | assumption | exact va_up_s | rfl | (refine (va_up_n ?_).trans ?_; rotate_left; (assumption); omega)); omega)); omega)); omega)); omega)) rfl 2 (by decide) (hts _ q96) (fun _ h => h) rfl dJ2_rangeCheckForAdd_2 ?_
  refine n_icmp_gt (tgt := 12) hx hb dJ2_rangeCheckForAdd_5 (by decide) (by omega) (by omega) (fun c1 => ?_) (fun c1 => ?_)
  · omega
  refine lv_iload_n hx hb dJ2_rangeCheckForAdd_8 rfl (lh_at hl rfl) ?_
  refine n_if_ge (tgt := 25) hx hb dJ2_rangeCheckForAdd_9 (by decide) (by omega) (fun c2 => ?_) (fun c2 => ?_)
  · exact hQ ▸ x_vret hx hb hr hlk hS () trivial hM dJ2_rangeCheckForAdd_25
  · omega
theorem ins_get {es : List Nat} {i y k : Nat} (hi : i ≤ es.length) : (es.take i ++ y :: es.drop i)[k]? = if k < i then es[k]? else if k = i then some y else es[k - 1]? := by
  have hl : (es.take i).length = i := by rw [List.length_take]; omega
  by_cases h1 : k < i
  · rw [if_pos h1, List.getElem?_append_left (by omega), List.getElem?_take, if_pos h1]
  · rw [if_neg h1, List.getElem?_append_right (by omega), hl]
    by_cases h2 : k = i
    · subst h2
      simp
    · rw [if_neg h2]
      obtain ⟨j, rfl⟩ : ∃ j, k = i + 1 + j := ⟨k - i - 1, by omega⟩
      rw [show i + 1 + j - i = j + 1 by omega, List.getElem?_cons_succ, List.getElem?_drop]
      congr 1
      omega
theorem jk_addAt (l : Launch) (g : xg) (A : Nat → Prop) (w : xw_W) (nL nD nT a ci i y : Nat) (mc : Int32) (es : List Nat) (h : xLs g w nL nD a mc ci es) (hi : i ≤ es.length) (hn : es.length < 40) (hy : xEl w ci y) (hLD : nL ≠ nD) (hTD : nT ≠ nD) (hT : w nT = none) (hob : xOb ci) (hci : ci ≠ 6) (hnD : ∀ b fs, w nD = some (b, .inr (ci, fs)) → False) :
    Met l yJ2_add (ws_ yJ2_add cJ2_add 5 none) (xrm 5 1 60) (xPw g A w [.ref a, .int (nI i), .ref y]) (xQwv g A (fun u => xLs g u nL nD a (mc + 1) ci (es.take i ++ y :: es.drop i) ∧ xAg2 w u nL nD)) 1 60 A := by
  obtain ⟨r, hc, hca⟩ := id hob
  obtain ⟨d, hd⟩ := h.size
  have hLc := h.noL hci
  have hlen2 : (es.take i ++ y :: es.drop i).length = es.length + 1 := by
    rw [List.length_append, List.length_take, List.length_cons, List.length_drop]
    omega
  have hTL : nT ≠ nL := by
    intro z
    rw [z, hd] at hT
    cases hT
  refine x_start rfl (Nat.le_of_ble_eq_true rfl) ?_
  intro p e s m below meth c hx hb hr hlk hml hown hts hnm hE hM hS ls hl
  have hF : xFix p m c cJ2_add 5 s _ RJ2 := ⟨hx, hb, hml, hown, hts⟩
  generalize hargs : List.toArray _ = args at hts hF ⊢
  generalize hQ : MQ below _ _ s _ _ A = Q
  refine lv_aload_n hx hb dJ2_add_0 rfl (lh_at hl rfl) ?_
  refine lv_iload_n hx hb dJ2_add_1 rfl (lh_at hl rfl) ?_
  refine x_callv (x_runV (As := [.int (nI i)]) hF hE hS hM hl (jk_rangeCheckForAdd l g A w nL nD a ci i mc es h hi) (xw.recv hE hM (by first | assumption | exact va_up_s | rfl | (refine (va_up_n ?_).trans ?_; rotate_left; (first | assumption | exact va_up_s | rfl | (refine (va_up_n ?_).trans ?_; rotate_left; (first | assumption | exact va_up_s | rfl | (refine (va_up_n ?_).trans ?_; rotate_left; (first | assumption | exact va_up_s | rfl | (refine (va_up_n ?_).trans ?_; rotate_left; (first | assumption | exact va_up_s | rfl | (refine (va_up_n ?_).trans ?_; rotate_left; (assumption); omega)); omega)); omega)); omega)); omega)) rfl) q845 q847 qs2 q41 q848 ⟨rfl, by decide +kernel, by decide +kernel, by show _ = some 1; decide +kernel⟩ rfl rfl ⟨Nat.le_of_ble_eq_true rfl, Nat.le_of_ble_eq_true rfl⟩ rfl (Nat.le_of_ble_eq_true rfl) dJ2_add_2 ⟨Nat.le_of_ble_eq_true rfl, Nat.le_of_ble_eq_true rfl⟩) hS (fun uu H locs hq hM hS => ?_)
  refine lv_aload_n hx hb dJ2_add_5 rfl (lh_at hl rfl) ?_
  refine lv_dup hx hb dJ2_add_6 rfl ?_
  refine xr_get (C := RJ2) (T := TJ2) (N := 3) (ci := 6) (n := nL) hx hb hts in_J2 hown hE hM (by first | assumption | exact va_up_s | rfl | (refine (va_up_n ?_).trans ?_; rotate_left; (first | assumption | exact va_up_s | rfl | (refine (va_up_n ?_).trans ?_; rotate_left; (first | assumption | exact va_up_s | rfl | (refine (va_up_n ?_).trans ?_; rotate_left; (first | assumption | exact va_up_s | rfl | (refine (va_up_n ?_).trans ?_; rotate_left; (first | assumption | exact va_up_s | rfl | (refine (va_up_n ?_).trans ?_; rotate_left; (assumption); omega)); omega)); omega)); omega)); omega)) rfl 0 (by decide) (hts _ q100) (fun x h => u_same (hts _ q99) x h) rfl dJ2_add_7 ?_
  refine lv_iconst (v := 1) hx hb dJ2_add_10 (by decide +kernel) ?_
  refine lv_iadd hx hb dJ2_add_11 ?_
  refine xr_put (C := RJ2) (T := TJ2) (N := 3) (ci := 6) (n := nL) hx hb hts in_J2 tyJ2 tyJ2_ok nmJ2 hown hE hM hS (by first | assumption | exact va_up_s | rfl | (refine (va_up_n ?_).trans ?_; rotate_left; (first | assumption | exact va_up_s | rfl | (refine (va_up_n ?_).trans ?_; rotate_left; (first | assumption | exact va_up_s | rfl | (refine (va_up_n ?_).trans ?_; rotate_left; (first | assumption | exact va_up_s | rfl | (refine (va_up_n ?_).trans ?_; rotate_left; (first | assumption | exact va_up_s | rfl | (refine (va_up_n ?_).trans ?_; rotate_left; (assumption); omega)); omega)); omega)); omega)); omega)) rfl 0 (by decide) (hts _ q100) (fun x h => u_same (hts _ q99) x h) rfl (tyJ2_ok 0 (by decide)) rfl rfl (Nat.le_of_ble_eq_true rfl) dJ2_add_12 (fun H locs hM hS => ?_)
  have h2 := h.mcs hLD hci (mc + 1) hd
  have ag0 : xAg2 w (va_up w nL (some (a, .inr (6, [.int (mc + 1), .ref d, .int (nI es.length)])))) nL nD := fun k g1 g2 => va_up_n g1
  have hT2 : va_up w nL (some (a, .inr (6, [.int (mc + 1), .ref d, .int (nI es.length)]))) nT = none := (va_up_n hTL).trans hT
  have hd2 : va_up w nL (some (a, .inr (6, [.int (mc + 1), .ref d, .int (nI es.length)]))) nL = some (a, .inr (6, [.int (mc + 1), .ref d, .int (nI es.length)])) := va_up_s
  have hM2 : xw g A (va_up w nL (some (a, .inr (6, [.int (mc + 1), .ref d, .int (nI es.length)])))) H := hM
  clear hM
  generalize va_up w nL (some (a, .inr (6, [.int (mc + 1), .ref d, .int (nI es.length)]))) = w2 at h2 ag0 hT2 hd2 hM2
  have hM := hM2
  have J : ∀ (u : xw_W) (d' cap : Nat) (f : Nat → Option Nat) (cells slots : Nat) (H : Heap) (locs : List Loc) (ls : Array Slot), cells ≤ 1 → slots ≤ 60 → xw g A u H → va_S A s.heap H locs → lh ls 5 (xl [(0, .ref a), (1, .int (nI i)), (2, .ref y), (3, .int (nI es.length)), (4, .ref d')]) →
      u nL = some (a, .inr (6, [.int (mc + 1), .ref d', .int (nI es.length)])) → u nD = some (d', .inl (g.2 1, aQ cap f)) → es.length < cap → 10 ≤ cap → cap ≤ 60 → (∀ i, i < cap → f i = es[i]?) → xAg2 w u nL nD → W p l e (xrm 5 1 60) s m args below meth c H locs cells slots Q (F0 m 38 ls []) := by
    intro u d' cap f cells slots H locs ls hc1 hc2 hM hS hl k1 k2 k3 k4 k5 k6 k7
    have hag : ∀ x1 x2, xAg2 w (va_up (va_up u nD x1) nL x2) nL nD := by
      intro x1 x2 k g1 g2
      rw [va_up_n g1, va_up_n g2]
      exact k7 k g1 g2
    obtain ⟨nE, fsE, hE1⟩ := xEl_ne hy hLc hnD k7
    have hE2 : nE ≠ nD := by
      intro z
      rw [z, k2] at hE1
      cases hE1
    refine lv_aload hx hb dJ2_add_38 (lh_at hl rfl) ?_
    refine lv_iload_n hx hb dJ2_add_40 rfl (lh_at hl rfl) ?_
    refine lv_aload hx hb dJ2_add_41 (lh_at hl rfl) ?_
    refine lv_iload_n hx hb dJ2_add_43 rfl (lh_at hl rfl) ?_
    refine n_const hx hb 1 dJ2_add_44 (by decide +kernel) ?_
    refine n_iadd hx hb dJ2_add_45 ?_
    refine lv_iload_n hx hb dJ2_add_46 rfl (lh_at hl rfl) ?_
    refine lv_iload_n hx hb dJ2_add_47 rfl (lh_at hl rfl) ?_
    refine n_isub hx hb (by omega) dJ2_add_48 ?_
    refine xr_copyq (ci := ci) (r := r) (n0 := nD) (n1 := nD) hx hb hml hl hts hown hE hM hS q901 hc hca k2 k2 (by omega) (by omega) (by omega) (by omega) ?_ (Nat.le_of_ble_eq_true rfl) (Nat.le_of_ble_eq_true rfl) (Nat.le_of_ble_eq_true rfl) dJ2_add_49 (fun H locs hM hS => ?_)
    · intro j hj z hz
      rw [k6 _ (by omega)] at hz
      exact xEl_ne (h.elt (List.mem_of_getElem? hz)) hLc hnD k7
    refine lv_aload hx hb dJ2_add_52 (lh_at hl rfl) ?_
    refine lv_iload_n hx hb dJ2_add_54 rfl (lh_at hl rfl) ?_
    refine lv_aload_n hx hb dJ2_add_55 rfl (lh_at hl rfl) ?_
    refine xr_qast (n := nD) (n2 := nE) hx hb hE hM hS (by first | assumption | exact va_up_s | rfl | (refine (va_up_n ?_).trans ?_; rotate_left; (first | assumption | exact va_up_s | rfl | (refine (va_up_n ?_).trans ?_; rotate_left; (first | assumption | exact va_up_s | rfl | (refine (va_up_n ?_).trans ?_; rotate_left; (first | assumption | exact va_up_s | rfl | (refine (va_up_n ?_).trans ?_; rotate_left; (first | assumption | exact va_up_s | rfl | (refine (va_up_n ?_).trans ?_; rotate_left; (assumption); omega)); omega)); omega)); omega)); omega)) (by omega) (by first | decide | omega) (by first | assumption | exact va_up_s | rfl | (refine (va_up_n ?_).trans ?_; rotate_left; (first | assumption | exact va_up_s | rfl | (refine (va_up_n ?_).trans ?_; rotate_left; (first | assumption | exact va_up_s | rfl | (refine (va_up_n ?_).trans ?_; rotate_left; (first | assumption | exact va_up_s | rfl | (refine (va_up_n ?_).trans ?_; rotate_left; (first | assumption | exact va_up_s | rfl | (refine (va_up_n ?_).trans ?_; rotate_left; (assumption); omega)); omega)); omega)); omega)); omega)) hc hca dJ2_add_56 (fun H locs hM hS => ?_)
    refine lv_aload_n hx hb dJ2_add_57 rfl (lh_at hl rfl) ?_
    refine lv_iload_n hx hb dJ2_add_58 rfl (lh_at hl rfl) ?_
    refine n_const hx hb 1 dJ2_add_59 (by decide +kernel) ?_
    refine n_iadd hx hb dJ2_add_60 ?_
    refine xr_put (C := RJ2) (T := TJ2) (N := 3) (ci := 6) (n := nL) hx hb hts in_J2 tyJ2 tyJ2_ok nmJ2 hown hE hM hS (by first | assumption | exact va_up_s | rfl | (refine (va_up_n ?_).trans ?_; rotate_left; (first | assumption | exact va_up_s | rfl | (refine (va_up_n ?_).trans ?_; rotate_left; (first | assumption | exact va_up_s | rfl | (refine (va_up_n ?_).trans ?_; rotate_left; (first | assumption | exact va_up_s | rfl | (refine (va_up_n ?_).trans ?_; rotate_left; (first | assumption | exact va_up_s | rfl | (refine (va_up_n ?_).trans ?_; rotate_left; (assumption); omega)); omega)); omega)); omega)); omega)) rfl 2 (by decide) (hts _ q96) (fun _ h => h) rfl (tyJ2_ok 2 (by decide)) rfl rfl (Nat.le_of_ble_eq_true rfl) dJ2_add_61 (fun H locs hM hS => ?_)
    refine W.widen (k := 1) (n := 60) hc1 hc2 ?_
    have hag2 : xAg2 w (va_up (va_up (va_up u nD (some (d', .inl (g.2 1, aQ cap (va_cpy f f i (i + 1) (es.length - i)))))) nD (some (d', .inl (g.2 1, aQ cap (va_up (va_cpy f f i (i + 1) (es.length - i)) i (some y)))))) nL (some (a, .inr (6, ([.int (mc + 1), .ref d', .int (nI es.length)] : List Value).set 2 (.int (nI (es.length + 1))))))) nL nD := by
      intro k g1 g2
      rw [va_up_n g1, va_up_n g2, va_up_n g2]
      exact k7 k g1 g2
    refine hQ ▸ x_vret hx hb hr hlk hS _ ⟨⟨d', ?_, ?_, ?_, Or.inr ⟨cap, va_up (va_cpy f f i (i + 1) (es.length - i)) i (some y), ?_, ?_, k4, k5, ?_⟩⟩, hag2⟩ hM dJ2_add_64
    · rw [va_up_s, hlen2]
      rfl
    · omega
    · intro z hz
      rcases List.mem_append.mp hz with hz | hz
      · exact xEl_ne (h.elt (List.mem_of_mem_take hz)) hLc hnD hag2
      · rcases List.mem_cons.mp hz with rfl | hz
        · exact xEl_ne hy hLc hnD hag2
        · exact xEl_ne (h.elt (List.mem_of_mem_drop hz)) hLc hnD hag2
    · rw [va_up_n (by omega)]
      exact va_up_s
    · omega
    · intro k hk
      rw [ins_get hi]
      by_cases h5 : k < i
      · rw [if_pos h5, va_up_n (by omega)]
        unfold va_cpy
        rw [if_neg (by omega)]
        exact k6 k hk
      · rw [if_neg h5]
        by_cases h6 : k = i
        · subst h6
          rw [if_pos rfl, va_up_s]
        · rw [if_neg h6, va_up_n h6]
          unfold va_cpy
          by_cases h7 : k < es.length + 1
          · rw [if_pos (by omega), show i + (k - (i + 1)) = k - 1 by omega]
            exact k6 _ (by omega)
          · rw [if_neg (by omega), k6 k hk, List.getElem?_eq_none (by omega), List.getElem?_eq_none (by omega)]
  have G : ∀ (ls : Array Slot) (cells slots : Nat) (H : Heap) (locs : List Loc) (z : Value), xGr g w2 nL nD a d es.length (mc + 1) es → cells ≤ 0 → slots ≤ 0 → xw g A w2 H → va_S A s.heap H locs → lh ls 5 (xl [(0, .ref a), (1, .int (nI i)), (2, .ref y), (3, .int (nI es.length))]) → W p l e (xrm 5 1 60) s m args below meth c H locs cells slots Q (F0 m 32 ls []) := by
    intro ls cells slots H locs z hg hc1 hc2 hM hS hl
    have hel2 : ∀ y ∈ es, xEl w2 ci y := fun y hy => xEl_ne (h.elt hy) hLc hnD ag0
    refine lv_aload_n hx hb dJ2_add_32 rfl (lh_at hl rfl) ?_
    refine x_callr (x_runV (As := []) hF hE hS hM hl (jk_grow l g A w2 nL nD nT a d es.length ci (mc + 1) es hg hel2 hLD hTD hT2 hob) (xw.recv hE hM (by first | assumption | exact va_up_s | rfl | (refine (va_up_n ?_).trans ?_; rotate_left; (first | assumption | exact va_up_s | rfl | (refine (va_up_n ?_).trans ?_; rotate_left; (first | assumption | exact va_up_s | rfl | (refine (va_up_n ?_).trans ?_; rotate_left; (first | assumption | exact va_up_s | rfl | (refine (va_up_n ?_).trans ?_; rotate_left; (first | assumption | exact va_up_s | rfl | (refine (va_up_n ?_).trans ?_; rotate_left; (assumption); omega)); omega)); omega)); omega)); omega)) rfl) q862 q864 qs4 q41 q865 ⟨rfl, by decide +kernel, by decide +kernel, by show _ = some 0; decide +kernel⟩ rfl rfl ⟨Nat.le_of_ble_eq_true rfl, Nat.le_of_ble_eq_true rfl⟩ rfl (Nat.le_of_ble_eq_true rfl) dJ2_add_33 (by show cells + 1 ≤ 1 ∧ slots + 60 ≤ 60; omega)) hS (fun u ra H locs hq hM hS => ?_)
    obtain ⟨⟨cap, f, k1, k2, k3, k4, k5, k6, k7⟩, hM⟩ := hM
    refine x_astore hx hb dJ2_add_36 hl (by decide) (fun ls hl => ?_)
    exact J u ra cap f _ _ H locs ls (by omega) (by omega) hM hS (lh_sub hl _ ⟨rfl, rfl, rfl, rfl, rfl, trivial⟩) k1 k2 k3 k4 k5 k6 (fun k g1 g2 => (k7 k g1 g2).trans (ag0 k g1 g2))
  refine lv_aload_n hx hb dJ2_add_15 rfl (lh_at hl rfl) ?_
  refine xr_get (C := RJ2) (T := TJ2) (N := 3) (ci := 6) (n := nL) hx hb hts in_J2 hown hE hM (by first | assumption | exact va_up_s | rfl | (refine (va_up_n ?_).trans ?_; rotate_left; (first | assumption | exact va_up_s | rfl | (refine (va_up_n ?_).trans ?_; rotate_left; (first | assumption | exact va_up_s | rfl | (refine (va_up_n ?_).trans ?_; rotate_left; (first | assumption | exact va_up_s | rfl | (refine (va_up_n ?_).trans ?_; rotate_left; (first | assumption | exact va_up_s | rfl | (refine (va_up_n ?_).trans ?_; rotate_left; (assumption); omega)); omega)); omega)); omega)); omega)) rfl 2 (by decide) (hts _ q96) (fun _ h => h) rfl dJ2_add_16 ?_
  refine lv_dup hx hb dJ2_add_19 rfl ?_
  refine x_istore_n hx hb dJ2_add_20 rfl hl (by decide) (fun ls hl => ?_)
  refine lv_aload_n hx hb dJ2_add_21 rfl (lh_at hl rfl) ?_
  refine xr_get (C := RJ2) (T := TJ2) (N := 3) (ci := 6) (n := nL) hx hb hts in_J2 hown hE hM (by first | assumption | exact va_up_s | rfl | (refine (va_up_n ?_).trans ?_; rotate_left; (first | assumption | exact va_up_s | rfl | (refine (va_up_n ?_).trans ?_; rotate_left; (first | assumption | exact va_up_s | rfl | (refine (va_up_n ?_).trans ?_; rotate_left; (first | assumption | exact va_up_s | rfl | (refine (va_up_n ?_).trans ?_; rotate_left; (first | assumption | exact va_up_s | rfl | (refine (va_up_n ?_).trans ?_; rotate_left; (assumption); omega)); omega)); omega)); omega)); omega)) rfl 1 (by decide) (hts _ q93) (fun _ h => h) rfl dJ2_add_22 ?_
  refine lv_dup hx hb dJ2_add_25 rfl ?_
  refine x_astore hx hb dJ2_add_26 hl (by decide) (fun ls hl => ?_)
  obtain ⟨d', h1, h20, h3, h4⟩ := h2
  have e1 := hd2.symm.trans h1
  simp only [Option.some.injEq, Prod.mk.injEq, Sum.inr.injEq, List.cons.injEq, Value.ref.injEq, true_and, and_true] at e1
  subst e1
  rcases h4 with ⟨h5, h6⟩ | ⟨cap, f, h5, h6, h7, h8, h9⟩
  · have h50 : es.length = 0 := by rw [h5]; rfl
    subst h6
    refine va_tlen hx hb (hE.2.2.2.2.2.1) hS (v := nI 0) rfl dJ2_add_28 ?_
    refine n_icmp_ne (tgt := 38) hx hb dJ2_add_29 (by decide) (by omega) (by omega) (fun c1 => ?_) (fun c1 => ?_)
    · omega
    · exact G ls _ _ _ _ .null ⟨hd2, rfl, hn, Or.inl ⟨h50, rfl⟩⟩ (Nat.le_of_ble_eq_true rfl) (Nat.le_of_ble_eq_true rfl) hM hS (lh_sub hl _ ⟨rfl, rfl, rfl, rfl, trivial⟩)
  · refine xr_len (n := nD) hx hb hE hM (by first | assumption | exact va_up_s | rfl | (refine (va_up_n ?_).trans ?_; rotate_left; (first | assumption | exact va_up_s | rfl | (refine (va_up_n ?_).trans ?_; rotate_left; (first | assumption | exact va_up_s | rfl | (refine (va_up_n ?_).trans ?_; rotate_left; (first | assumption | exact va_up_s | rfl | (refine (va_up_n ?_).trans ?_; rotate_left; (first | assumption | exact va_up_s | rfl | (refine (va_up_n ?_).trans ?_; rotate_left; (assumption); omega)); omega)); omega)); omega)); omega)) rfl dJ2_add_28 ?_
    refine n_icmp_ne (tgt := 38) hx hb dJ2_add_29 (by decide) (by omega) (by omega) (fun c1 => ?_) (fun c1 => ?_)
    · exact J w2 d cap f _ _ _ _ ls (Nat.le_of_ble_eq_true rfl) (Nat.le_of_ble_eq_true rfl) hM hS (lh_sub hl _ ⟨rfl, rfl, rfl, rfl, rfl, trivial⟩) hd2 h5 (by omega) h7 h8 h9 ag0
    · refine G ls _ _ _ _ .null ⟨hd2, rfl, hn, Or.inr ⟨f, ?_, by omega, fun i hi => h9 i (by omega)⟩⟩ (Nat.le_of_ble_eq_true rfl) (Nat.le_of_ble_eq_true rfl) hM hS (lh_sub hl _ ⟨rfl, rfl, rfl, rfl, trivial⟩)
      rw [c1]
      exact h5
