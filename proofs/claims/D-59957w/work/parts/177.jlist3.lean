/-! ArrayList: grow, add -/
set_option maxRecDepth 100000
/-- the list's cells as they are ahead of a growth -/
def xGr (g : xg) (w : xw_W) (nL nD a d n : Nat) (mc : Int32) (es : List Nat) : Prop :=
  w nL = some (a, .inr (6, [.int mc, .ref d, .int (nI n)])) ∧ es.length = n ∧ n < 40 ∧ ((n = 0 ∧ d = g.2 5) ∨ ∃ f, w nD = some (d, .inl (g.2 1, aQ n f)) ∧ 10 ≤ n ∧ ∀ i, i < n → f i = es[i]?)
def xGd (g : xg) (w u : xw_W) (nL nD a n : Nat) (mc : Int32) (es : List Nat) (ra : Nat) : Prop :=
  ∃ cap f, u nL = some (a, .inr (6, [.int mc, .ref ra, .int (nI n)])) ∧ u nD = some (ra, .inl (g.2 1, aQ cap f)) ∧ n < cap ∧ 10 ≤ cap ∧ cap ≤ 60 ∧ (∀ i, i < cap → f i = es[i]?) ∧ xAg2 w u nL nD
theorem jk_grow2 (l : Launch) (g : xg) (A : Nat → Prop) (w : xw_W) (nL nD nT a d n ci : Nat) (mc : Int32) (es : List Nat) (h : xGr g w nL nD a d n mc es) (hel : ∀ y ∈ es, xEl w ci y) (hLD : nL ≠ nD) (hTD : nT ≠ nD) (hT : w nT = none) (hob : xOb ci) :
    Met l yJ2_grow_2 (ws_ yJ2_grow_2 cJ2_grow_2 4 (some (.array (.object "java/lang/Object")))) (xrm 3 1 60) (xPw g A w [.ref a, .int (nI (n + 1))]) (xQwr g A (fun ra u => xGd g w u nL nD a n mc es ra)) 1 60 A := by
  obtain ⟨h1, h2, h3, h4⟩ := h
  have hTL : nT ≠ nL := by
    intro z
    rw [z, h1] at hT
    cases hT
  refine x_start rfl (Nat.le_of_ble_eq_true rfl) ?_
  intro p e s m below meth c hx hb hr hlk hml hown hts hnm hE hM hS ls hl
  have hF : xFix p m c cJ2_grow_2 4 s _ RJ2 := ⟨hx, hb, hml, hown, hts⟩
  generalize hargs : List.toArray _ = args at hts hF ⊢
  generalize hQ : MQ below _ _ s _ _ A = Q
  refine lv_aload_n hx hb dJ2_grow_2_0 rfl (lh_at hl rfl) ?_
  refine xr_get (C := RJ2) (T := TJ2) (N := 3) (ci := 6) (n := nL) hx hb hts in_J2 hown hE hM (by first | assumption | exact va_up_s | rfl | (refine (va_up_n ?_).trans ?_; rotate_left; (first | assumption | exact va_up_s | rfl | (refine (va_up_n ?_).trans ?_; rotate_left; (first | assumption | exact va_up_s | rfl | (refine (va_up_n ?_).trans ?_; rotate_left; (first | assumption | exact va_up_s | rfl | (refine (va_up_n ?_).trans ?_; rotate_left; (first | assumption | exact va_up_s | rfl | (refine (va_up_n ?_).trans ?_; rotate_left; (assumption); omega)); omega)); omega)); omega)); omega)) rfl 1 (by decide) (hts _ q93) (fun _ h => h) rfl dJ2_grow_2_1 ?_
  rcases h4 with ⟨rfl, rfl⟩ | ⟨f, h4, h5, h6⟩
  · refine va_tlen hx hb (hE.2.2.2.2.2.1) hS (v := nI 0) rfl dJ2_grow_2_4 ?_
    refine x_istore_n hx hb dJ2_grow_2_5 rfl hl (by decide) (fun ls hl => ?_)
    refine lv_iload_n hx hb dJ2_grow_2_6 rfl (lh_at hl rfl) ?_
    refine n_if_gt (tgt := 20) hx hb dJ2_grow_2_7 (by decide) (by omega) (fun c1 => ?_) (fun c1 => ?_)
    · omega
    refine lv_aload_n hx hb dJ2_grow_2_10 rfl (lh_at hl rfl) ?_
    refine xr_get (C := RJ2) (T := TJ2) (N := 3) (ci := 6) (n := nL) hx hb hts in_J2 hown hE hM (by first | assumption | exact va_up_s | rfl | (refine (va_up_n ?_).trans ?_; rotate_left; (first | assumption | exact va_up_s | rfl | (refine (va_up_n ?_).trans ?_; rotate_left; (first | assumption | exact va_up_s | rfl | (refine (va_up_n ?_).trans ?_; rotate_left; (first | assumption | exact va_up_s | rfl | (refine (va_up_n ?_).trans ?_; rotate_left; (first | assumption | exact va_up_s | rfl | (refine (va_up_n ?_).trans ?_; rotate_left; (assumption); omega)); omega)); omega)); omega)); omega)) rfl 1 (by decide) (hts _ q93) (fun _ h => h) rfl dJ2_grow_2_11 ?_
    refine va_gets hx hb hE.e0 hS hown (hts _ q91) (fun _ h => h) dJ2_grow_2_14 ?_
    refine lv_acmp_eq (rx := some (g.2 5)) (ry := some (g.2 5)) (tgt := 45) hx hb dJ2_grow_2_17 (by decide) (fun h1 => ?_) (fun h1 => absurd rfl h1)
    refine lv_aload_n hx hb dJ2_grow_2_45 rfl (lh_at hl rfl) ?_
    refine n_bipush hx hb 10 dJ2_grow_2_46 (by decide +kernel) ?_
    refine lv_iload_n hx hb dJ2_grow_2_48 rfl (lh_at hl rfl) ?_
    refine n_max hx hb hml hl hown (hts _ q899) (hts _ q136) (hts _ q43) (hts _ q137) (by omega) (by omega) (Nat.le_of_ble_eq_true rfl) (Nat.le_of_ble_eq_true rfl) (Nat.le_of_ble_eq_true rfl) (Nat.le_of_ble_eq_true rfl) dJ2_grow_2_49 ?_
    refine x_top (show nI (max 10 (0 + 1)) = nI 10 from rfl) ?_
    refine xr_newq hx hb hown (hts _ q900) hE hM hS nD (by omega) (Nat.le_of_ble_eq_true rfl) (Nat.le_of_ble_eq_true rfl) dJ2_grow_2_52 (fun q H hq hM hS => ?_)
    refine lv_dup_x1 hx hb dJ2_grow_2_55 rfl rfl ?_
    refine xr_put (C := RJ2) (T := TJ2) (N := 3) (ci := 6) (n := nL) hx hb hts in_J2 tyJ2 tyJ2_ok nmJ2 hown hE hM hS (by first | assumption | exact va_up_s | rfl | (refine (va_up_n ?_).trans ?_; rotate_left; (first | assumption | exact va_up_s | rfl | (refine (va_up_n ?_).trans ?_; rotate_left; (first | assumption | exact va_up_s | rfl | (refine (va_up_n ?_).trans ?_; rotate_left; (first | assumption | exact va_up_s | rfl | (refine (va_up_n ?_).trans ?_; rotate_left; (first | assumption | exact va_up_s | rfl | (refine (va_up_n ?_).trans ?_; rotate_left; (assumption); omega)); omega)); omega)); omega)); omega)) rfl 1 (by decide) (hts _ q93) (fun _ h => h) rfl (tyJ2_ok 1 (by decide)) rfl rfl (Nat.le_of_ble_eq_true rfl) dJ2_grow_2_56 (fun H locs hM hS => ?_)
    refine W.widen (k := 1) (n := 60) (Nat.le_of_ble_eq_true rfl) (Nat.le_of_ble_eq_true rfl) ?_
    have he : es = [] := List.length_eq_zero_iff.mp h2
    refine hQ ▸ x_aret hx hb hr (Or.inr ⟨_, rfl⟩) hlk hS _ trivial ⟨⟨10, fun _ => none, va_up_s, (va_up_n (by omega)).trans va_up_s, by omega, by omega, by omega, ?_, ?_⟩, hM⟩ dJ2_grow_2_59
    · intro i hi
      rw [he]
      rfl
    · intro k k1 k2
      rw [va_up_n k1, va_up_n k2]
  · refine xr_len (n := nD) hx hb hE hM (by first | assumption | exact va_up_s | rfl | (refine (va_up_n ?_).trans ?_; rotate_left; (first | assumption | exact va_up_s | rfl | (refine (va_up_n ?_).trans ?_; rotate_left; (first | assumption | exact va_up_s | rfl | (refine (va_up_n ?_).trans ?_; rotate_left; (first | assumption | exact va_up_s | rfl | (refine (va_up_n ?_).trans ?_; rotate_left; (first | assumption | exact va_up_s | rfl | (refine (va_up_n ?_).trans ?_; rotate_left; (assumption); omega)); omega)); omega)); omega)); omega)) rfl dJ2_grow_2_4 ?_
    refine x_istore_n hx hb dJ2_grow_2_5 rfl hl (by decide) (fun ls hl => ?_)
    refine lv_iload_n hx hb dJ2_grow_2_6 rfl (lh_at hl rfl) ?_
    refine n_if_gt (tgt := 20) hx hb dJ2_grow_2_7 (by decide) (by omega) (fun c1 => ?_) (fun c1 => ?_)
    · refine lv_iload_n hx hb dJ2_grow_2_20 rfl (lh_at hl rfl) ?_
      refine lv_iload_n hx hb dJ2_grow_2_21 rfl (lh_at hl rfl) ?_
      refine lv_iload_n hx hb dJ2_grow_2_22 rfl (lh_at hl rfl) ?_
      refine n_isub hx hb (by omega) dJ2_grow_2_23 ?_
      refine lv_iload_n hx hb dJ2_grow_2_24 rfl (lh_at hl rfl) ?_
      refine n_const hx hb 1 dJ2_grow_2_25 (by decide +kernel) ?_
      refine n_ishr hx hb (by omega) (by omega) dJ2_grow_2_26 ?_
      have hm : max (n + 1 - n) (n >>> 1) = n >>> 1 := by rw [Nat.shiftRight_eq_div_pow]; omega
      have hsr : n >>> 1 ≤ 19 ∧ 5 ≤ n >>> 1 := by rw [Nat.shiftRight_eq_div_pow]; omega
      refine x_calli (x_runS (As := [.int (nI n), .int (nI (n + 1 - n)), .int (nI (n >>> 1))]) hF hE hS hM hl (jk_newLength l g A (xw g A w) n (n + 1 - n) (n >>> 1) (by omega) (by omega)) q870 q360 q54 q361 ⟨by decide +kernel, by decide +kernel, by show _ = some 3; decide +kernel⟩ rfl rfl ⟨Nat.le_of_ble_eq_true rfl, Nat.le_of_ble_eq_true rfl⟩ rfl (Nat.le_of_ble_eq_true rfl) dJ2_grow_2_27 ⟨Nat.le_of_ble_eq_true rfl, Nat.le_of_ble_eq_true rfl⟩) hS (fun r uu H locs hq hM hS => ?_)
      subst hq
      rw [hm]
      refine x_istore_n hx hb dJ2_grow_2_30 rfl hl (by decide) (fun ls hl => ?_)
      refine lv_aload_n hx hb dJ2_grow_2_31 rfl (lh_at hl rfl) ?_
      refine lv_aload_n hx hb dJ2_grow_2_32 rfl (lh_at hl rfl) ?_
      refine xr_get (C := RJ2) (T := TJ2) (N := 3) (ci := 6) (n := nL) hx hb hts in_J2 hown hE hM (by first | assumption | exact va_up_s | rfl | (refine (va_up_n ?_).trans ?_; rotate_left; (first | assumption | exact va_up_s | rfl | (refine (va_up_n ?_).trans ?_; rotate_left; (first | assumption | exact va_up_s | rfl | (refine (va_up_n ?_).trans ?_; rotate_left; (first | assumption | exact va_up_s | rfl | (refine (va_up_n ?_).trans ?_; rotate_left; (first | assumption | exact va_up_s | rfl | (refine (va_up_n ?_).trans ?_; rotate_left; (assumption); omega)); omega)); omega)); omega)); omega)) rfl 1 (by decide) (hts _ q93) (fun _ h => h) rfl dJ2_grow_2_33 ?_
      refine lv_iload_n hx hb dJ2_grow_2_36 rfl (lh_at hl rfl) ?_
      refine x_callr (x_runS (As := [.ref d, .int (nI (n + n >>> 1))]) hF hE hS hM hl (jk_copyOf2 l g A w nD nT d n (n + n >>> 1) ci f es h4 h6 hel (by omega) (by omega) (by omega) hT hob) q871 q872 q55 q873 ⟨by decide +kernel, by decide +kernel, by show _ = some 2; decide +kernel⟩ rfl rfl ⟨Nat.le_of_ble_eq_true rfl, Nat.le_of_ble_eq_true rfl⟩ rfl (Nat.le_of_ble_eq_true rfl) dJ2_grow_2_37 ⟨Nat.le_of_ble_eq_true rfl, Nat.le_of_ble_eq_true rfl⟩) hS (fun u ra H locs hq hM hS => ?_)
      obtain ⟨⟨f', hf1, hf2, hag⟩, hM⟩ := hM
      have h1' := (hag nL (by omega)).trans h1
      refine lv_dup_x1 hx hb dJ2_grow_2_40 rfl rfl ?_
      refine xr_put (C := RJ2) (T := TJ2) (N := 3) (ci := 6) (n := nL) hx hb hts in_J2 tyJ2 tyJ2_ok nmJ2 hown hE hM hS (by first | assumption | exact va_up_s | rfl | (refine (va_up_n ?_).trans ?_; rotate_left; (first | assumption | exact va_up_s | rfl | (refine (va_up_n ?_).trans ?_; rotate_left; (first | assumption | exact va_up_s | rfl | (refine (va_up_n ?_).trans ?_; rotate_left; (first | assumption | exact va_up_s | rfl | (refine (va_up_n ?_).trans ?_; rotate_left; (first | assumption | exact va_up_s | rfl | (refine (va_up_n ?_).trans ?_; rotate_left; (assumption); omega)); omega)); omega)); omega)); omega)) rfl 1 (by decide) (hts _ q93) (fun _ h => h) rfl (tyJ2_ok 1 (by decide)) rfl rfl (Nat.le_of_ble_eq_true rfl) dJ2_grow_2_41 (fun H locs hM hS => ?_)
      have hM := xw.ren hM nD (n1 := nT) ((va_up_n hTL).trans hf1)
      refine hQ ▸ x_aret hx hb hr (Or.inr ⟨_, rfl⟩) hlk hS _ trivial ⟨⟨n + n >>> 1, f', ?_, va_up_s, by omega, by omega, by omega, hf2, ?_⟩, hM⟩ dJ2_grow_2_44
      · rw [va_up_n hLD, va_up_n (by omega)]
        exact va_up_s
      · intro k k1 k2
        rw [va_up_n k2]
        by_cases k3 : k = nT
        · rw [k3, va_up_s, hT]
        · rw [va_up_n k3, va_up_n k1]
          exact hag k k3
    · omega
theorem jk_grow (l : Launch) (g : xg) (A : Nat → Prop) (w : xw_W) (nL nD nT a d n ci : Nat) (mc : Int32) (es : List Nat) (h : xGr g w nL nD a d n mc es) (hel : ∀ y ∈ es, xEl w ci y) (hLD : nL ≠ nD) (hTD : nT ≠ nD) (hT : w nT = none) (hob : xOb ci) :
    Met l yJ2_grow (ws_ yJ2_grow cJ2_grow 1 (some (.array (.object "java/lang/Object")))) (xrm 4 1 60) (xPw g A w [.ref a]) (xQwr g A (fun ra u => xGd g w u nL nD a n mc es ra)) 1 60 A := by
  have h1 := h.1
  refine x_start rfl (Nat.le_of_ble_eq_true rfl) ?_
  intro p e s m below meth c hx hb hr hlk hml hown hts hnm hE hM hS ls hl
  have hF : xFix p m c cJ2_grow 1 s _ RJ2 := ⟨hx, hb, hml, hown, hts⟩
  generalize hargs : List.toArray _ = args at hts hF ⊢
  generalize hQ : MQ below _ _ s _ _ A = Q
  refine lv_aload_n hx hb dJ2_grow_0 rfl (lh_at hl rfl) ?_
  refine lv_aload_n hx hb dJ2_grow_1 rfl (lh_at hl rfl) ?_
  refine xr_get (C := RJ2) (T := TJ2) (N := 3) (ci := 6) (n := nL) hx hb hts in_J2 hown hE hM (by first | assumption | exact va_up_s | rfl | (refine (va_up_n ?_).trans ?_; rotate_left; (first | assumption | exact va_up_s | rfl | (refine (va_up_n ?_).trans ?_; rotate_left; (first | assumption | exact va_up_s | rfl | (refine (va_up_n ?_).trans ?_; rotate_left; (first | assumption | exact va_up_s | rfl | (refine (va_up_n ?_).trans ?_; rotate_left; (first | assumption | exact va_up_s | rfl | (refine (va_up_n ?_).trans ?_; rotate_left; (assumption); omega)); omega)); omega)); omega)); omega)) rfl 2 (by decide) (hts _ q96) (fun _ h => h) rfl dJ2_grow_2 ?_
  refine n_const hx hb 1 dJ2_grow_5 (by decide +kernel) ?_
  refine n_iadd hx hb dJ2_grow_6 ?_
  refine x_callr (x_runV (As := [.int (nI (n + 1))]) hF hE hS hM hl (jk_grow2 l g A w nL nD nT a d n ci mc es h hel hLD hTD hT hob) (xw.recv hE hM (by first | assumption | exact va_up_s | rfl | (refine (va_up_n ?_).trans ?_; rotate_left; (first | assumption | exact va_up_s | rfl | (refine (va_up_n ?_).trans ?_; rotate_left; (first | assumption | exact va_up_s | rfl | (refine (va_up_n ?_).trans ?_; rotate_left; (first | assumption | exact va_up_s | rfl | (refine (va_up_n ?_).trans ?_; rotate_left; (first | assumption | exact va_up_s | rfl | (refine (va_up_n ?_).trans ?_; rotate_left; (assumption); omega)); omega)); omega)); omega)); omega)) rfl) q866 q868 qs5 q41 q869 ⟨rfl, by decide +kernel, by decide +kernel, by show _ = some 1; decide +kernel⟩ rfl rfl ⟨Nat.le_of_ble_eq_true rfl, Nat.le_of_ble_eq_true rfl⟩ rfl (Nat.le_of_ble_eq_true rfl) dJ2_grow_7 ⟨Nat.le_of_ble_eq_true rfl, Nat.le_of_ble_eq_true rfl⟩) hS (fun u ra H locs hq hM hS => ?_)
  exact hQ ▸ x_aret hx hb hr (Or.inr ⟨_, rfl⟩) hlk hS _ trivial hM dJ2_grow_10
theorem xEl_ne {w u : xw_W} {ci y nL nD : Nat} (h : xEl w ci y) (hL : ∀ a fs, w nL = some (a, .inr (ci, fs)) → False) (hD : ∀ a fs, w nD = some (a, .inr (ci, fs)) → False) (hag : xAg2 w u nL nD) : xEl u ci y :=
  h.keep (fun n fs e => hag n (fun z => hL _ _ (by rw [← z]; exact e)) (fun z => hD _ _ (by rw [← z]; exact e)))
theorem jk_add3 (l : Launch) (g : xg) (A : Nat → Prop) (w : xw_W) (nL nD nT a d ci y : Nat) (mc : Int32) (es : List Nat) (h : xLs g w nL nD a mc ci es) (hd : w nL = some (a, .inr (6, [.int mc, .ref d, .int (nI es.length)]))) (hn : es.length < 40) (hy : xEl w ci y) (hLD : nL ≠ nD) (hTD : nT ≠ nD) (hT : w nT = none) (hob : xOb ci) (hci : ci ≠ 6) (hnD : ∀ b fs, w nD = some (b, .inr (ci, fs)) → False) :
    Met l yJ2_add_3 (ws_ yJ2_add_3 cJ2_add_3 4 none) (xrm 5 1 60) (xPw g A w [.ref a, .ref y, .ref d, .int (nI es.length)]) (xQwv g A (fun u => xLs g u nL nD a mc ci (es ++ [y]) ∧ xAg2 w u nL nD)) 1 60 A := by
  obtain ⟨r, hc, hca⟩ := id hob
  obtain ⟨d', h1, h2, h3, h4⟩ := h
  have e1 := hd.symm.trans h1
  simp only [Option.some.injEq, Prod.mk.injEq, Sum.inr.injEq, List.cons.injEq, Value.ref.injEq, true_and, and_true] at e1
  subst e1
  have hLc : ∀ b fs, w nL = some (b, .inr (ci, fs)) → False := by
    intro b fs e
    rw [hd] at e
    simp only [Option.some.injEq, Prod.mk.injEq, Sum.inr.injEq] at e
    exact hci e.2.1.symm
  refine x_start rfl (Nat.le_of_ble_eq_true rfl) ?_
  intro p e s m below meth c hx hb hr hlk hml hown hts hnm hE hM hS ls hl
  have hF : xFix p m c cJ2_add_3 4 s _ RJ2 := ⟨hx, hb, hml, hown, hts⟩
  generalize hargs : List.toArray _ = args at hts hF ⊢
  generalize hQ : MQ below _ _ s _ _ A = Q
  have J : ∀ (u : xw_W) (d' cap : Nat) (f : Nat → Option Nat) (cells slots : Nat) (H : Heap) (locs : List Loc) (ls : Array Slot), cells ≤ 1 → slots ≤ 60 → xw g A u H → va_S A s.heap H locs → lh ls 4 (xl [(0, .ref a), (1, .ref y), (2, .ref d'), (3, .int (nI es.length))]) →
      u nL = some (a, .inr (6, [.int mc, .ref d', .int (nI es.length)])) → u nD = some (d', .inl (g.2 1, aQ cap f)) → es.length < cap → 10 ≤ cap → cap ≤ 60 → (∀ i, i < cap → f i = es[i]?) → xAg2 w u nL nD → W p l e (xrm 5 1 60) s m args below meth c H locs cells slots Q (F0 m 11 ls []) := by
    intro u d' cap f cells slots H locs ls hc1 hc2 hM hS hl k1 k2 k3 k4 k5 k6 k7
    obtain ⟨nE, fsE, hE1⟩ := xEl_ne hy hLc hnD k7
    refine lv_aload_n hx hb dJ2_add_3_11 rfl (lh_at hl rfl) ?_
    refine lv_iload_n hx hb dJ2_add_3_12 rfl (lh_at hl rfl) ?_
    refine lv_aload_n hx hb dJ2_add_3_13 rfl (lh_at hl rfl) ?_
    refine xr_qast (n := nD) hx hb hE hM hS (by first | assumption | exact va_up_s | rfl | (refine (va_up_n ?_).trans ?_; rotate_left; (first | assumption | exact va_up_s | rfl | (refine (va_up_n ?_).trans ?_; rotate_left; (first | assumption | exact va_up_s | rfl | (refine (va_up_n ?_).trans ?_; rotate_left; (first | assumption | exact va_up_s | rfl | (refine (va_up_n ?_).trans ?_; rotate_left; (first | assumption | exact va_up_s | rfl | (refine (va_up_n ?_).trans ?_; rotate_left; (assumption); omega)); omega)); omega)); omega)); omega)) (by omega) (by first | decide | omega) (by first | assumption | exact va_up_s | rfl | (refine (va_up_n ?_).trans ?_; rotate_left; (first | assumption | exact va_up_s | rfl | (refine (va_up_n ?_).trans ?_; rotate_left; (first | assumption | exact va_up_s | rfl | (refine (va_up_n ?_).trans ?_; rotate_left; (first | assumption | exact va_up_s | rfl | (refine (va_up_n ?_).trans ?_; rotate_left; (first | assumption | exact va_up_s | rfl | (refine (va_up_n ?_).trans ?_; rotate_left; (assumption); omega)); omega)); omega)); omega)); omega)) hc hca dJ2_add_3_14 (fun H locs hM hS => ?_)
    refine lv_aload_n hx hb dJ2_add_3_15 rfl (lh_at hl rfl) ?_
    refine lv_iload_n hx hb dJ2_add_3_16 rfl (lh_at hl rfl) ?_
    refine n_const hx hb 1 dJ2_add_3_17 (by decide +kernel) ?_
    refine n_iadd hx hb dJ2_add_3_18 ?_
    refine xr_put (C := RJ2) (T := TJ2) (N := 3) (ci := 6) (n := nL) hx hb hts in_J2 tyJ2 tyJ2_ok nmJ2 hown hE hM hS (by first | assumption | exact va_up_s | rfl | (refine (va_up_n ?_).trans ?_; rotate_left; (first | assumption | exact va_up_s | rfl | (refine (va_up_n ?_).trans ?_; rotate_left; (first | assumption | exact va_up_s | rfl | (refine (va_up_n ?_).trans ?_; rotate_left; (first | assumption | exact va_up_s | rfl | (refine (va_up_n ?_).trans ?_; rotate_left; (first | assumption | exact va_up_s | rfl | (refine (va_up_n ?_).trans ?_; rotate_left; (assumption); omega)); omega)); omega)); omega)); omega)) rfl 2 (by decide) (hts _ q96) (fun _ h => h) rfl (tyJ2_ok 2 (by decide)) rfl rfl (Nat.le_of_ble_eq_true rfl) dJ2_add_3_19 (fun H locs hM hS => ?_)
    refine W.widen (k := 1) (n := 60) hc1 hc2 ?_
    refine hQ ▸ x_vret hx hb hr hlk hS _ ⟨⟨d', ?_, ?_, ?_, Or.inr ⟨cap, va_up f es.length (some y), ?_, ?_, k4, k5, ?_⟩⟩, ?_⟩ hM dJ2_add_3_22
    · rw [va_up_s, List.length_append]
      rfl
    · rw [List.length_append]
      show es.length + 1 ≤ 40
      omega
    · have hag : xAg2 w (va_up (va_up u nD (some (d', .inl (g.2 1, aQ cap (va_up f es.length (some y)))))) nL (some (a, .inr (6, ([.int mc, .ref d', .int (nI es.length)] : List Value).set 2 (.int (nI (es.length + 1))))))) nL nD := by
        intro k g1 g2
        rw [va_up_n g1, va_up_n g2]
        exact k7 k g1 g2
      intro z hz
      rcases List.mem_append.mp hz with hz | hz
      · exact xEl_ne (h3 z hz) hLc hnD hag
      · rw [List.mem_singleton.mp hz]
        exact xEl_ne hy hLc hnD hag
    · rw [va_up_n (by omega)]
      exact va_up_s
    · rw [List.length_append]
      show es.length + 1 ≤ cap
      omega
    · intro i hi
      by_cases h5 : i = es.length
      · subst h5
        simp [va_up]
      · rw [va_up_n h5, k6 i hi]
        by_cases h6 : i < es.length
        · rw [List.getElem?_append_left h6]
        · rw [List.getElem?_eq_none (by omega), List.getElem?_eq_none (by rw [List.length_append]; show es.length + 1 ≤ i; omega)]
    · intro k g1 g2
      rw [va_up_n g1, va_up_n g2]
      exact k7 k g1 g2
  have G : ∀ (cap0 : Nat), xGr g w nL nD a d es.length mc es → es.length = cap0 → ∀ ls, lh ls 4 (xl [(0, .ref a), (1, .ref y), (2, .ref d), (3, .int (nI es.length))]) → W p l e (xrm 5 1 60) s m args below meth c s.heap [] 0 0 Q (F0 m 6 ls []) := by
    intro cap0 hg hcap ls hl
    refine lv_aload_n hx hb dJ2_add_3_6 rfl (lh_at hl rfl) ?_
    refine x_callr (x_runV (As := []) hF hE hS hM hl (jk_grow l g A w nL nD nT a d es.length ci mc es hg h3 hLD hTD hT hob) (xw.recv hE hM (by first | assumption | exact va_up_s | rfl | (refine (va_up_n ?_).trans ?_; rotate_left; (first | assumption | exact va_up_s | rfl | (refine (va_up_n ?_).trans ?_; rotate_left; (first | assumption | exact va_up_s | rfl | (refine (va_up_n ?_).trans ?_; rotate_left; (first | assumption | exact va_up_s | rfl | (refine (va_up_n ?_).trans ?_; rotate_left; (first | assumption | exact va_up_s | rfl | (refine (va_up_n ?_).trans ?_; rotate_left; (assumption); omega)); omega)); omega)); omega)); omega)) rfl) q862 q864 qs4 q41 q865 ⟨rfl, by decide +kernel, by decide +kernel, by show _ = some 0; decide +kernel⟩ rfl rfl ⟨Nat.le_of_ble_eq_true rfl, Nat.le_of_ble_eq_true rfl⟩ rfl (Nat.le_of_ble_eq_true rfl) dJ2_add_3_7 ⟨Nat.le_of_ble_eq_true rfl, Nat.le_of_ble_eq_true rfl⟩) hS (fun u ra H locs hq hM hS => ?_)
    obtain ⟨⟨cap, f, k1, k2, k3, k4, k5, k6, k7⟩, hM⟩ := hM
    refine x_astore_n hx hb dJ2_add_3_10 rfl hl (by decide) (fun ls hl => ?_)
    exact J u ra cap f _ _ H locs ls (Nat.le_of_ble_eq_true rfl) (Nat.le_of_ble_eq_true rfl) hM hS (lh_sub hl _ ⟨rfl, rfl, rfl, rfl, trivial⟩) k1 k2 k3 k4 k5 k6 k7
  refine lv_iload_n hx hb dJ2_add_3_0 rfl (lh_at hl rfl) ?_
  refine lv_aload_n hx hb dJ2_add_3_1 rfl (lh_at hl rfl) ?_
  rcases h4 with ⟨h5, h6⟩ | ⟨cap, f, h5, h6, h7, h8, h9⟩
  · have h50 : es.length = 0 := by rw [h5]; rfl
    subst h6
    refine va_tlen hx hb (hE.2.2.2.2.2.1) hS (v := nI 0) rfl dJ2_add_3_2 ?_
    refine n_icmp_ne (tgt := 11) hx hb dJ2_add_3_3 (by decide) (by omega) (by omega) (fun c1 => ?_) (fun c1 => ?_)
    · omega
    · exact G 0 ⟨hd, rfl, hn, Or.inl ⟨h50, rfl⟩⟩ h50 ls (lh_sub hl _ ⟨rfl, rfl, rfl, rfl, trivial⟩)
  · refine xr_len (n := nD) hx hb hE hM (by first | assumption | exact va_up_s | rfl | (refine (va_up_n ?_).trans ?_; rotate_left; (first | assumption | exact va_up_s | rfl | (refine (va_up_n ?_).trans ?_; rotate_left; (first | assumption | exact va_up_s | rfl | (refine (va_up_n ?_).trans ?_; rotate_left; (first | assumption | exact va_up_s | rfl | (refine (va_up_n ?_).trans ?_; rotate_left; (first | assumption | exact va_up_s | rfl | (refine (va_up_n ?_).trans ?_; rotate_left; (assumption); omega)); omega)); omega)); omega)); omega)) rfl dJ2_add_3_2 ?_
    refine n_icmp_ne (tgt := 11) hx hb dJ2_add_3_3 (by decide) (by omega) (by omega) (fun c1 => ?_) (fun c1 => ?_)
    · exact J w d cap f _ _ _ _ ls (Nat.le_of_ble_eq_true rfl) (Nat.le_of_ble_eq_true rfl) hM hS (lh_sub hl _ ⟨rfl, rfl, rfl, rfl, trivial⟩) hd h5 (by omega) h7 h8 h9 (fun _ _ _ => rfl)
    · refine G cap ⟨hd, rfl, hn, Or.inr ⟨f, ?_, by omega, fun i hi => h9 i (by omega)⟩⟩ c1 ls (lh_sub hl _ ⟨rfl, rfl, rfl, rfl, trivial⟩)
      rw [c1]
      exact h5
