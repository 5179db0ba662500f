/-! Integer.compare; Ranked; Order; Batch -/
set_option maxRecDepth 100000
theorem xLs.keep {g : xg} {w u : xw_W} {nL nD a ci : Nat} {mc : Int32} {es : List Nat} (h : xLs g w nL nD a mc ci es) (hci : ci ≠ 6) (hk : ∀ k, (k = nL ∨ k = nD ∨ ∃ q fs, w k = some (q, .inr (ci, fs))) → u k = w k) : xLs g u nL nD a mc ci es := by
  obtain ⟨d, h1, h2, h3, h4⟩ := h
  refine ⟨d, (hk nL (Or.inl rfl)).trans h1, h2, fun y hy => (h3 y hy).keep (fun n fs e => hk n (Or.inr (Or.inr ⟨_, _, e⟩))), ?_⟩
  rcases h4 with h4 | ⟨cap, f, h5, h6⟩
  · exact Or.inl h4
  · exact Or.inr ⟨cap, f, (hk nD (Or.inr (Or.inl rfl))).trans h5, h6⟩
def cmpI (x y : Int32) : Int32 := if x < y then -1 else if x = y then 0 else 1
theorem jk_compare (l : Launch) (g : xg) (A : Nat → Prop) (P : Heap → Prop) (x y : Int32) : Met l yJ17_compare (ws_ yJ17_compare cJ17_compare 2 (some .int)) (xrm 0 0 0) (xPc g A [.int x, .int y] P) (zQi A P (fun r => r = cmpI x y)) 0 0 A := by
  refine x_start rfl (Nat.le_of_ble_eq_true rfl) ?_
  intro p e s m below meth c hx hb hr hlk hml hown hts hnm hE hM hS ls hl
  have hF : xFix p m c cJ17_compare 2 s _ RJ17 := ⟨hx, hb, hml, hown, hts⟩
  generalize hargs : List.toArray _ = args at hts hF ⊢
  generalize hQ : MQ below _ _ s _ _ A = Q
  refine lv_iload_n hx hb dJ17_compare_0 rfl (lh_at hl rfl) ?_
  refine lv_iload_n hx hb dJ17_compare_1 rfl (lh_at hl rfl) ?_
  refine lv_icmp_ge (tgt := 9) hx hb dJ17_compare_2 (by decide) (fun c1 => ?_) (fun c1 => ?_)
  · have h1 : ¬ x < y := Int32.not_lt.mpr c1
    refine lv_iload_n hx hb dJ17_compare_9 rfl (lh_at hl rfl) ?_
    refine lv_iload_n hx hb dJ17_compare_10 rfl (lh_at hl rfl) ?_
    refine lv_icmp_ne (tgt := 18) hx hb dJ17_compare_11 (by decide) (fun c2 => ?_) (fun c2 => ?_)
    · refine lv_iconst (v := 1) hx hb dJ17_compare_18 (by decide +kernel) ?_
      exact hQ ▸ x_iret hx hb hr hlk hS () (by unfold cmpI; rw [if_neg h1, if_neg c2]) hM dJ17_compare_19
    · refine lv_iconst (v := 0) hx hb dJ17_compare_14 (by decide +kernel) ?_
      refine lv_goto (tgt := 19) hx hb dJ17_compare_15 (by decide) ?_
      exact hQ ▸ x_iret hx hb hr hlk hS () (by unfold cmpI; rw [if_neg h1, if_pos c2]) hM dJ17_compare_19
  · have h1 : x < y := Int32.not_le.mp c1
    refine lv_iconst (v := -1) hx hb dJ17_compare_5 (by decide +kernel) ?_
    refine lv_goto (tgt := 19) hx hb dJ17_compare_6 (by decide) ?_
    exact hQ ▸ x_iret hx hb hr hlk hS () (by unfold cmpI; rw [if_pos h1]) hM dJ17_compare_19
theorem xk_rankInit (l : Launch) (g : xg) (A : Nat → Prop) (w : xw_W) (n a : Nat) (x y : Int32) (h : w n = some (a, .inr (3, [.int 0, .int 0]))) :
    Met l yX4_init (ws_ yX4_init cX4_init 3 none) (xrm 0 0 0) (xPw g A w [.ref a, .int x, .int y]) (xQwv g A (fun u => u n = some (a, .inr (3, [.int x, .int y])) ∧ xAg1 w u n)) 0 0 A := by
  refine x_start rfl (Nat.le_of_ble_eq_true rfl) ?_
  intro p e s m below meth c hx hb hr hlk hml hown hts hnm hE hM hS ls hl
  have hF : xFix p m c cX4_init 3 s _ RX4 := ⟨hx, hb, hml, hown, hts⟩
  generalize hargs : List.toArray _ = args at hts hF ⊢
  generalize hQ : MQ below _ _ s _ _ A = Q
  refine lv_aload_n hx hb dX4_init_0 rfl (lh_at hl rfl) ?_
  refine x_obj hx hb hml hown (hts _ q608) (hts _ q77) (hts _ q78) hl dX4_init_1 (Nat.le_of_ble_eq_true rfl) (Nat.le_of_ble_eq_true rfl) ?_
  refine lv_aload_n hx hb dX4_init_4 rfl (lh_at hl rfl) ?_
  refine lv_iload_n hx hb dX4_init_5 rfl (lh_at hl rfl) ?_
  refine xr_putF (C := RX4) (T := TX4) (N := 2) (ci := 3) (n := n) hx hb hts in_X4 tyX4 tyX4_ok nmX4 hown hE hM hS (by first | assumption | exact va_up_s | rfl | (refine (va_up_n ?_).trans ?_; rotate_left; (first | assumption | exact va_up_s | rfl | (refine (va_up_n ?_).trans ?_; rotate_left; (first | assumption | exact va_up_s | rfl | (refine (va_up_n ?_).trans ?_; rotate_left; (first | assumption | exact va_up_s | rfl | (refine (va_up_n ?_).trans ?_; rotate_left; (first | assumption | exact va_up_s | rfl | (refine (va_up_n ?_).trans ?_; rotate_left; (assumption); omega)); omega)); omega)); omega)); omega)) rfl 0 (by decide) (hts _ q609) (fun _ h => h) rfl hnm rfl (tyX4_ok 0 (by decide)) rfl rfl (Nat.le_of_ble_eq_true rfl) dX4_init_6 (fun H locs hM hS => ?_)
  refine lv_aload_n hx hb dX4_init_9 rfl (lh_at hl rfl) ?_
  refine lv_iload_n hx hb dX4_init_10 rfl (lh_at hl rfl) ?_
  refine xr_putF (C := RX4) (T := TX4) (N := 2) (ci := 3) (n := n) hx hb hts in_X4 tyX4 tyX4_ok nmX4 hown hE hM hS (by first | assumption | exact va_up_s | rfl | (refine (va_up_n ?_).trans ?_; rotate_left; (first | assumption | exact va_up_s | rfl | (refine (va_up_n ?_).trans ?_; rotate_left; (first | assumption | exact va_up_s | rfl | (refine (va_up_n ?_).trans ?_; rotate_left; (first | assumption | exact va_up_s | rfl | (refine (va_up_n ?_).trans ?_; rotate_left; (first | assumption | exact va_up_s | rfl | (refine (va_up_n ?_).trans ?_; rotate_left; (assumption); omega)); omega)); omega)); omega)); omega)) rfl 1 (by decide) (hts _ q610) (fun _ h => h) rfl hnm rfl (tyX4_ok 1 (by decide)) rfl rfl (Nat.le_of_ble_eq_true rfl) dX4_init_11 (fun H locs hM hS => ?_)
  exact hQ ▸ x_vret hx hb hr hlk hS _ ⟨va_up_s, fun k k1 => by rw [va_up_n k1, va_up_n k1]⟩ hM dX4_init_14
theorem xk_rankCmp2 (l : Launch) (g : xg) (A : Nat → Prop) (w : xw_W) (n1 n2 a b : Nat) (x1 y1 x2 y2 : Int32) (h1 : w n1 = some (a, .inr (3, [.int x1, .int y1]))) (h2 : w n2 = some (b, .inr (3, [.int x2, .int y2]))) :
    Met l yX4_compareTo_2 (ws_ yX4_compareTo_2 cX4_compareTo_2 2 (some .int)) (xrm 1 0 0) (xPw g A w [.ref a, .ref b]) (zQi A (xw g A w) (fun r => r = if x1 = x2 then cmpI y1 y2 else cmpI x1 x2)) 0 0 A := by
  refine x_start rfl (Nat.le_of_ble_eq_true rfl) ?_
  intro p e s m below meth c hx hb hr hlk hml hown hts hnm hE hM hS ls hl
  have hF : xFix p m c cX4_compareTo_2 2 s _ RX4 := ⟨hx, hb, hml, hown, hts⟩
  generalize hargs : List.toArray _ = args at hts hF ⊢
  generalize hQ : MQ below _ _ s _ _ A = Q
  refine lv_aload_n hx hb dX4_compareTo_2_0 rfl (lh_at hl rfl) ?_
  refine xr_get (C := RX4) (T := TX4) (N := 2) (ci := 3) (n := n1) hx hb hts in_X4 hown hE hM (by first | assumption | exact va_up_s | rfl | (refine (va_up_n ?_).trans ?_; rotate_left; (first | assumption | exact va_up_s | rfl | (refine (va_up_n ?_).trans ?_; rotate_left; (first | assumption | exact va_up_s | rfl | (refine (va_up_n ?_).trans ?_; rotate_left; (first | assumption | exact va_up_s | rfl | (refine (va_up_n ?_).trans ?_; rotate_left; (first | assumption | exact va_up_s | rfl | (refine (va_up_n ?_).trans ?_; rotate_left; (assumption); omega)); omega)); omega)); omega)); omega)) rfl 0 (by decide) (hts _ q609) (fun _ h => h) rfl dX4_compareTo_2_1 ?_
  refine lv_aload_n hx hb dX4_compareTo_2_4 rfl (lh_at hl rfl) ?_
  refine xr_get (C := RX4) (T := TX4) (N := 2) (ci := 3) (n := n2) hx hb hts in_X4 hown hE hM (by first | assumption | exact va_up_s | rfl | (refine (va_up_n ?_).trans ?_; rotate_left; (first | assumption | exact va_up_s | rfl | (refine (va_up_n ?_).trans ?_; rotate_left; (first | assumption | exact va_up_s | rfl | (refine (va_up_n ?_).trans ?_; rotate_left; (first | assumption | exact va_up_s | rfl | (refine (va_up_n ?_).trans ?_; rotate_left; (first | assumption | exact va_up_s | rfl | (refine (va_up_n ?_).trans ?_; rotate_left; (assumption); omega)); omega)); omega)); omega)); omega)) rfl 0 (by decide) (hts _ q609) (fun _ h => h) rfl dX4_compareTo_2_5 ?_
  refine lv_icmp_eq (tgt := 25) hx hb dX4_compareTo_2_8 (by decide) (fun c1 => ?_) (fun c1 => ?_)
  · refine lv_aload_n hx hb dX4_compareTo_2_25 rfl (lh_at hl rfl) ?_
    refine xr_get (C := RX4) (T := TX4) (N := 2) (ci := 3) (n := n1) hx hb hts in_X4 hown hE hM (by first | assumption | exact va_up_s | rfl | (refine (va_up_n ?_).trans ?_; rotate_left; (first | assumption | exact va_up_s | rfl | (refine (va_up_n ?_).trans ?_; rotate_left; (first | assumption | exact va_up_s | rfl | (refine (va_up_n ?_).trans ?_; rotate_left; (first | assumption | exact va_up_s | rfl | (refine (va_up_n ?_).trans ?_; rotate_left; (first | assumption | exact va_up_s | rfl | (refine (va_up_n ?_).trans ?_; rotate_left; (assumption); omega)); omega)); omega)); omega)); omega)) rfl 1 (by decide) (hts _ q610) (fun _ h => h) rfl dX4_compareTo_2_26 ?_
    refine lv_aload_n hx hb dX4_compareTo_2_29 rfl (lh_at hl rfl) ?_
    refine xr_get (C := RX4) (T := TX4) (N := 2) (ci := 3) (n := n2) hx hb hts in_X4 hown hE hM (by first | assumption | exact va_up_s | rfl | (refine (va_up_n ?_).trans ?_; rotate_left; (first | assumption | exact va_up_s | rfl | (refine (va_up_n ?_).trans ?_; rotate_left; (first | assumption | exact va_up_s | rfl | (refine (va_up_n ?_).trans ?_; rotate_left; (first | assumption | exact va_up_s | rfl | (refine (va_up_n ?_).trans ?_; rotate_left; (first | assumption | exact va_up_s | rfl | (refine (va_up_n ?_).trans ?_; rotate_left; (assumption); omega)); omega)); omega)); omega)); omega)) rfl 1 (by decide) (hts _ q610) (fun _ h => h) rfl dX4_compareTo_2_30 ?_
    refine x_calli (x_runS (As := [.int y1, .int y2]) hF hE hS hM hl (jk_compare l g A (xw g A w) y1 y2) q654 q655 q60 q656 ⟨by decide +kernel, by decide +kernel, by show _ = some 2; decide +kernel⟩ rfl rfl ⟨Nat.le_of_ble_eq_true rfl, Nat.le_of_ble_eq_true rfl⟩ rfl (Nat.le_of_ble_eq_true rfl) dX4_compareTo_2_33 ⟨Nat.le_of_ble_eq_true rfl, Nat.le_of_ble_eq_true rfl⟩) hS (fun r uu H locs hq hM hS => ?_)
    exact hQ ▸ x_iret hx hb hr hlk hS () (by rw [if_pos c1]; exact hq) hM dX4_compareTo_2_36
  · refine lv_aload_n hx hb dX4_compareTo_2_11 rfl (lh_at hl rfl) ?_
    refine xr_get (C := RX4) (T := TX4) (N := 2) (ci := 3) (n := n1) hx hb hts in_X4 hown hE hM (by first | assumption | exact va_up_s | rfl | (refine (va_up_n ?_).trans ?_; rotate_left; (first | assumption | exact va_up_s | rfl | (refine (va_up_n ?_).trans ?_; rotate_left; (first | assumption | exact va_up_s | rfl | (refine (va_up_n ?_).trans ?_; rotate_left; (first | assumption | exact va_up_s | rfl | (refine (va_up_n ?_).trans ?_; rotate_left; (first | assumption | exact va_up_s | rfl | (refine (va_up_n ?_).trans ?_; rotate_left; (assumption); omega)); omega)); omega)); omega)); omega)) rfl 0 (by decide) (hts _ q609) (fun _ h => h) rfl dX4_compareTo_2_12 ?_
    refine lv_aload_n hx hb dX4_compareTo_2_15 rfl (lh_at hl rfl) ?_
    refine xr_get (C := RX4) (T := TX4) (N := 2) (ci := 3) (n := n2) hx hb hts in_X4 hown hE hM (by first | assumption | exact va_up_s | rfl | (refine (va_up_n ?_).trans ?_; rotate_left; (first | assumption | exact va_up_s | rfl | (refine (va_up_n ?_).trans ?_; rotate_left; (first | assumption | exact va_up_s | rfl | (refine (va_up_n ?_).trans ?_; rotate_left; (first | assumption | exact va_up_s | rfl | (refine (va_up_n ?_).trans ?_; rotate_left; (first | assumption | exact va_up_s | rfl | (refine (va_up_n ?_).trans ?_; rotate_left; (assumption); omega)); omega)); omega)); omega)); omega)) rfl 0 (by decide) (hts _ q609) (fun _ h => h) rfl dX4_compareTo_2_16 ?_
    refine x_calli (x_runS (As := [.int x1, .int x2]) hF hE hS hM hl (jk_compare l g A (xw g A w) x1 x2) q654 q655 q60 q656 ⟨by decide +kernel, by decide +kernel, by show _ = some 2; decide +kernel⟩ rfl rfl ⟨Nat.le_of_ble_eq_true rfl, Nat.le_of_ble_eq_true rfl⟩ rfl (Nat.le_of_ble_eq_true rfl) dX4_compareTo_2_19 ⟨Nat.le_of_ble_eq_true rfl, Nat.le_of_ble_eq_true rfl⟩) hS (fun r uu H locs hq hM hS => ?_)
    refine lv_goto (tgt := 36) hx hb dX4_compareTo_2_22 (by decide) ?_
    exact hQ ▸ x_iret hx hb hr hlk hS () (by rw [if_neg c1]; exact hq) hM dX4_compareTo_2_36
theorem xk_rankCmp (l : Launch) (g : xg) (A : Nat → Prop) (w : xw_W) (n1 n2 a b : Nat) (x1 y1 x2 y2 : Int32) (h1 : w n1 = some (a, .inr (3, [.int x1, .int y1]))) (h2 : w n2 = some (b, .inr (3, [.int x2, .int y2]))) :
    Met l yX4_compareTo (ws_ yX4_compareTo cX4_compareTo 2 (some .int)) (xrm 2 0 0) (xPw g A w [.ref a, .ref b]) (zQi A (xw g A w) (fun r => r = if x1 = x2 then cmpI y1 y2 else cmpI x1 x2)) 0 0 A := by
  refine x_start rfl (Nat.le_of_ble_eq_true rfl) ?_
  intro p e s m below meth c hx hb hr hlk hml hown hts hnm hE hM hS ls hl
  have hF : xFix p m c cX4_compareTo 2 s _ RX4 := ⟨hx, hb, hml, hown, hts⟩
  generalize hargs : List.toArray _ = args at hts hF ⊢
  generalize hQ : MQ below _ _ s _ _ A = Q
  refine lv_aload_n hx hb dX4_compareTo_0 rfl (lh_at hl rfl) ?_
  refine lv_aload_n hx hb dX4_compareTo_1 rfl (lh_at hl rfl) ?_
  refine xr_cast (n := n2) (r := (RX4, TX4, 2)) (ci := 3) hx hb hown hE hM (by first | assumption | exact va_up_s | rfl | (refine (va_up_n ?_).trans ?_; rotate_left; (first | assumption | exact va_up_s | rfl | (refine (va_up_n ?_).trans ?_; rotate_left; (first | assumption | exact va_up_s | rfl | (refine (va_up_n ?_).trans ?_; rotate_left; (first | assumption | exact va_up_s | rfl | (refine (va_up_n ?_).trans ?_; rotate_left; (first | assumption | exact va_up_s | rfl | (refine (va_up_n ?_).trans ?_; rotate_left; (assumption); omega)); omega)); omega)); omega)); omega)) rfl (hts _ q649) dX4_compareTo_2 ?_
  refine x_calli (x_runV (As := [.ref b]) hF hE hS hM hl (xk_rankCmp2 l g A w n1 n2 a b x1 y1 x2 y2 h1 h2) (by exact xw.recv hE hM h1 rfl) q650 q651 q652 q63 q653 ⟨rfl, by decide +kernel, by decide +kernel, by show _ = some 1; decide +kernel⟩ rfl rfl ⟨Nat.le_of_ble_eq_true rfl, Nat.le_of_ble_eq_true rfl⟩ rfl (Nat.le_of_ble_eq_true rfl) dX4_compareTo_5 ⟨Nat.le_of_ble_eq_true rfl, Nat.le_of_ble_eq_true rfl⟩) hS (fun r uu H locs hq hM hS => ?_)
  exact hQ ▸ x_iret hx hb hr hlk hS () hq hM dX4_compareTo_8
theorem xk_ordLines (l : Launch) (g : xg) (A : Nat → Prop) (w : xw_W) (n a pr : Nat) (x z : Int32) (q : Value) (h : w n = some (a, .inr (4, [.int x, q, .int (nI pr), .int z]))) (hp : pr < 2 ^ 20) :
    Met l yX5_lines (ws_ yX5_lines cX5_lines 1 (some .int)) (xrm 1 0 0) (xPw g A w [.ref a]) (zQi A (xw g A w) (fun r => r = nI (cntB pr 20))) 0 0 A := by
  refine x_start rfl (Nat.le_of_ble_eq_true rfl) ?_
  intro p e s m below meth c hx hb hr hlk hml hown hts hnm hE hM hS ls hl
  have hF : xFix p m c cX5_lines 1 s _ RX5 := ⟨hx, hb, hml, hown, hts⟩
  generalize hargs : List.toArray _ = args at hts hF ⊢
  generalize hQ : MQ below _ _ s _ _ A = Q
  refine lv_aload_n hx hb dX5_lines_0 rfl (lh_at hl rfl) ?_
  refine xr_get (C := RX5) (T := TX5) (N := 4) (ci := 4) (n := n) hx hb hts in_X5 hown hE hM (by first | assumption | exact va_up_s | rfl | (refine (va_up_n ?_).trans ?_; rotate_left; (first | assumption | exact va_up_s | rfl | (refine (va_up_n ?_).trans ?_; rotate_left; (first | assumption | exact va_up_s | rfl | (refine (va_up_n ?_).trans ?_; rotate_left; (first | assumption | exact va_up_s | rfl | (refine (va_up_n ?_).trans ?_; rotate_left; (first | assumption | exact va_up_s | rfl | (refine (va_up_n ?_).trans ?_; rotate_left; (assumption); omega)); omega)); omega)); omega)); omega)) rfl 2 (by decide) (hts _ q957) (fun _ h => h) rfl dX5_lines_1 ?_
  refine x_calli (x_runS (As := [.int (nI pr)]) hF hE hS hM hl (jk_bitCount l g A (xw g A w) pr hp) q1000 q1001 q60 q1002 ⟨by decide +kernel, by decide +kernel, by show _ = some 1; decide +kernel⟩ rfl rfl ⟨Nat.le_of_ble_eq_true rfl, Nat.le_of_ble_eq_true rfl⟩ rfl (Nat.le_of_ble_eq_true rfl) dX5_lines_4 ⟨Nat.le_of_ble_eq_true rfl, Nat.le_of_ble_eq_true rfl⟩) hS (fun r uu H locs hq hM hS => ?_)
  exact hQ ▸ x_iret hx hb hr hlk hS () hq hM dX5_lines_7
theorem xk_ordInit (l : Launch) (g : xg) (A : Nat → Prop) (w : xw_W) (n nQ a : Nat) (due : Int32) (hne : n ≠ nQ) (h : w n = some (a, .inr (4, [.int 0, .null, .int 0, .int 0]))) :
    Met l yX5_init (ws_ yX5_init cX5_init 2 none) (xrm 0 1 20) (xPw g A w [.ref a, .int due]) (xQwv g A (fun u => ∃ q, u n = some (a, .inr (4, [.int due, .ref q, .int (nI 0), .int (nI 0)])) ∧ u nQ = some (q, .inl (g.2 0, 20, .inl (fun _ => 0))) ∧ xAg2 w u n nQ)) 1 20 A := by
  refine x_start rfl (Nat.le_of_ble_eq_true rfl) ?_
  intro p e s m below meth c hx hb hr hlk hml hown hts hnm hE hM hS ls hl
  have hF : xFix p m c cX5_init 2 s _ RX5 := ⟨hx, hb, hml, hown, hts⟩
  generalize hargs : List.toArray _ = args at hts hF ⊢
  generalize hQ : MQ below _ _ s _ _ A = Q
  refine lv_aload_n hx hb dX5_init_0 rfl (lh_at hl rfl) ?_
  refine x_obj hx hb hml hown (hts _ q952) (hts _ q77) (hts _ q78) hl dX5_init_1 (Nat.le_of_ble_eq_true rfl) (Nat.le_of_ble_eq_true rfl) ?_
  refine lv_aload_n hx hb dX5_init_4 rfl (lh_at hl rfl) ?_
  refine n_bipush hx hb 20 dX5_init_5 (by decide +kernel) ?_
  refine xr_newi hx hb (hts _ q108) hE hM hS nQ (by omega) (Nat.le_of_ble_eq_true rfl) (Nat.le_of_ble_eq_true rfl) dX5_init_7 (fun q H hq hM hS => ?_)
  refine xr_putF (C := RX5) (T := TX5) (N := 4) (ci := 4) (n := n) hx hb hts in_X5 tyX5 tyX5_ok nmX5 hown hE hM hS (by first | assumption | exact va_up_s | rfl | (refine (va_up_n ?_).trans ?_; rotate_left; (first | assumption | exact va_up_s | rfl | (refine (va_up_n ?_).trans ?_; rotate_left; (first | assumption | exact va_up_s | rfl | (refine (va_up_n ?_).trans ?_; rotate_left; (first | assumption | exact va_up_s | rfl | (refine (va_up_n ?_).trans ?_; rotate_left; (first | assumption | exact va_up_s | rfl | (refine (va_up_n ?_).trans ?_; rotate_left; (assumption); omega)); omega)); omega)); omega)); omega)) rfl 1 (by decide) (hts _ q955) (fun _ h => h) rfl hnm rfl (tyX5_ok 1 (by decide)) rfl rfl (Nat.le_of_ble_eq_true rfl) dX5_init_9 (fun H locs hM hS => ?_)
  refine lv_aload_n hx hb dX5_init_12 rfl (lh_at hl rfl) ?_
  refine n_const hx hb 0 dX5_init_13 (by decide +kernel) ?_
  refine xr_put (C := RX5) (T := TX5) (N := 4) (ci := 4) (n := n) hx hb hts in_X5 tyX5 tyX5_ok nmX5 hown hE hM hS (by first | assumption | exact va_up_s | rfl | (refine (va_up_n ?_).trans ?_; rotate_left; (first | assumption | exact va_up_s | rfl | (refine (va_up_n ?_).trans ?_; rotate_left; (first | assumption | exact va_up_s | rfl | (refine (va_up_n ?_).trans ?_; rotate_left; (first | assumption | exact va_up_s | rfl | (refine (va_up_n ?_).trans ?_; rotate_left; (first | assumption | exact va_up_s | rfl | (refine (va_up_n ?_).trans ?_; rotate_left; (assumption); omega)); omega)); omega)); omega)); omega)) rfl 3 (by decide) (hts _ q960) (fun _ h => h) rfl (tyX5_ok 3 (by decide)) rfl rfl (Nat.le_of_ble_eq_true rfl) dX5_init_14 (fun H locs hM hS => ?_)
  refine lv_aload_n hx hb dX5_init_17 rfl (lh_at hl rfl) ?_
  refine lv_iload_n hx hb dX5_init_18 rfl (lh_at hl rfl) ?_
  refine xr_putF (C := RX5) (T := TX5) (N := 4) (ci := 4) (n := n) hx hb hts in_X5 tyX5 tyX5_ok nmX5 hown hE hM hS (by first | assumption | exact va_up_s | rfl | (refine (va_up_n ?_).trans ?_; rotate_left; (first | assumption | exact va_up_s | rfl | (refine (va_up_n ?_).trans ?_; rotate_left; (first | assumption | exact va_up_s | rfl | (refine (va_up_n ?_).trans ?_; rotate_left; (first | assumption | exact va_up_s | rfl | (refine (va_up_n ?_).trans ?_; rotate_left; (first | assumption | exact va_up_s | rfl | (refine (va_up_n ?_).trans ?_; rotate_left; (assumption); omega)); omega)); omega)); omega)); omega)) rfl 0 (by decide) (hts _ q953) (fun _ h => h) rfl hnm rfl (tyX5_ok 0 (by decide)) rfl rfl (Nat.le_of_ble_eq_true rfl) dX5_init_19 (fun H locs hM hS => ?_)
  exact hQ ▸ x_vret hx hb hr hlk hS _ ⟨q, va_up_s, by rw [va_up_n hne.symm, va_up_n hne.symm, va_up_n hne.symm, va_up_s], fun k k1 k2 => by rw [va_up_n k1, va_up_n k1, va_up_n k1, va_up_n k2]⟩ hM dX5_init_22
theorem xk_takes (l : Launch) (g : xg) (A : Nat → Prop) (w : xw_W) (nB nL nD nT nO b la o pr P L : Nat) (mc due z : Int32) (qa : Value) (es : List Nat) (hLs : xLs g w nL nD la mc 4 es) (hn : es.length < 40) (hB : w nB = some (b, .inr (5, [.ref la, .int (nI P), .int (nI L)]))) (hO : w nO = some (o, .inr (4, [.int due, qa, .int (nI pr), .int z]))) (hp : pr < 2 ^ 20)
    (hLD : nL ≠ nD) (hTD : nT ≠ nD) (hT : w nT = none) (hBL : nB ≠ nL) (hBD : nB ≠ nD) (hOL : nO ≠ nL) (hOD : nO ≠ nD) (hOB : nO ≠ nB) (hnD : ∀ b fs, w nD = some (b, .inr (4, fs)) → False) :
    Met l yX6_takes (ws_ yX6_takes cX6_takes 2 none) (xrm 7 1 60) (xPw g A w [.ref b, .ref o]) (xQwv g A (fun u => xLs g u nL nD la (mc + 1) 4 (es ++ [o]) ∧ u nB = some (b, .inr (5, [.ref la, .int (nI (P ||| pr)), .int (nI (L + cntB pr 20))])) ∧ ∀ k, k ≠ nL → k ≠ nD → k ≠ nB → u k = w k)) 1 60 A := by
  obtain ⟨d, hd⟩ := hLs.size
  refine x_start rfl (Nat.le_of_ble_eq_true rfl) ?_
  intro p e s m below meth c hx hb hr hlk hml hown hts hnm hE hM hS ls hl
  have hF : xFix p m c cX6_takes 2 s _ RX6 := ⟨hx, hb, hml, hown, hts⟩
  generalize hargs : List.toArray _ = args at hts hF ⊢
  generalize hQ : MQ below _ _ s _ _ A = Q
  refine lv_aload_n hx hb dX6_takes_0 rfl (lh_at hl rfl) ?_
  refine xr_get (C := RX6) (T := TX6) (N := 3) (ci := 5) (n := nB) hx hb hts in_X6 hown hE hM (by first | assumption | exact va_up_s | rfl | (refine (va_up_n ?_).trans ?_; rotate_left; (first | assumption | exact va_up_s | rfl | (refine (va_up_n ?_).trans ?_; rotate_left; (first | assumption | exact va_up_s | rfl | (refine (va_up_n ?_).trans ?_; rotate_left; (first | assumption | exact va_up_s | rfl | (refine (va_up_n ?_).trans ?_; rotate_left; (first | assumption | exact va_up_s | rfl | (refine (va_up_n ?_).trans ?_; rotate_left; (assumption); omega)); omega)); omega)); omega)); omega)) rfl 0 (by decide) (hts _ q1122) (fun _ h => h) rfl dX6_takes_1 ?_
  refine lv_aload_n hx hb dX6_takes_4 rfl (lh_at hl rfl) ?_
  refine x_callFi (x_runF (As := [.ref o]) hF hE hS hM hl (jk_add2 l g A w nL nD nT la 4 o mc es hLs hn ⟨nO, _, hO⟩ hLD hTD hT ⟨_, rfl, q1585⟩ (by decide) hnD) (xw.recv hE hM (by first | assumption | exact va_up_s | rfl | (refine (va_up_n ?_).trans ?_; rotate_left; (first | assumption | exact va_up_s | rfl | (refine (va_up_n ?_).trans ?_; rotate_left; (first | assumption | exact va_up_s | rfl | (refine (va_up_n ?_).trans ?_; rotate_left; (first | assumption | exact va_up_s | rfl | (refine (va_up_n ?_).trans ?_; rotate_left; (first | assumption | exact va_up_s | rfl | (refine (va_up_n ?_).trans ?_; rotate_left; (assumption); omega)); omega)); omega)); omega)); omega)) rfl) (xw.at hE (ci := 6) rfl) (List.mem_of_getElem? (i := 4) rfl) q1120 q977 q975 q41 q979 ⟨by decide +kernel, by decide +kernel, by show _ = some 1; decide +kernel⟩ rfl rfl ⟨Nat.le_of_ble_eq_true rfl, Nat.le_of_ble_eq_true rfl⟩ rfl (Nat.le_of_ble_eq_true rfl) dX6_takes_5 ⟨Nat.le_of_ble_eq_true rfl, Nat.le_of_ble_eq_true rfl⟩) hS (fun r u H locs hq hM hS => ?_)
  obtain ⟨-, hL2, hag⟩ := hq
  have hB2 := (hag nB hBL hBD).trans hB
  have hO2 := (hag nO hOL hOD).trans hO
  refine lv_pop hx hb dX6_takes_10 rfl ?_
  refine lv_aload_n hx hb dX6_takes_11 rfl (lh_at hl rfl) ?_
  refine lv_dup hx hb dX6_takes_12 rfl ?_
  refine xr_get (C := RX6) (T := TX6) (N := 3) (ci := 5) (n := nB) hx hb hts in_X6 hown hE hM (by first | assumption | exact va_up_s | rfl | (refine (va_up_n ?_).trans ?_; rotate_left; (first | assumption | exact va_up_s | rfl | (refine (va_up_n ?_).trans ?_; rotate_left; (first | assumption | exact va_up_s | rfl | (refine (va_up_n ?_).trans ?_; rotate_left; (first | assumption | exact va_up_s | rfl | (refine (va_up_n ?_).trans ?_; rotate_left; (first | assumption | exact va_up_s | rfl | (refine (va_up_n ?_).trans ?_; rotate_left; (assumption); omega)); omega)); omega)); omega)); omega)) rfl 1 (by decide) (hts _ q1124) (fun _ h => h) rfl dX6_takes_13 ?_
  refine lv_aload_n hx hb dX6_takes_16 rfl (lh_at hl rfl) ?_
  refine xr_getN (C := RX5) (T := TX5) (N := 4) (ci := 4) (n := nO) hx hb hts in_X5 hown hE hM (by first | assumption | exact va_up_s | rfl | (refine (va_up_n ?_).trans ?_; rotate_left; (first | assumption | exact va_up_s | rfl | (refine (va_up_n ?_).trans ?_; rotate_left; (first | assumption | exact va_up_s | rfl | (refine (va_up_n ?_).trans ?_; rotate_left; (first | assumption | exact va_up_s | rfl | (refine (va_up_n ?_).trans ?_; rotate_left; (first | assumption | exact va_up_s | rfl | (refine (va_up_n ?_).trans ?_; rotate_left; (assumption); omega)); omega)); omega)); omega)); omega)) rfl 2 (by decide) q958 (fun _ h => h) rfl dX6_takes_17 ?_
  refine n_ior hx hb dX6_takes_20 ?_
  refine xr_put (C := RX6) (T := TX6) (N := 3) (ci := 5) (n := nB) hx hb hts in_X6 tyX6 tyX6_ok nmX6 hown hE hM hS (by first | assumption | exact va_up_s | rfl | (refine (va_up_n ?_).trans ?_; rotate_left; (first | assumption | exact va_up_s | rfl | (refine (va_up_n ?_).trans ?_; rotate_left; (first | assumption | exact va_up_s | rfl | (refine (va_up_n ?_).trans ?_; rotate_left; (first | assumption | exact va_up_s | rfl | (refine (va_up_n ?_).trans ?_; rotate_left; (first | assumption | exact va_up_s | rfl | (refine (va_up_n ?_).trans ?_; rotate_left; (assumption); omega)); omega)); omega)); omega)); omega)) rfl 1 (by decide) (hts _ q1124) (fun _ h => h) rfl (tyX6_ok 1 (by decide)) rfl rfl (Nat.le_of_ble_eq_true rfl) dX6_takes_21 (fun H locs hM hS => ?_)
  have hO3 : va_up u nB (some (b, .inr (5, ([.ref la, .int (nI P), .int (nI L)] : List Value).set 1 (.int (nI (P ||| pr)))))) nO = some (o, .inr (4, [.int due, qa, .int (nI pr), .int z])) := (va_up_n hOB).trans hO2
  refine lv_aload_n hx hb dX6_takes_24 rfl (lh_at hl rfl) ?_
  refine lv_dup hx hb dX6_takes_25 rfl ?_
  refine xr_get (C := RX6) (T := TX6) (N := 3) (ci := 5) (n := nB) hx hb hts in_X6 hown hE hM (by first | assumption | exact va_up_s | rfl | (refine (va_up_n ?_).trans ?_; rotate_left; (first | assumption | exact va_up_s | rfl | (refine (va_up_n ?_).trans ?_; rotate_left; (first | assumption | exact va_up_s | rfl | (refine (va_up_n ?_).trans ?_; rotate_left; (first | assumption | exact va_up_s | rfl | (refine (va_up_n ?_).trans ?_; rotate_left; (first | assumption | exact va_up_s | rfl | (refine (va_up_n ?_).trans ?_; rotate_left; (assumption); omega)); omega)); omega)); omega)); omega)) rfl 2 (by decide) (hts _ q1126) (fun _ h => h) rfl dX6_takes_26 ?_
  refine lv_aload_n hx hb dX6_takes_29 rfl (lh_at hl rfl) ?_
  refine x_calli (x_runV (As := []) hF hE hS hM hl (xk_ordLines l g A _ nO o pr due z qa hO3 hp) (xw.recv hE hM (by first | assumption | exact va_up_s | rfl | (refine (va_up_n ?_).trans ?_; rotate_left; (first | assumption | exact va_up_s | rfl | (refine (va_up_n ?_).trans ?_; rotate_left; (first | assumption | exact va_up_s | rfl | (refine (va_up_n ?_).trans ?_; rotate_left; (first | assumption | exact va_up_s | rfl | (refine (va_up_n ?_).trans ?_; rotate_left; (first | assumption | exact va_up_s | rfl | (refine (va_up_n ?_).trans ?_; rotate_left; (assumption); omega)); omega)); omega)); omega)); omega)) rfl) q1121 q997 q998 q68 q999 ⟨rfl, by decide +kernel, by decide +kernel, by show _ = some 0; decide +kernel⟩ rfl rfl ⟨Nat.le_of_ble_eq_true rfl, Nat.le_of_ble_eq_true rfl⟩ rfl (Nat.le_of_ble_eq_true rfl) dX6_takes_30 ⟨Nat.le_of_ble_eq_true rfl, Nat.le_of_ble_eq_true rfl⟩) hS (fun r uu H locs hq hM hS => ?_)
  subst hq
  refine n_iadd hx hb dX6_takes_33 ?_
  refine xr_put (C := RX6) (T := TX6) (N := 3) (ci := 5) (n := nB) hx hb hts in_X6 tyX6 tyX6_ok nmX6 hown hE hM hS (by first | assumption | exact va_up_s | rfl | (refine (va_up_n ?_).trans ?_; rotate_left; (first | assumption | exact va_up_s | rfl | (refine (va_up_n ?_).trans ?_; rotate_left; (first | assumption | exact va_up_s | rfl | (refine (va_up_n ?_).trans ?_; rotate_left; (first | assumption | exact va_up_s | rfl | (refine (va_up_n ?_).trans ?_; rotate_left; (first | assumption | exact va_up_s | rfl | (refine (va_up_n ?_).trans ?_; rotate_left; (assumption); omega)); omega)); omega)); omega)); omega)) rfl 2 (by decide) (hts _ q1126) (fun _ h => h) rfl (tyX6_ok 2 (by decide)) rfl rfl (Nat.le_of_ble_eq_true rfl) dX6_takes_34 (fun H locs hM hS => ?_)
  refine W.widen (k := 1) (n := 60) (Nat.le_of_ble_eq_true rfl) (Nat.le_of_ble_eq_true rfl) ?_
  refine hQ ▸ x_vret hx hb hr hlk hS _ ⟨?_, va_up_s, fun k k1 k2 k3 => ?_⟩ hM dX6_takes_37
  · exact hL2.keep (by decide) (fun k hk => by
      by_cases hkB : k = nB
      · subst hkB
        rcases hk with hk | hk | ⟨q, fs, hk⟩
        · exact absurd hk hBL
        · exact absurd hk hBD
        · rw [hB2] at hk
          cases hk
      · rw [va_up_n hkB, va_up_n hkB])
  · rw [va_up_n k3, va_up_n k3]
    exact hag k k1 k2
