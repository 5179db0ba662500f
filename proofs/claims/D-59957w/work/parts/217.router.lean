/-! Router's constructor -/
set_option maxRecDepth 100000
set_option maxHeartbeats 1000000 in
theorem xk_routerInit (l : Launch) (g : xg) (A : Nat → Prop) (w : xw_W) (r x0 : Nat) (h8 : w 8 = some (r, .inr (1, [.null, .null, .int 0, .null]))) (h0 : ∃ fs, w 0 = some (x0, .inr (0, fs))) :
    Met l yX2_init (ws_ yX2_init cX2_init 2 none) (xrm 1 514 5129) (xPw g A w [.ref r, .ref x0]) (xQwv g A (fun u => ∃ q9 q10, u 8 = some (r, .inr (1, [.ref q9, .ref q10, .int 0, .ref x0])) ∧ u 9 = some (q9, .inl (g.2 0, 9, .inl (fun _ => 0))) ∧ u 10 = some (q10, .inl (g.2 2, aQ 512 (fun j => some (q10 + 1 + j)))) ∧ (∀ k, k < 512 → u (1000 + k) = some (q10 + 1 + k, .inl (g.2 0, 9, .inl (fun _ => 0)))) ∧ ∀ n, n ≠ 8 → n ≠ 9 → n ≠ 10 → (n < 1000 ∨ 1512 ≤ n) → u n = w n)) 514 5129 A := by
  refine x_start rfl (Nat.le_of_ble_eq_true rfl) ?_
  intro p e s m below meth c hx hb hr hlk hml hown hts hnm hE hM hS ls hl
  have hF : xFix p m c cX2_init 2 s _ RX2 := ⟨hx, hb, hml, hown, hts⟩
  generalize hargs : List.toArray _ = args at hts hF ⊢
  generalize hQ : MQ below _ _ s _ _ A = Q
  refine lv_aload_n hx hb dX2_init_0 rfl (lh_at hl rfl) ?_
  refine lv_aload_n hx hb dX2_init_1 rfl (lh_at hl rfl) ?_
  refine xr_putF (C := RX2) (T := TX2) (N := 4) (ci := 1) (n := 8) hx hb hts in_X2 tyX2 tyX2_ok nmX2 hown hE hM hS (by first | assumption | exact va_up_s | rfl | (refine (va_up_n ?_).trans ?_; rotate_left; (first | assumption | exact va_up_s | rfl | (refine (va_up_n ?_).trans ?_; rotate_left; (first | assumption | exact va_up_s | rfl | (refine (va_up_n ?_).trans ?_; rotate_left; (first | assumption | exact va_up_s | rfl | (refine (va_up_n ?_).trans ?_; rotate_left; (first | assumption | exact va_up_s | rfl | (refine (va_up_n ?_).trans ?_; rotate_left; (assumption); omega)); omega)); omega)); omega)); omega)) rfl 3 (by decide) (hts _ q122) (fun _ h => h) rfl hnm rfl (tyX2_ok 3 (by decide)) rfl rfl (Nat.le_of_ble_eq_true rfl) dX2_init_2 (fun H locs hM hS => ?_)
  refine lv_aload_n hx hb dX2_init_5 rfl (lh_at hl rfl) ?_
  refine x_obj hx hb hml hown (hts _ q116) (hts _ q77) (hts _ q78) hl dX2_init_6 (Nat.le_of_ble_eq_true rfl) (Nat.le_of_ble_eq_true rfl) ?_
  refine lv_aload_n hx hb dX2_init_9 rfl (lh_at hl rfl) ?_
  refine n_bipush hx hb 9 dX2_init_10 (by decide +kernel) ?_
  refine xr_newi hx hb (hts _ q108) hE hM hS 9 (by omega) (Nat.le_of_ble_eq_true rfl) (Nat.le_of_ble_eq_true rfl) dX2_init_12 (fun q9 H hq9 hM hS => ?_)
  refine xr_putF (C := RX2) (T := TX2) (N := 4) (ci := 1) (n := 8) hx hb hts in_X2 tyX2 tyX2_ok nmX2 hown hE hM hS (by first | assumption | exact va_up_s | rfl | (refine (va_up_n ?_).trans ?_; rotate_left; (first | assumption | exact va_up_s | rfl | (refine (va_up_n ?_).trans ?_; rotate_left; (first | assumption | exact va_up_s | rfl | (refine (va_up_n ?_).trans ?_; rotate_left; (first | assumption | exact va_up_s | rfl | (refine (va_up_n ?_).trans ?_; rotate_left; (first | assumption | exact va_up_s | rfl | (refine (va_up_n ?_).trans ?_; rotate_left; (assumption); omega)); omega)); omega)); omega)); omega)) rfl 0 (by decide) (hts _ q118) (fun _ h => h) rfl hnm rfl (tyX2_ok 0 (by decide)) rfl rfl (Nat.le_of_ble_eq_true rfl) dX2_init_14 (fun H locs hM hS => ?_)
  refine lv_aload_n hx hb dX2_init_17 rfl (lh_at hl rfl) ?_
  refine n_sipush hx hb 512 dX2_init_18 (by decide +kernel) ?_
  refine n_bipush hx hb 9 dX2_init_21 (by decide +kernel) ?_
  refine xr_multi hx hb hown (hts _ q117) (hts _ q108) hE hM hS 10 1000 (by decide) (by decide) (by decide) (Nat.le_of_ble_eq_true rfl) (Nat.le_of_ble_eq_true rfl) dX2_init_23 (fun q10 H hq10 hM hS => ?_)
  refine xr_putF (C := RX2) (T := TX2) (N := 4) (ci := 1) (n := 8) hx hb hts in_X2 tyX2 tyX2_ok nmX2 hown hE hM hS (by (refine (xGrid_n (by decide) (by decide)).trans ?_); exact va_up_s) rfl 1 (by decide) (hts _ q119) (fun _ h => h) rfl hnm rfl (tyX2_ok 1 (by decide)) rfl rfl (Nat.le_of_ble_eq_true rfl) dX2_init_27 (fun H locs hM hS => ?_)
  refine hQ ▸ x_vret hx hb hr hlk hS _ ⟨q9, q10, va_up_s, ?_, ?_, fun k hk => ?_, fun n n8 n9 nA nr => ?_⟩ hM dX2_init_30
  · rw [va_up_n (by decide), xGrid_n (by decide) (by decide), va_up_n (by decide), va_up_s]
  · rw [va_up_n (by decide), xGrid_a]
  · rw [va_up_n (by omega), xGrid_r (by decide) hk]
  · rw [va_up_n n8, xGrid_n nA nr, va_up_n n8, va_up_n n9, va_up_n n8]
