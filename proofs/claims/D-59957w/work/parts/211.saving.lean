/-! Aislewright: saving, reckons -/
set_option maxRecDepth 100000
/-- the world with the router's and the savings' cells -/
def sW (g : xg) (w : xw_W) (ad : Nat → Nat) (σ : rS) (F : Nat → Nat → Int32) : xw_W := fun n => if 100 ≤ n ∧ n < 140 then some (ad n, .inl (g.2 0, 40, .inl (F (n - 100)))) else rW g w ad σ n
section SW
variable {g : xg} {w : xw_W} {ad : Nat → Nat} {σ σ' : rS} {F : Nat → Nat → Int32}
theorem sW_s {k : Nat} (h : k < 40) : sW g w ad σ F (100 + k) = some (ad (100 + k), .inl (g.2 0, 40, .inl (F k))) := by
  unfold sW
  rw [if_pos (by omega), show 100 + k - 100 = k by omega]
theorem sW_n {n : Nat} (h : n < 100 ∨ 140 ≤ n) : sW g w ad σ F n = rW g w ad σ n := by
  unfold sW
  rw [if_neg (by omega)]
theorem sW_w {n : Nat} (h : n < 100 ∨ 140 ≤ n) (h1 : n ≠ 8) (h2 : n ≠ 9) (h3 : n < 1000 ∨ 1512 ≤ n) : sW g w ad σ F n = w n := by
  rw [sW_n h, rW_n h1 h2 h3]
theorem sW_setF {k : Nat} (hk : k < 40) (f : Nat → Int32) : va_up (sW g w ad σ F) (100 + k) (some (ad (100 + k), .inl (g.2 0, 40, .inl f))) = sW g w ad σ (va_up F k f) := by
  funext n
  by_cases h : n = 100 + k
  · rw [h, va_up_s, sW_s hk, va_up_s]
  · rw [va_up_n h]
    unfold sW
    by_cases h2 : 100 ≤ n ∧ n < 140
    · rw [if_pos h2, if_pos h2, va_up_n (by omega)]
    · rw [if_neg h2, if_neg h2]
/-- the router sees it as its own -/
theorem sW_r : ∀ n, rW g (sW g w ad σ F) ad σ n = sW g w ad σ F n := rW_id (w := w) (fun n hn => sW_n (by omega))
theorem sW_r2 : rW g (sW g w ad σ F) ad σ' = sW g w ad σ' F := by
  funext n
  by_cases hn : n = 8 ∨ n = 9 ∨ (1000 ≤ n ∧ n < 1512)
  · rw [rW_base (w := w) hn, sW_n (by omega)]
  · rw [rW_n (by omega) (by omega) (by omega)]
    unfold sW
    by_cases h2 : 100 ≤ n ∧ n < 140
    · rw [if_pos h2, if_pos h2]
    · rw [if_neg h2, if_neg h2, rW_n (by omega) (by omega) (by omega), rW_n (by omega) (by omega) (by omega)]
variable {ν : nS} {β : Nat → List Nat}
theorem XR.sput (h : XR g ν ad β w) (σ : rS) (F : Nat → Nat → Int32) : XR g ν ad β (sW g w ad σ F) := by
  have hr := h.rput σ
  have s : ∀ n, n < 100 ∨ 140 ≤ n → sW g w ad σ F n = rW g w ad σ n := fun n hn => sW_n hn
  obtain ⟨so, hso, hsr⟩ := hr.sav
  have kl : ∀ {nL nD a ci : Nat} {mc : Int32} {es : List Nat}, (nL < 100 ∨ 140 ≤ nL) → (nD < 100 ∨ 140 ≤ nD) → xLs g (rW g w ad σ) nL nD a mc ci es → xLs g (sW g w ad σ F) nL nD a mc ci es := by
    intro nL nD a ci mc es hL hD hx
    refine hx.keep2 (s nL hL) (s nD hD) (fun y hy k fs e => ⟨k, fs, ?_⟩)
    by_cases hk : k < 100 ∨ 140 ≤ k
    · rw [s k hk]
      exact e
    · obtain ⟨-, f, hf⟩ := hsr (k - 100) (by omega)
      rw [show 100 + (k - 100) = k by omega, e] at hf
      cases hf
  refine hr.lift (fun _ _ => rfl) (fun n hn => s n (by omega)) ((s 0 (by omega)).trans hr.obj) ?_ ?_ ?_ ?_ ⟨so, (s 7 (by omega)).trans hso, fun k hk => ⟨(hsr k hk).1, F k, sW_s hk⟩⟩ (fun o ho => ?_) (fun b hb => ?_) (fun n hn b c fs e => hr.dat hn b c fs (by rw [s n (by omega)] at e; exact e)) (fun n h1 h2 => (s n (by omega)).trans (hr.ono h1 h2)) (fun n h1 h2 => (s n (by omega)).trans (hr.bno h1 h2))
  · rw [s 1 (by omega)]
    exact hr.pl
  · rw [s 2 (by omega)]
    exact hr.tu
  · obtain ⟨mc, hx⟩ := hr.ord
    exact ⟨mc, kl (by omega) (by omega) hx⟩
  · obtain ⟨mc, hx⟩ := hr.wav
    exact ⟨mc, kl (by omega) (by omega) hx⟩
  · rw [s (2000 + 2 * o) (by omega), s (2001 + 2 * o) (by omega)]
    exact hr.os ho
  · have h3 := bN_ge (β := β) (b := b)
    rw [s (bN β b) (by omega)]
    obtain ⟨h1, mc, h2⟩ := hr.bs hb
    exact ⟨h1, mc, kl (by omega) (by omega) h2⟩
theorem XR.sget {A : Nat → Prop} {H : Heap} (h : XR g ν ad β w) (hM : xw g A w H) : ∃ σ F, xw g A (sW g w ad σ F) H := by
  classical
  obtain ⟨σ, hσ⟩ := h.rou
  obtain ⟨so, -, hsr⟩ := h.sav
  have hc : ∃ F : Nat → Nat → Int32, ∀ k, k < 40 → w (100 + k) = some (ad (100 + k), .inl (g.2 0, 40, .inl (F k))) := by
    refine ⟨fun k => if hk : k < 40 then (hsr k hk).2.choose else fun _ => 0, fun k hk => ?_⟩
    simp only [hk, dif_pos]
    exact (hsr k hk).2.choose_spec
  obtain ⟨F, hF⟩ := hc
  refine ⟨σ, F, hM.eq (fun n => ?_)⟩
  unfold sW
  by_cases h2 : 100 ≤ n ∧ n < 140
  · rw [if_pos h2]
    have := hF (n - 100) (by omega)
    rw [show 100 + (n - 100) = n by omega] at this
    exact this.symm
  · rw [if_neg h2]
    exact hσ n
end SW
/-- what two batches save together -/
def savI (ν : nS) (a b : Nat) : Int32 := if lAll ν a + lAll ν b ≤ vC ν 3 then nI (lenN ν (pAll ν a) + lenN ν (pAll ν b)) - nI (lenN ν (pAll ν a ||| pAll ν b)) else 0
theorem savI_comm {ν : nS} {a b : Nat} : savI ν a b = savI ν b a := by
  unfold savI
  rw [Nat.add_comm (lAll ν a), Nat.add_comm (lenN ν (pAll ν a)), Nat.or_comm (pAll ν a)]
theorem xk_saving (l : Launch) (g : xg) (A : Nat → Prop) (w : xw_W) (ν : nS) (ad : Nat → Nat) (β : Nat → List Nat) (σ : rS) (F : Nat → Nat → Int32) (a b : Nat) (hO : xOk ν) (hX : XR g ν ad β w) (ha : a < vC ν 5) (hb1 : b < vC ν 5) :
    Met l yX1_saving (ws_ yX1_saving cX1_saving 3 (some .int)) (xrm 4 0 0) (xPw g A (sW g w ad σ F) [.ref (ad 0), .ref (ad (bN β a)), .ref (ad (bN β b))]) (xQi (S := rS) (fun r u => r = savI ν a b) (fun u => xw g A (sW g w ad u F)) A) 0 0 A := by
  have hV := hO.V
  have hcap := hV.2.2.2.1
  have hWa := hO.W a ha
  have hWb := hO.W b hb1
  have X := fun σ => hX.sput (F := F) σ
  have h0 := (X σ).obj
  have hba := ((X σ).bs ha).1
  have hbb := ((X σ).bs hb1).1
  refine x_start rfl (Nat.le_of_ble_eq_true rfl) ?_
  intro p e s m below meth c hx hb hr hlk hml hown hts hnm hE hM hS ls hl
  have hF : xFix p m c cX1_saving 3 s _ RX1 := ⟨hx, hb, hml, hown, hts⟩
  generalize hargs : List.toArray _ = args at hts hF ⊢
  generalize hQ : MQ below _ _ s _ _ A = Q
  refine lv_aload_n hx hb dX1_saving_0 rfl (lh_at hl rfl) ?_
  refine xr_getN (C := RX6) (T := TX6) (N := 3) (ci := 5) (n := (bN β a)) hx hb hts in_X6 hown hE hM (by first | assumption | exact va_up_s | rfl | (refine (va_up_n ?_).trans ?_; rotate_left; (first | assumption | exact va_up_s | rfl | (refine (va_up_n ?_).trans ?_; rotate_left; (first | assumption | exact va_up_s | rfl | (refine (va_up_n ?_).trans ?_; rotate_left; (first | assumption | exact va_up_s | rfl | (refine (va_up_n ?_).trans ?_; rotate_left; (first | assumption | exact va_up_s | rfl | (refine (va_up_n ?_).trans ?_; rotate_left; (assumption); omega)); omega)); omega)); omega)); omega)) rfl 2 (by decide) q1127 (fun _ h => h) rfl dX1_saving_1 ?_
  refine lv_aload_n hx hb dX1_saving_4 rfl (lh_at hl rfl) ?_
  refine xr_getN (C := RX6) (T := TX6) (N := 3) (ci := 5) (n := (bN β b)) hx hb hts in_X6 hown hE hM (by first | assumption | exact va_up_s | rfl | (refine (va_up_n ?_).trans ?_; rotate_left; (first | assumption | exact va_up_s | rfl | (refine (va_up_n ?_).trans ?_; rotate_left; (first | assumption | exact va_up_s | rfl | (refine (va_up_n ?_).trans ?_; rotate_left; (first | assumption | exact va_up_s | rfl | (refine (va_up_n ?_).trans ?_; rotate_left; (first | assumption | exact va_up_s | rfl | (refine (va_up_n ?_).trans ?_; rotate_left; (assumption); omega)); omega)); omega)); omega)); omega)) rfl 2 (by decide) q1127 (fun _ h => h) rfl dX1_saving_5 ?_
  refine n_iadd hx hb dX1_saving_8 ?_
  refine lv_aload_n hx hb dX1_saving_9 rfl (lh_at hl rfl) ?_
  refine xr_get (C := RX1) (T := TX1) (N := 12) (ci := 0) (n := 0) hx hb hts in_X1 hown hE hM (by first | assumption | exact va_up_s | rfl | (refine (va_up_n ?_).trans ?_; rotate_left; (first | assumption | exact va_up_s | rfl | (refine (va_up_n ?_).trans ?_; rotate_left; (first | assumption | exact va_up_s | rfl | (refine (va_up_n ?_).trans ?_; rotate_left; (first | assumption | exact va_up_s | rfl | (refine (va_up_n ?_).trans ?_; rotate_left; (first | assumption | exact va_up_s | rfl | (refine (va_up_n ?_).trans ?_; rotate_left; (assumption); omega)); omega)); omega)); omega)); omega)) rfl 9 (by decide) (hts _ q150) (fun _ h => h) rfl dX1_saving_10 ?_
  refine n_icmp_le (tgt := 18) hx hb dX1_saving_13 (by decide) (by omega) (by omega) (fun c1 => ?_) (fun c1 => ?_)
  · refine lv_aload_n hx hb dX1_saving_18 rfl (lh_at hl rfl) ?_
    refine xr_get (C := RX1) (T := TX1) (N := 12) (ci := 0) (n := 0) hx hb hts in_X1 hown hE hM (by first | assumption | exact va_up_s | rfl | (refine (va_up_n ?_).trans ?_; rotate_left; (first | assumption | exact va_up_s | rfl | (refine (va_up_n ?_).trans ?_; rotate_left; (first | assumption | exact va_up_s | rfl | (refine (va_up_n ?_).trans ?_; rotate_left; (first | assumption | exact va_up_s | rfl | (refine (va_up_n ?_).trans ?_; rotate_left; (first | assumption | exact va_up_s | rfl | (refine (va_up_n ?_).trans ?_; rotate_left; (assumption); omega)); omega)); omega)); omega)); omega)) rfl 8 (by decide) (hts _ q149) (fun _ h => h) rfl dX1_saving_19 ?_
    refine lv_aload_n hx hb dX1_saving_22 rfl (lh_at hl rfl) ?_
    refine xr_getN (C := RX6) (T := TX6) (N := 3) (ci := 5) (n := (bN β a)) hx hb hts in_X6 hown hE hM (by first | assumption | exact va_up_s | rfl | (refine (va_up_n ?_).trans ?_; rotate_left; (first | assumption | exact va_up_s | rfl | (refine (va_up_n ?_).trans ?_; rotate_left; (first | assumption | exact va_up_s | rfl | (refine (va_up_n ?_).trans ?_; rotate_left; (first | assumption | exact va_up_s | rfl | (refine (va_up_n ?_).trans ?_; rotate_left; (first | assumption | exact va_up_s | rfl | (refine (va_up_n ?_).trans ?_; rotate_left; (assumption); omega)); omega)); omega)); omega)); omega)) rfl 1 (by decide) q1125 (fun _ h => h) rfl dX1_saving_23 ?_
    have hM := hM.eq (w' := rW g (sW g w ad σ F) ad σ) sW_r
    refine x_calli (x_runV (As := [.int (nI (pAll ν a))]) hF hE hS hM hl (xk_length l g A (sW g w ad σ F) ad σ ν (pAll ν a) (X σ).rB hV (hO.pset ha)) (by exact xw.recv hE hM rW_8 rfl) q1021 q1022 q1023 q42 q1024 ⟨rfl, by decide +kernel, by decide +kernel, by show _ = some 1; decide +kernel⟩ rfl rfl ⟨Nat.le_of_ble_eq_true rfl, Nat.le_of_ble_eq_true rfl⟩ rfl (Nat.le_of_ble_eq_true rfl) dX1_saving_26 ⟨Nat.le_of_ble_eq_true rfl, Nat.le_of_ble_eq_true rfl⟩) hS (fun r σ1 H locs hq1 hM hS => ?_)
    rw [hq1.1]
    rw [sW_r2] at hM
    have h01 := (X σ1).obj
    have hbb1 := ((X σ1).bs hb1).1
    refine lv_aload_n hx hb dX1_saving_29 rfl (lh_at hl rfl) ?_
    refine xr_get (C := RX1) (T := TX1) (N := 12) (ci := 0) (n := 0) hx hb hts in_X1 hown hE hM (by first | assumption | exact va_up_s | rfl | (refine (va_up_n ?_).trans ?_; rotate_left; (first | assumption | exact va_up_s | rfl | (refine (va_up_n ?_).trans ?_; rotate_left; (first | assumption | exact va_up_s | rfl | (refine (va_up_n ?_).trans ?_; rotate_left; (first | assumption | exact va_up_s | rfl | (refine (va_up_n ?_).trans ?_; rotate_left; (first | assumption | exact va_up_s | rfl | (refine (va_up_n ?_).trans ?_; rotate_left; (assumption); omega)); omega)); omega)); omega)); omega)) rfl 8 (by decide) (hts _ q149) (fun _ h => h) rfl dX1_saving_30 ?_
    refine lv_aload_n hx hb dX1_saving_33 rfl (lh_at hl rfl) ?_
    refine xr_getN (C := RX6) (T := TX6) (N := 3) (ci := 5) (n := (bN β b)) hx hb hts in_X6 hown hE hM (by first | assumption | exact va_up_s | rfl | (refine (va_up_n ?_).trans ?_; rotate_left; (first | assumption | exact va_up_s | rfl | (refine (va_up_n ?_).trans ?_; rotate_left; (first | assumption | exact va_up_s | rfl | (refine (va_up_n ?_).trans ?_; rotate_left; (first | assumption | exact va_up_s | rfl | (refine (va_up_n ?_).trans ?_; rotate_left; (first | assumption | exact va_up_s | rfl | (refine (va_up_n ?_).trans ?_; rotate_left; (assumption); omega)); omega)); omega)); omega)); omega)) rfl 1 (by decide) q1125 (fun _ h => h) rfl dX1_saving_34 ?_
    have hM := hM.eq (w' := rW g (sW g w ad σ1 F) ad σ1) sW_r
    refine x_calli (x_runV (As := [.int (nI (pAll ν b))]) hF hE hS hM hl (xk_length l g A (sW g w ad σ1 F) ad σ1 ν (pAll ν b) (X σ1).rB hV (hO.pset hb1)) (by exact xw.recv hE hM rW_8 rfl) q1021 q1022 q1023 q42 q1024 ⟨rfl, by decide +kernel, by decide +kernel, by show _ = some 1; decide +kernel⟩ rfl rfl ⟨Nat.le_of_ble_eq_true rfl, Nat.le_of_ble_eq_true rfl⟩ rfl (Nat.le_of_ble_eq_true rfl) dX1_saving_37 ⟨Nat.le_of_ble_eq_true rfl, Nat.le_of_ble_eq_true rfl⟩) hS (fun r σ2 H locs hq2 hM hS => ?_)
    rw [hq2.1]
    rw [sW_r2] at hM
    have h02 := (X σ2).obj
    have hba2 := ((X σ2).bs ha).1
    have hbb2 := ((X σ2).bs hb1).1
    refine n_iadd hx hb dX1_saving_40 ?_
    refine lv_aload_n hx hb dX1_saving_41 rfl (lh_at hl rfl) ?_
    refine xr_get (C := RX1) (T := TX1) (N := 12) (ci := 0) (n := 0) hx hb hts in_X1 hown hE hM (by first | assumption | exact va_up_s | rfl | (refine (va_up_n ?_).trans ?_; rotate_left; (first | assumption | exact va_up_s | rfl | (refine (va_up_n ?_).trans ?_; rotate_left; (first | assumption | exact va_up_s | rfl | (refine (va_up_n ?_).trans ?_; rotate_left; (first | assumption | exact va_up_s | rfl | (refine (va_up_n ?_).trans ?_; rotate_left; (first | assumption | exact va_up_s | rfl | (refine (va_up_n ?_).trans ?_; rotate_left; (assumption); omega)); omega)); omega)); omega)); omega)) rfl 8 (by decide) (hts _ q149) (fun _ h => h) rfl dX1_saving_42 ?_
    refine lv_aload_n hx hb dX1_saving_45 rfl (lh_at hl rfl) ?_
    refine xr_getN (C := RX6) (T := TX6) (N := 3) (ci := 5) (n := (bN β a)) hx hb hts in_X6 hown hE hM (by first | assumption | exact va_up_s | rfl | (refine (va_up_n ?_).trans ?_; rotate_left; (first | assumption | exact va_up_s | rfl | (refine (va_up_n ?_).trans ?_; rotate_left; (first | assumption | exact va_up_s | rfl | (refine (va_up_n ?_).trans ?_; rotate_left; (first | assumption | exact va_up_s | rfl | (refine (va_up_n ?_).trans ?_; rotate_left; (first | assumption | exact va_up_s | rfl | (refine (va_up_n ?_).trans ?_; rotate_left; (assumption); omega)); omega)); omega)); omega)); omega)) rfl 1 (by decide) q1125 (fun _ h => h) rfl dX1_saving_46 ?_
    refine lv_aload_n hx hb dX1_saving_49 rfl (lh_at hl rfl) ?_
    refine xr_getN (C := RX6) (T := TX6) (N := 3) (ci := 5) (n := (bN β b)) hx hb hts in_X6 hown hE hM (by first | assumption | exact va_up_s | rfl | (refine (va_up_n ?_).trans ?_; rotate_left; (first | assumption | exact va_up_s | rfl | (refine (va_up_n ?_).trans ?_; rotate_left; (first | assumption | exact va_up_s | rfl | (refine (va_up_n ?_).trans ?_; rotate_left; (first | assumption | exact va_up_s | rfl | (refine (va_up_n ?_).trans ?_; rotate_left; (first | assumption | exact va_up_s | rfl | (refine (va_up_n ?_).trans ?_; rotate_left; (assumption); omega)); omega)); omega)); omega)); omega)) rfl 1 (by decide) q1125 (fun _ h => h) rfl dX1_saving_50 ?_
    refine n_ior hx hb dX1_saving_53 ?_
    have hM := hM.eq (w' := rW g (sW g w ad σ2 F) ad σ2) sW_r
    refine x_calli (x_runV (As := [.int (nI (pAll ν a ||| pAll ν b))]) hF hE hS hM hl (xk_length l g A (sW g w ad σ2 F) ad σ2 ν (pAll ν a ||| pAll ν b) (X σ2).rB hV (pAll_or hV (by omega))) (by exact xw.recv hE hM rW_8 rfl) q1021 q1022 q1023 q42 q1024 ⟨rfl, by decide +kernel, by decide +kernel, by show _ = some 1; decide +kernel⟩ rfl rfl ⟨Nat.le_of_ble_eq_true rfl, Nat.le_of_ble_eq_true rfl⟩ rfl (Nat.le_of_ble_eq_true rfl) dX1_saving_54 ⟨Nat.le_of_ble_eq_true rfl, Nat.le_of_ble_eq_true rfl⟩) hS (fun r σ3 H locs hq3 hM hS => ?_)
    rw [hq3.1]
    rw [sW_r2] at hM
    refine lv_isub hx hb dX1_saving_57 ?_
    exact hQ ▸ x_iret hx hb hr hlk hS σ3 (by unfold savI; rw [if_pos c1]) hM dX1_saving_58
  · refine lv_iconst (v := 0) hx hb dX1_saving_16 (by decide +kernel) ?_
    exact hQ ▸ x_iret hx hb hr hlk hS σ (by unfold savI; rw [if_neg c1]) hM dX1_saving_17
/-- the rows when a batch is reckoned with the first o -/
def rkF (ν : nS) (b : Nat) (F : Nat → Nat → Int32) (o : Nat) : Nat → Nat → Int32 := fun i j => if i = b ∧ j < o then (if j = b then 0 else savI ν b j) else if j = b ∧ i < o then (if i = b then 0 else savI ν b i) else F i j
theorem rkF_0 {ν : nS} {b : Nat} {F : Nat → Nat → Int32} : rkF ν b F 0 = F := by
  funext i j
  unfold rkF
  rw [if_neg (by omega), if_neg (by omega)]
theorem rkF_s {ν : nS} {b o : Nat} {F : Nat → Nat → Int32} {s : Int32} (hs : s = if o = b then 0 else savI ν b o) : va_up (va_up (rkF ν b F o) b (upd (rkF ν b F o b) o s)) o (upd (va_up (rkF ν b F o) b (upd (rkF ν b F o b) o s) o) b s) = rkF ν b F (o + 1) := by
  subst hs
  funext i j
  simp only [rkF, va_up]
  repeat' split
  all_goals try simp only [upd]
  repeat' split
  all_goals try simp only [rkF]
  repeat' split
  all_goals try simp only [true_and] at *
  all_goals first | rfl | (exfalso; omega) | (have e : i = o := (by omega); rw [e]; done) | (have e : j = o := (by omega); rw [e]; done) | (have e : i = b := (by omega); rw [e]; done) | (have e : j = b := (by omega); rw [e]; done)
theorem xk_reckons (l : Launch) (g : xg) (A : Nat → Prop) (w : xw_W) (ν : nS) (ad : Nat → Nat) (β : Nat → List Nat) (σ : rS) (F : Nat → Nat → Int32) (b : Nat) (hO : xOk ν) (hX : XR g ν ad β w) (hb1 : b < vC ν 5) :
    Met l yX1_reckons (ws_ yX1_reckons cX1_reckons 4 none) (xrm 5 0 0) (xPw g A (sW g w ad σ F) [.ref (ad 0), .int (nI b)]) (xQv (S := rS) (fun _ => True) (fun u => xw g A (sW g w ad u (rkF ν b F (vC ν 5)))) A) 0 0 A := by
  have hV := hO.V
  have hB := hO.B
  refine x_start rfl (Nat.le_of_ble_eq_true rfl) ?_
  intro p e s m below meth c hx hb hr hlk hml hown hts hnm hE hM hS ls hl
  have hF : xFix p m c cX1_reckons 4 s _ RX1 := ⟨hx, hb, hml, hown, hts⟩
  generalize hargs : List.toArray _ = args at hts hF ⊢
  generalize hQ : MQ below _ _ s _ _ A = Q
  have J : ∀ (n o : Nat), o ≤ vC ν 5 → vC ν 5 < o + n → ∀ (σ : rS) (H : Heap) (locs : List Loc) (ls : Array Slot), xw g A (sW g w ad σ (rkF ν b F o)) H → va_S A s.heap H locs → lh ls 4 (xl [(0, .ref (ad 0)), (1, .int (nI b)), (2, .int (nI o))]) → W p l e (xrm 5 0 0) s m args below meth c H locs 0 0 Q (F0 m 2 ls []) := by
    intro n
    induction n with
    | zero => intro o h1 h2; exact absurd h2 (by omega)
    | succ n ih =>
      intro o h1 h2 σ H locs ls hM hS hl
      have hXs := hX.sput (F := rkF ν b F o) σ
      have h0 := hXs.obj
      obtain ⟨mc, hL⟩ := hXs.wav
      obtain ⟨d5, hd5⟩ := hL.size
      refine lv_iload_n hx hb dX1_reckons_2 rfl (lh_at hl rfl) ?_
      refine lv_aload_n hx hb dX1_reckons_3 rfl (lh_at hl rfl) ?_
      refine xr_get (C := RX1) (T := TX1) (N := 12) (ci := 0) (n := 0) hx hb hts in_X1 hown hE hM (by first | assumption | exact va_up_s | rfl | (refine (va_up_n ?_).trans ?_; rotate_left; (first | assumption | exact va_up_s | rfl | (refine (va_up_n ?_).trans ?_; rotate_left; (first | assumption | exact va_up_s | rfl | (refine (va_up_n ?_).trans ?_; rotate_left; (first | assumption | exact va_up_s | rfl | (refine (va_up_n ?_).trans ?_; rotate_left; (first | assumption | exact va_up_s | rfl | (refine (va_up_n ?_).trans ?_; rotate_left; (assumption); omega)); omega)); omega)); omega)); omega)) rfl 6 (by decide) (hts _ q147) (fun _ h => h) rfl dX1_reckons_4 ?_
      refine x_callFi (x_runF (As := []) hF hE hS hM hl (jk_size l g A _ 5 6 (ad 5) 5 mc _ hL) (xw.recv hE hM (by first | assumption | exact va_up_s | rfl | (refine (va_up_n ?_).trans ?_; rotate_left; (first | assumption | exact va_up_s | rfl | (refine (va_up_n ?_).trans ?_; rotate_left; (first | assumption | exact va_up_s | rfl | (refine (va_up_n ?_).trans ?_; rotate_left; (first | assumption | exact va_up_s | rfl | (refine (va_up_n ?_).trans ?_; rotate_left; (first | assumption | exact va_up_s | rfl | (refine (va_up_n ?_).trans ?_; rotate_left; (assumption); omega)); omega)); omega)); omega)); omega)) rfl) (xw.at hE (ci := 6) rfl) (List.mem_of_getElem? (i := 0) rfl) q183 q189 q187 q41 q191 ⟨by decide +kernel, by decide +kernel, by show _ = some 0; decide +kernel⟩ rfl rfl ⟨Nat.le_of_ble_eq_true rfl, Nat.le_of_ble_eq_true rfl⟩ rfl (Nat.le_of_ble_eq_true rfl) dX1_reckons_7 ⟨Nat.le_of_ble_eq_true rfl, Nat.le_of_ble_eq_true rfl⟩) hS (fun r uu H locs hq hM hS => ?_)
      rw [hq, bL_len]
      refine n_icmp_ge (tgt := 79) hx hb dX1_reckons_12 (by decide) (by omega) (by omega) (fun c1 => ?_) (fun c1 => ?_)
      · have eB : o = vC ν 5 := by omega
        rw [eB] at hM
        exact hQ ▸ x_vret hx hb hr hlk hS σ trivial hM dX1_reckons_79
      · have ho : o < vC ν 5 := by omega
        have put : ∀ (s0 : Int32), (s0 = if o = b then 0 else savI ν b o) → ∀ (σ : rS) (H : Heap) (locs : List Loc) (ls : Array Slot), xw g A (sW g w ad σ (rkF ν b F o)) H → va_S A s.heap H locs → lh ls 4 (xl [(0, .ref (ad 0)), (1, .int (nI b)), (2, .int (nI o))]) → W p l e (xrm 5 0 0) s m args below meth c H locs 0 0 Q (F0 m 54 ls [.int s0]) := by
          intro s0 hs0 σ H locs ls hM hS hl
          have h02 := (hX.sput (F := rkF ν b F o) σ).obj
          obtain ⟨so, hso, hsr⟩ := (hX.sput (F := rkF ν b F o) σ).sav
          have hrb : sW g w ad σ (rkF ν b F o) (100 + b) = _ := sW_s (show b < 40 by omega)
          refine x_istore_n hx hb dX1_reckons_54 rfl hl (by decide) (fun ls hl => ?_)
          refine lv_aload_n hx hb dX1_reckons_55 rfl (lh_at hl rfl) ?_
          refine xr_get (C := RX1) (T := TX1) (N := 12) (ci := 0) (n := 0) hx hb hts in_X1 hown hE hM (by first | assumption | exact va_up_s | rfl | (refine (va_up_n ?_).trans ?_; rotate_left; (first | assumption | exact va_up_s | rfl | (refine (va_up_n ?_).trans ?_; rotate_left; (first | assumption | exact va_up_s | rfl | (refine (va_up_n ?_).trans ?_; rotate_left; (first | assumption | exact va_up_s | rfl | (refine (va_up_n ?_).trans ?_; rotate_left; (first | assumption | exact va_up_s | rfl | (refine (va_up_n ?_).trans ?_; rotate_left; (assumption); omega)); omega)); omega)); omega)); omega)) rfl 7 (by decide) (hts _ q148) (fun _ h => h) rfl dX1_reckons_56 ?_
          refine lv_iload_n hx hb dX1_reckons_59 rfl (lh_at hl rfl) ?_
          refine xr_iiald (n := 7) hx hb hE hM (by first | assumption | exact va_up_s | rfl | (refine (va_up_n ?_).trans ?_; rotate_left; (first | assumption | exact va_up_s | rfl | (refine (va_up_n ?_).trans ?_; rotate_left; (first | assumption | exact va_up_s | rfl | (refine (va_up_n ?_).trans ?_; rotate_left; (first | assumption | exact va_up_s | rfl | (refine (va_up_n ?_).trans ?_; rotate_left; (first | assumption | exact va_up_s | rfl | (refine (va_up_n ?_).trans ?_; rotate_left; (assumption); omega)); omega)); omega)); omega)); omega)) (by omega) (by first | decide | omega) (by exact (hsr b (by omega)).1) dX1_reckons_60 ?_
          refine lv_iload_n hx hb dX1_reckons_61 rfl (lh_at hl rfl) ?_
          refine lv_iload_n hx hb dX1_reckons_62 rfl (lh_at hl rfl) ?_
          refine xr_iast (n := (100 + b)) hx hb hE hM hS (by first | assumption | exact va_up_s | rfl | (refine (va_up_n ?_).trans ?_; rotate_left; (first | assumption | exact va_up_s | rfl | (refine (va_up_n ?_).trans ?_; rotate_left; (first | assumption | exact va_up_s | rfl | (refine (va_up_n ?_).trans ?_; rotate_left; (first | assumption | exact va_up_s | rfl | (refine (va_up_n ?_).trans ?_; rotate_left; (first | assumption | exact va_up_s | rfl | (refine (va_up_n ?_).trans ?_; rotate_left; (assumption); omega)); omega)); omega)); omega)); omega)) (by omega) (by first | decide | omega) dX1_reckons_63 (fun H locs hM hS => ?_)
          rw [sW_setF (show b < 40 by omega)] at hM
          have h03 := (hX.sput (F := va_up (rkF ν b F o) b (upd (rkF ν b F o b) o s0)) σ).obj
          obtain ⟨so2, hso2, hsr2⟩ := (hX.sput (F := va_up (rkF ν b F o) b (upd (rkF ν b F o b) o s0)) σ).sav
          have hrb2 : sW g w ad σ (va_up (rkF ν b F o) b (upd (rkF ν b F o b) o s0)) (100 + o) = _ := sW_s (show o < 40 by omega)
          refine lv_aload_n hx hb dX1_reckons_64 rfl (lh_at hl rfl) ?_
          refine xr_get (C := RX1) (T := TX1) (N := 12) (ci := 0) (n := 0) hx hb hts in_X1 hown hE hM (by first | assumption | exact va_up_s | rfl | (refine (va_up_n ?_).trans ?_; rotate_left; (first | assumption | exact va_up_s | rfl | (refine (va_up_n ?_).trans ?_; rotate_left; (first | assumption | exact va_up_s | rfl | (refine (va_up_n ?_).trans ?_; rotate_left; (first | assumption | exact va_up_s | rfl | (refine (va_up_n ?_).trans ?_; rotate_left; (first | assumption | exact va_up_s | rfl | (refine (va_up_n ?_).trans ?_; rotate_left; (assumption); omega)); omega)); omega)); omega)); omega)) rfl 7 (by decide) (hts _ q148) (fun _ h => h) rfl dX1_reckons_65 ?_
          refine lv_iload_n hx hb dX1_reckons_68 rfl (lh_at hl rfl) ?_
          refine xr_iiald (n := 7) hx hb hE hM (by first | assumption | exact va_up_s | rfl | (refine (va_up_n ?_).trans ?_; rotate_left; (first | assumption | exact va_up_s | rfl | (refine (va_up_n ?_).trans ?_; rotate_left; (first | assumption | exact va_up_s | rfl | (refine (va_up_n ?_).trans ?_; rotate_left; (first | assumption | exact va_up_s | rfl | (refine (va_up_n ?_).trans ?_; rotate_left; (first | assumption | exact va_up_s | rfl | (refine (va_up_n ?_).trans ?_; rotate_left; (assumption); omega)); omega)); omega)); omega)); omega)) (by omega) (by first | decide | omega) (by exact (hsr2 o (by omega)).1) dX1_reckons_69 ?_
          refine lv_iload_n hx hb dX1_reckons_70 rfl (lh_at hl rfl) ?_
          refine lv_iload_n hx hb dX1_reckons_71 rfl (lh_at hl rfl) ?_
          refine xr_iast (n := (100 + o)) hx hb hE hM hS (by first | assumption | exact va_up_s | rfl | (refine (va_up_n ?_).trans ?_; rotate_left; (first | assumption | exact va_up_s | rfl | (refine (va_up_n ?_).trans ?_; rotate_left; (first | assumption | exact va_up_s | rfl | (refine (va_up_n ?_).trans ?_; rotate_left; (first | assumption | exact va_up_s | rfl | (refine (va_up_n ?_).trans ?_; rotate_left; (first | assumption | exact va_up_s | rfl | (refine (va_up_n ?_).trans ?_; rotate_left; (assumption); omega)); omega)); omega)); omega)); omega)) (by omega) (by first | decide | omega) dX1_reckons_72 (fun H locs hM hS => ?_)
          rw [sW_setF (show o < 40 by omega), rkF_s hs0] at hM
          refine n_iinc hx hb 1 dX1_reckons_73 hl rfl (by decide +kernel) (by decide) (fun ls hl => ?_)
          refine lv_goto (tgt := 2) hx hb dX1_reckons_76 (by decide) ?_
          exact ih (o + 1) (by omega) (by omega) σ H locs _ hM hS (lh_sub hl _ ⟨rfl, rfl, rfl, trivial⟩)
        refine lv_iload_n hx hb dX1_reckons_15 rfl (lh_at hl rfl) ?_
        refine lv_iload_n hx hb dX1_reckons_16 rfl (lh_at hl rfl) ?_
        refine n_icmp_ne (tgt := 24) hx hb dX1_reckons_17 (by decide) (by omega) (by omega) (fun c2 => ?_) (fun c2 => ?_)
        · refine lv_aload_n hx hb dX1_reckons_24 rfl (lh_at hl rfl) ?_
          refine lv_aload_n hx hb dX1_reckons_25 rfl (lh_at hl rfl) ?_
          refine xr_get (C := RX1) (T := TX1) (N := 12) (ci := 0) (n := 0) hx hb hts in_X1 hown hE hM (by first | assumption | exact va_up_s | rfl | (refine (va_up_n ?_).trans ?_; rotate_left; (first | assumption | exact va_up_s | rfl | (refine (va_up_n ?_).trans ?_; rotate_left; (first | assumption | exact va_up_s | rfl | (refine (va_up_n ?_).trans ?_; rotate_left; (first | assumption | exact va_up_s | rfl | (refine (va_up_n ?_).trans ?_; rotate_left; (first | assumption | exact va_up_s | rfl | (refine (va_up_n ?_).trans ?_; rotate_left; (assumption); omega)); omega)); omega)); omega)); omega)) rfl 6 (by decide) (hts _ q147) (fun _ h => h) rfl dX1_reckons_26 ?_
          refine lv_iload_n hx hb dX1_reckons_29 rfl (lh_at hl rfl) ?_
          refine x_callFr (x_runF (As := [.int (nI b)]) hF hE hS hM hl (jk_get l g A _ 5 6 (ad 5) 5 b (ad (bN β b)) mc _ hL (bL_at hb1)) (xw.recv hE hM (by first | assumption | exact va_up_s | rfl | (refine (va_up_n ?_).trans ?_; rotate_left; (first | assumption | exact va_up_s | rfl | (refine (va_up_n ?_).trans ?_; rotate_left; (first | assumption | exact va_up_s | rfl | (refine (va_up_n ?_).trans ?_; rotate_left; (first | assumption | exact va_up_s | rfl | (refine (va_up_n ?_).trans ?_; rotate_left; (first | assumption | exact va_up_s | rfl | (refine (va_up_n ?_).trans ?_; rotate_left; (assumption); omega)); omega)); omega)); omega)); omega)) rfl) (xw.at hE (ci := 6) rfl) (List.mem_of_getElem? (i := 2) rfl) q621 q626 q624 q41 q628 ⟨by decide +kernel, by decide +kernel, by show _ = some 1; decide +kernel⟩ rfl rfl ⟨Nat.le_of_ble_eq_true rfl, Nat.le_of_ble_eq_true rfl⟩ rfl (Nat.le_of_ble_eq_true rfl) dX1_reckons_30 ⟨Nat.le_of_ble_eq_true rfl, Nat.le_of_ble_eq_true rfl⟩) hS (fun uu ra H locs hq2 hM hS => ?_)
          obtain ⟨hra, hM⟩ := hM
          rw [hra]
          have hbb := (hXs.bs hb1).1
          have hbo := (hXs.bs ho).1
          refine xr_cast (n := (bN β b)) (r := (RX6, TX6, 3)) (ci := 5) hx hb hown hE hM (by first | assumption | exact va_up_s | rfl | (refine (va_up_n ?_).trans ?_; rotate_left; (first | assumption | exact va_up_s | rfl | (refine (va_up_n ?_).trans ?_; rotate_left; (first | assumption | exact va_up_s | rfl | (refine (va_up_n ?_).trans ?_; rotate_left; (first | assumption | exact va_up_s | rfl | (refine (va_up_n ?_).trans ?_; rotate_left; (first | assumption | exact va_up_s | rfl | (refine (va_up_n ?_).trans ?_; rotate_left; (assumption); omega)); omega)); omega)); omega)); omega)) rfl (hts _ q1107) dX1_reckons_35 ?_
          refine lv_aload_n hx hb dX1_reckons_38 rfl (lh_at hl rfl) ?_
          refine xr_get (C := RX1) (T := TX1) (N := 12) (ci := 0) (n := 0) hx hb hts in_X1 hown hE hM (by first | assumption | exact va_up_s | rfl | (refine (va_up_n ?_).trans ?_; rotate_left; (first | assumption | exact va_up_s | rfl | (refine (va_up_n ?_).trans ?_; rotate_left; (first | assumption | exact va_up_s | rfl | (refine (va_up_n ?_).trans ?_; rotate_left; (first | assumption | exact va_up_s | rfl | (refine (va_up_n ?_).trans ?_; rotate_left; (first | assumption | exact va_up_s | rfl | (refine (va_up_n ?_).trans ?_; rotate_left; (assumption); omega)); omega)); omega)); omega)); omega)) rfl 6 (by decide) (hts _ q147) (fun _ h => h) rfl dX1_reckons_39 ?_
          refine lv_iload_n hx hb dX1_reckons_42 rfl (lh_at hl rfl) ?_
          refine x_callFr (x_runF (As := [.int (nI o)]) hF hE hS hM hl (jk_get l g A _ 5 6 (ad 5) 5 o (ad (bN β o)) mc _ hL (bL_at ho)) (xw.recv hE hM (by first | assumption | exact va_up_s | rfl | (refine (va_up_n ?_).trans ?_; rotate_left; (first | assumption | exact va_up_s | rfl | (refine (va_up_n ?_).trans ?_; rotate_left; (first | assumption | exact va_up_s | rfl | (refine (va_up_n ?_).trans ?_; rotate_left; (first | assumption | exact va_up_s | rfl | (refine (va_up_n ?_).trans ?_; rotate_left; (first | assumption | exact va_up_s | rfl | (refine (va_up_n ?_).trans ?_; rotate_left; (assumption); omega)); omega)); omega)); omega)); omega)) rfl) (xw.at hE (ci := 6) rfl) (List.mem_of_getElem? (i := 2) rfl) q621 q626 q624 q41 q628 ⟨by decide +kernel, by decide +kernel, by show _ = some 1; decide +kernel⟩ rfl rfl ⟨Nat.le_of_ble_eq_true rfl, Nat.le_of_ble_eq_true rfl⟩ rfl (Nat.le_of_ble_eq_true rfl) dX1_reckons_43 ⟨Nat.le_of_ble_eq_true rfl, Nat.le_of_ble_eq_true rfl⟩) hS (fun uu ra2 H locs hq2 hM hS => ?_)
          obtain ⟨hra2, hM⟩ := hM
          rw [hra2]
          refine xr_cast (n := (bN β o)) (r := (RX6, TX6, 3)) (ci := 5) hx hb hown hE hM (by first | assumption | exact va_up_s | rfl | (refine (va_up_n ?_).trans ?_; rotate_left; (first | assumption | exact va_up_s | rfl | (refine (va_up_n ?_).trans ?_; rotate_left; (first | assumption | exact va_up_s | rfl | (refine (va_up_n ?_).trans ?_; rotate_left; (first | assumption | exact va_up_s | rfl | (refine (va_up_n ?_).trans ?_; rotate_left; (first | assumption | exact va_up_s | rfl | (refine (va_up_n ?_).trans ?_; rotate_left; (assumption); omega)); omega)); omega)); omega)); omega)) rfl (hts _ q1107) dX1_reckons_48 ?_
          refine x_calli (x_runV (As := [.ref (ad (bN β b)), .ref (ad (bN β o))]) hF hE hS hM hl (xk_saving l g A w ν ad β σ (rkF ν b F o) b o hO hX hb1 ho) (xw.recv hE hM (by first | assumption | exact va_up_s | rfl | (refine (va_up_n ?_).trans ?_; rotate_left; (first | assumption | exact va_up_s | rfl | (refine (va_up_n ?_).trans ?_; rotate_left; (first | assumption | exact va_up_s | rfl | (refine (va_up_n ?_).trans ?_; rotate_left; (first | assumption | exact va_up_s | rfl | (refine (va_up_n ?_).trans ?_; rotate_left; (first | assumption | exact va_up_s | rfl | (refine (va_up_n ?_).trans ?_; rotate_left; (assumption); omega)); omega)); omega)); omega)); omega)) rfl) q1140 q1142 qs14 q38 q1143 ⟨rfl, by decide +kernel, by decide +kernel, by show _ = some 2; decide +kernel⟩ rfl rfl ⟨Nat.le_of_ble_eq_true rfl, Nat.le_of_ble_eq_true rfl⟩ rfl (Nat.le_of_ble_eq_true rfl) dX1_reckons_51 ⟨Nat.le_of_ble_eq_true rfl, Nat.le_of_ble_eq_true rfl⟩) hS (fun r σ2 H locs hq3 hM hS => ?_)
          exact put r (by rw [hq3, if_neg c2]) σ2 H locs _ hM hS (lh_sub hl _ ⟨rfl, rfl, rfl, trivial⟩)
        · refine lv_iconst (v := 0) hx hb dX1_reckons_20 (by decide +kernel) ?_
          refine lv_goto (tgt := 54) hx hb dX1_reckons_21 (by decide) ?_
          exact put 0 (by rw [if_pos c2]) σ H locs _ hM hS (lh_sub hl _ ⟨rfl, rfl, rfl, trivial⟩)
  refine n_const hx hb 0 dX1_reckons_0 (by decide +kernel) ?_
  refine x_istore_n hx hb dX1_reckons_1 rfl hl (by decide) (fun ls hl => ?_)
  exact J (vC ν 5 + 1) 0 (by omega) (by omega) σ _ _ _ (by rw [rkF_0]; exact hM) hS (lh_sub hl _ ⟨rfl, rfl, rfl, trivial⟩)
