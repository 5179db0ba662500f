/-! THE LAW: from its entry to its loop -/
set_option maxRecDepth 100000
set_option maxHeartbeats 2000000 in
theorem law_start {p : Program} {l : Launch} {e : Env} {s : State} {m : MethodId} {below : List Frame} {meth : Method} {c : Code} {g : xg} {bb L : Nat} {xs : Nat → Int32} {ls : Array Slot} (hlt : l.stackTraces = false) (hF : xFix p m c cL_law 9 s #[Value.ref bb] RX0) (hr : meth.sig.returnType = ret) (hlk : meth.locks = false) (hE : xE g (x3 s.heap.size) s) (hNc : xNc s) (hX : va_X bb L xs s s.heap) (hbl : bb < s.heap.size) (hL : L ≤ 259) (hl : lh ls 9 (xl [(0, .ref bb)])) :
    W p l e room_1 s m #[Value.ref bb] below meth c s.heap [] 0 0 (lw_Z below #[Value.ref bb] s) (F0 m 0 ls []) := by
  obtain ⟨hx, hb, hml, hown, hts⟩ := id hF
  have hS : va_S (x3 s.heap.size) s.heap s.heap [] := va_S.rf
  have hno : ∀ (n : Nat) (q : Nat × va_E), (fun _ => none : xw_W) n = some q → False := fun n q h => by cases h
  have hM : xw g (x3 s.heap.size) (fun _ => none) s.heap := ⟨[], fun k q h => by simp at h, ⟨fun i j p q h => by simp at h, fun k q h => by simp at h⟩, fun n q h => (hno n q h).elim, fun n n' q q' h => (hno n q h).elim⟩
  refine xr_new hx hb hts in_X1 tyX1 tyX1_ok hown (hts _ q71) (hts _ q72) (hts _ q38) hE hM hS 0 (ci := 0) (fs := [.int 0, .int 0, .int 0, .null, .null, .null, .null, .null, .null, .int 0, .int 0, .int 0]) rfl (by decide) (Nat.le_of_ble_eq_true rfl) (Nat.le_of_ble_eq_true rfl) dL_law_0 (fun q0 H hq0 hM hS => ?_)
  refine lv_dup hx hb dL_law_3 rfl ?_
  refine lv_aload_n hx hb dL_law_4 rfl (lh_at hl rfl) ?_
  refine n_const hx hb 0 dL_law_5 (by decide +kernel) ?_
  refine l_cell (k := 0) hF hX hbl hL (by decide) hS hl q204 q205 q37 q206 ⟨Nat.le_of_ble_eq_true rfl, Nat.le_of_ble_eq_true rfl⟩ (Nat.le_of_ble_eq_true rfl) dL_law_6 ⟨Nat.le_of_ble_eq_true rfl, Nat.le_of_ble_eq_true rfl⟩ (fun locs hS => ?_)
  refine lv_aload_n hx hb dL_law_9 rfl (lh_at hl rfl) ?_
  refine n_const hx hb 1 dL_law_10 (by decide +kernel) ?_
  refine l_cell (k := 1) hF hX hbl hL (by decide) hS hl q204 q205 q37 q206 ⟨Nat.le_of_ble_eq_true rfl, Nat.le_of_ble_eq_true rfl⟩ (Nat.le_of_ble_eq_true rfl) dL_law_11 ⟨Nat.le_of_ble_eq_true rfl, Nat.le_of_ble_eq_true rfl⟩ (fun locs hS => ?_)
  refine lv_aload_n hx hb dL_law_14 rfl (lh_at hl rfl) ?_
  refine n_const hx hb 2 dL_law_15 (by decide +kernel) ?_
  refine l_cell (k := 2) hF hX hbl hL (by decide) hS hl q204 q205 q37 q206 ⟨Nat.le_of_ble_eq_true rfl, Nat.le_of_ble_eq_true rfl⟩ (Nat.le_of_ble_eq_true rfl) dL_law_16 ⟨Nat.le_of_ble_eq_true rfl, Nat.le_of_ble_eq_true rfl⟩ (fun locs hS => ?_)
  generalize e1 : (if 0 < L then xs 0 else 0) = v1
  generalize e2 : (if 1 < L then xs 1 else 0) = v2
  generalize e3 : (if 2 < L then xs 2 else 0) = v3
  refine x_callv (x_runI (As := [.int v1, .int v2, .int v3]) hF hE hS hM hl (xk_init l g _ q0 v1 v2 v3) q73 q74 q38 q75 rfl ⟨by decide +kernel, by decide +kernel, by show _ = some 3; decide +kernel⟩ rfl rfl ⟨Nat.le_of_ble_eq_true rfl, Nat.le_of_ble_eq_true rfl⟩ rfl (Nat.le_of_ble_eq_true rfl) dL_law_19 ⟨Nat.le_of_ble_eq_true rfl, Nat.le_of_ble_eq_true rfl⟩) hS (fun u H locs hq hM hS => ?_)
  refine x_astore_n hx hb dL_law_22 rfl hl (by decide) (fun ls hl => ?_)
  refine xr_new hx hb hts in_X3 tyX3 tyX3_ok hown (hts _ q1308) (hts _ q1309) (hts _ q44) hE hM hS 4000 (ci := 2) (fs := [.int 0, .int 0, .int 0, .int 0, .int 0, .null, .int 0, .null, .null, .null, .null, .null, .null, .int 0, .int 0, .long 0, .int 0, .null, .null, .null, .null, .null]) rfl (by decide) (Nat.le_of_ble_eq_true rfl) (Nat.le_of_ble_eq_true rfl) dL_law_23 (fun q2 H hq2 hM hS => ?_)
  refine lv_dup hx hb dL_law_26 rfl ?_
  refine lv_aload_n hx hb dL_law_27 rfl (lh_at hl rfl) ?_
  refine n_const hx hb 0 dL_law_28 (by decide +kernel) ?_
  refine l_cell (k := 0) hF hX hbl hL (by decide) hS hl q204 q205 q37 q206 ⟨Nat.le_of_ble_eq_true rfl, Nat.le_of_ble_eq_true rfl⟩ (Nat.le_of_ble_eq_true rfl) dL_law_29 ⟨Nat.le_of_ble_eq_true rfl, Nat.le_of_ble_eq_true rfl⟩ (fun locs hS => ?_)
  refine lv_aload_n hx hb dL_law_32 rfl (lh_at hl rfl) ?_
  refine n_const hx hb 1 dL_law_33 (by decide +kernel) ?_
  refine l_cell (k := 1) hF hX hbl hL (by decide) hS hl q204 q205 q37 q206 ⟨Nat.le_of_ble_eq_true rfl, Nat.le_of_ble_eq_true rfl⟩ (Nat.le_of_ble_eq_true rfl) dL_law_34 ⟨Nat.le_of_ble_eq_true rfl, Nat.le_of_ble_eq_true rfl⟩ (fun locs hS => ?_)
  refine lv_aload_n hx hb dL_law_37 rfl (lh_at hl rfl) ?_
  refine n_const hx hb 2 dL_law_38 (by decide +kernel) ?_
  refine l_cell (k := 2) hF hX hbl hL (by decide) hS hl q204 q205 q37 q206 ⟨Nat.le_of_ble_eq_true rfl, Nat.le_of_ble_eq_true rfl⟩ (Nat.le_of_ble_eq_true rfl) dL_law_39 ⟨Nat.le_of_ble_eq_true rfl, Nat.le_of_ble_eq_true rfl⟩ (fun locs hS => ?_)
  rw [e1, e2, e3]
  obtain ⟨hOk, ad, β, e0, hβ, hXR⟩ := id hq
  have h4 : u 4000 = none := hXR.bno (by decide) (fun b hb => absurd hb (Nat.not_lt_zero b))
  have hMu : xw g (x3 s.heap.size) u H := hM.mono (fun n q e => by
    by_cases z : n = 4000
    · rw [z, h4] at e
      cases e
    · rw [va_up_n z]
      exact e)
  have h2N : s.heap.size ≤ q2 := hM.in va_up_s
  have h2H : q2 < H.size := hM.lt va_up_s
  have hNH : s.heap.size ≤ H.size := hS.1
  have hx1 : xw g (fun a => s.heap.size ≤ a ∧ a < H.size ∧ a ≠ q2) u H := hMu.narrow (fun n q e => ⟨hMu.in e, hMu.lt e, by
    have hn4 : n ≠ 4000 := fun z => by
      rw [z, h4] at e
      cases e
    exact hM.inj (n := n) (n' := 4000) ((va_up_n hn4).trans e) va_up_s hn4⟩)
  have hm : xw g (fun a : Nat => a = q2 ∨ H.size ≤ a) (mi g q2 (fun _ => 0) (fun _ _ => 0) 0 mFs0) H := by
    rw [mi_0]
    exact hM.one va_up_s 100 (Or.inl rfl)
  have hBA : ∀ q, (fun a : Nat => a = q2 ∨ H.size ≤ a) q → x3 s.heap.size q := fun q h => by
    rcases h with h | h
    · rw [h]
      exact h2N
    · exact Nat.le_trans hNH h
  have hn : ∀ q : Nat, H.size ≤ q → (fun a : Nat => a = q2 ∨ H.size ≤ a) q := fun q h => Or.inr h
  refine va_callv (y_runI (As := [.int v1, .int v2, .int v3]) hF hE hS hBA hn hm hl (mk_init l g _ q2 v1 v2 v3) q1310 q1311 q44 q1312 rfl ⟨by decide +kernel, by decide +kernel, by show _ = some 3; decide +kernel⟩ rfl rfl ⟨Nat.le_of_ble_eq_true rfl, Nat.le_of_ble_eq_true rfl⟩ rfl (Nat.le_of_ble_eq_true rfl) dL_law_42 ⟨Nat.le_of_ble_eq_true rfl, Nat.le_of_ble_eq_true rfl⟩) hS (fun q _ h => hBA q h) (fun q h => hBA q h) (fun uM t1 H1 locs1 ht _ hp hB hz hk hS1 => ?_)
  rw [ht] at hB
  have hx2 := hx1.stays (fun q h1 h2 => hk q h1 (fun h => by
    rcases h with h | h
    · exact h2.2.2 h
    · omega))
  refine x_astore_n hx hb dL_law_45 rfl hl (by decide) (fun ls hl => ?_)
  refine n_const hx hb 1 dL_law_46 (by decide +kernel) ?_
  refine va_newaK (atype := .long) hx hb (hts _ q1560) rfl dL_law_47 rfl (nI_pos (n := 1) (by decide)) (nI_clamp (n := 1) (by decide)) (by show 1 * 8 ≤ _; decide) (Nat.le_of_ble_eq_true rfl) (Nat.le_of_ble_eq_true rfl) rfl fun H2 cA f1 z1 o1 hAr hNm => ?_
  have hcA : cA = g.2 3 := xK_cls (ty := .long) hNm (hE.1.2 3 (g.2 3, .long) rfl).2
  subst hcA
  have hS2 : va_S (x3 s.heap.size) s.heap H2 locs1 := ⟨Nat.le_trans hS1.1 (by omega), fun x h1 h2 => (o1 x (Nat.lt_of_lt_of_le h1 hS1.1)).trans (hS1.2.1 x h1 h2), hS1.2.2⟩
  have hV : LV g s.heap.size q2 H1.size (xI g (ν0 (clN v1 6) (clN v2 20) (clN v3 9)) q0) (mR (ν0 (clN v1 6) (clN v2 20) (clN v3 9))) 0 H2 :=
    ⟨fun a => s.heap.size ≤ a ∧ a < H.size ∧ a ≠ q2, fun a => (a = q2 ∨ H.size ≤ a) ∧ a < H1.size, u, uM.1, uM.2, hq, hp, hx2.stays (fun q h1 _ => o1 q h1), hB.cut.stays (fun q h1 _ => o1 q h1), ⟨fun _ => 0, rfl, f1⟩, fun q h => ⟨h.1, by omega, fun h2 => by
      rcases h2.1 with h3 | h3
      · exact h.2.2 h3
      · omega, by omega⟩, fun q h => ⟨hBA q h.1, by omega, by omega⟩, Nat.le_trans hNH hz⟩
  refine W.eq (g2 := F0 m 49 ls [.ref H1.size]) rfl ?_
  refine x_astore_n hx hb dL_law_49 rfl hl (by decide) (fun ls hl => ?_)
  refine n_const hx hb 3 dL_law_50 (by decide +kernel) ?_
  refine x_istore hx hb dL_law_51 hl (by decide) (fun ls hl => ?_)
  exact law_loop hlt hF hr hlk hE hNc hX hbl hL 64 3 (by omega) (by omega) _ _ _ 0 H2 locs1 _ (Nat.le_of_ble_eq_true rfl) (Nat.le_of_ble_eq_true rfl) hV hS2 (lh_sub hl _ ⟨rfl, rfl, rfl, rfl, rfl, trivial⟩)
