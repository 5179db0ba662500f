/-! Aislewright: what only asks (3): over the wave -/
set_option maxRecDepth 100000
theorem XR.inj {g : xg} {ν : nS} {ad : Nat → Nat} {β : Nat → List Nat} {w : xw_W} {A : Nat → Prop} {H : Heap} (hX : XR g ν ad β w) (hM : xw g A w H) {o o' : Nat} (ho : o < vC ν 4) (ho' : o' < vC ν 4) (h : ad (2000 + 2 * o) = ad (2000 + 2 * o')) : o = o' := by
  by_cases e : o = o'
  · exact e
  · exact absurd h (hM.inj (hX.os ho).1 (hX.os ho').1 (by omega))
theorem xLs.tmp {g : xg} {w : xw_W} {nL nD a ci n : Nat} {mc : Int32} {es : List Nat} {e : Option (Nat × va_E)} (h : xLs g w nL nD a mc ci es) (hn : w n = none) (h1 : nL ≠ n) (h2 : nD ≠ n) : xLs g (va_up w n e) nL nD a mc ci es :=
  h.keep2 (va_up_n h1) (va_up_n h2) (fun y hy k fs hk => ⟨k, fs, (va_up_n (fun z => by rw [z, hn] at hk; cases hk)).trans hk⟩)
theorem xw.drop {g : xg} {A : Nat → Prop} {w : xw_W} {H : Heap} {n : Nat} {e : Option (Nat × va_E)} (hM : xw g A (va_up w n e) H) (hn : w n = none) : xw g A w H :=
  hM.mono (fun k q hk => (va_up_n (fun z => by rw [z, hn] at hk; cases hk)).trans hk)
theorem xAg1.eq {w u : xw_W} {n : Nat} {e : Option (Nat × va_E)} (h : xAg1 w u n) (hn : u n = e) : u = va_up w n e := by
  funext k
  by_cases hk : k = n
  · rw [hk, va_up_s, hn]
  · rw [va_up_n hk, h k hk]
theorem bE_mem {ad : Nat → Nat} {es : List Nat} {o : Nat} (hi : ∀ o', o' ∈ es → ad (2000 + 2 * o) = ad (2000 + 2 * o') → o = o') : ad (2000 + 2 * o) ∈ bE ad es ↔ o ∈ es := by
  unfold bE
  rw [List.mem_map]
  constructor
  · rintro ⟨o', h1, h2⟩
    rw [hi o' h1 h2.symm]
    exact h1
  · intro h
    exact ⟨o, h, rfl⟩
theorem xk_batchOf (l : Launch) (hlt : l.stackTraces = false) (g : xg) (A : Nat → Prop) (w : xw_W) (ν : nS) (x0 : Nat) (p0 : Int32) (h : xI g ν x0 w) :
    vx_Met l yX1_batchOf (ws_ yX1_batchOf cX1_batchOf 4 (some .int)) (xrm 8 9 1530) (xPw g A w [.ref x0, .int p0]) (opQi g A x0 (opBatchOf ν p0)) (opQX g A w [eIB] (opBatchOf ν p0)) 9 1530 A := by
  obtain ⟨hO, ad, β, rfl, hβ, hX⟩ := id h
  have h0 := hX.obj
  have hN := hO.N
  have hB := hO.B
  obtain ⟨mc, hL⟩ := hX.wav
  obtain ⟨d5, hd5⟩ := hL.size
  refine x_startX rfl (Nat.le_of_ble_eq_true rfl) ?_
  intro p e s m below meth c hx hb hr hlk hml hxt hown hts hnm hE hM hS ls hl
  have hF : xFix p m c cX1_batchOf 4 s _ RX1 := ⟨hx, hb, hml, hown, hts⟩
  generalize hargs : List.toArray _ = args at hts hF ⊢
  generalize hQ : vx_MQ below _ _ _ s _ _ A = Q
  refine lv_aload_n hx hb dX1_batchOf_0 rfl (lh_at hl rfl) ?_
  refine lv_iload_n hx hb dX1_batchOf_1 rfl (lh_at hl rfl) ?_
  refine x_tcallr (x_runVX (As := [.int p0]) hF hE hS hM hl (xk_written l hlt g A w ν ad β p0 hO hX) (xw.recv hE hM (by first | assumption | exact va_up_s | rfl | (refine (va_up_n ?_).trans ?_; rotate_left; (first | assumption | exact va_up_s | rfl | (refine (va_up_n ?_).trans ?_; rotate_left; (first | assumption | exact va_up_s | rfl | (refine (va_up_n ?_).trans ?_; rotate_left; (first | assumption | exact va_up_s | rfl | (refine (va_up_n ?_).trans ?_; rotate_left; (first | assumption | exact va_up_s | rfl | (refine (va_up_n ?_).trans ?_; rotate_left; (assumption); omega)); omega)); omega)); omega)); omega)) rfl) q991 q993 qs8 q38 q994 ⟨rfl, by decide +kernel, by decide +kernel, by show _ = some 1; decide +kernel⟩ rfl rfl ⟨Nat.le_of_ble_eq_true rfl, Nat.le_of_ble_eq_true rfl⟩ rfl (Nat.le_of_ble_eq_true rfl) dX1_batchOf_2 ⟨Nat.le_of_ble_eq_true rfl, Nat.le_of_ble_eq_true rfl⟩) hS hQ hxt hlk (Nat.le_of_ble_eq_true rfl) (Nat.le_of_ble_eq_true rfl) (fun E9 H9 hE9 hP9 => ?_) (fun uu ra H locs hq hM hS => ?_)
  · exact ⟨⟨xCode.at (by unfold opBatchOf; rw [hE9.2]) rfl hE9.1, rfl⟩, hP9⟩
  · obtain ⟨⟨o, ho, hra⟩, hM⟩ := hM
    rw [hra]
    have hoN := (xr_some (by omega) ho).1
    have ho2 := (hX.os hoN).1
    have hbt := (hO.V.2.2.2.2.2.2.2 o hoN).2.2.1
    have J : ∀ (n k : Nat), k ≤ vC ν 5 → vC ν 5 < k + n → (∀ b, b < k → vBt ν o ≠ b + 1) → ∀ (H : Heap) (locs : List Loc) (ls : Array Slot), xw g A w H → va_S A s.heap H locs → lh ls 4 (xl [(0, .ref (ad 0)), (2, .ref (ad (2000 + 2 * o))), (3, .int (nI k))]) → W p l e (xrm 8 9 1530) s m args below meth c H locs 9 1530 Q (F0 m 8 ls []) := by
      intro n
      induction n with
      | zero => intro k h1 h2; exact absurd h2 (by omega)
      | succ n ih =>
        intro k h1 h2 h3 H locs ls hM hS hl
        refine lv_iload_n hx hb dX1_batchOf_8 rfl (lh_at hl rfl) ?_
        refine lv_aload_n hx hb dX1_batchOf_9 rfl (lh_at hl rfl) ?_
        refine xr_get (C := RX1) (T := TX1) (N := 12) (ci := 0) (n := 0) hx hb hts in_X1 hown hE hM (by first | assumption | exact va_up_s | rfl | (refine (va_up_n ?_).trans ?_; rotate_left; (first | assumption | exact va_up_s | rfl | (refine (va_up_n ?_).trans ?_; rotate_left; (first | assumption | exact va_up_s | rfl | (refine (va_up_n ?_).trans ?_; rotate_left; (first | assumption | exact va_up_s | rfl | (refine (va_up_n ?_).trans ?_; rotate_left; (first | assumption | exact va_up_s | rfl | (refine (va_up_n ?_).trans ?_; rotate_left; (assumption); omega)); omega)); omega)); omega)); omega)) rfl 6 (by decide) (hts _ q147) (fun _ h => h) rfl dX1_batchOf_10 ?_
        refine x_callFi (x_runF (As := []) hF hE hS hM hl (jk_size l g A w 5 6 (ad 5) 5 mc _ hL) (xw.recv hE hM (by first | assumption | exact va_up_s | rfl | (refine (va_up_n ?_).trans ?_; rotate_left; (first | assumption | exact va_up_s | rfl | (refine (va_up_n ?_).trans ?_; rotate_left; (first | assumption | exact va_up_s | rfl | (refine (va_up_n ?_).trans ?_; rotate_left; (first | assumption | exact va_up_s | rfl | (refine (va_up_n ?_).trans ?_; rotate_left; (first | assumption | exact va_up_s | rfl | (refine (va_up_n ?_).trans ?_; rotate_left; (assumption); omega)); omega)); omega)); omega)); omega)) rfl) (xw.at hE (ci := 6) rfl) (List.mem_of_getElem? (i := 0) rfl) q183 q189 q187 q41 q191 ⟨by decide +kernel, by decide +kernel, by show _ = some 0; decide +kernel⟩ rfl rfl ⟨Nat.le_of_ble_eq_true rfl, Nat.le_of_ble_eq_true rfl⟩ rfl (Nat.le_of_ble_eq_true rfl) dX1_batchOf_13 ⟨Nat.le_of_ble_eq_true rfl, Nat.le_of_ble_eq_true rfl⟩) hS (fun r uu H locs hq hM hS => ?_)
        rw [hq, bL_len]
        refine n_icmp_ge (tgt := 54) hx hb dX1_batchOf_18 (by decide) (by omega) (by omega) (fun c1 => ?_) (fun c1 => ?_)
        · refine lv_iconst (v := -1) hx hb dX1_batchOf_54 (by decide +kernel) ?_
          have e : vBt ν o = 0 := by
            rcases Nat.eq_zero_or_pos (vBt ν o) with z | z
            · exact z
            · exact absurd (show vBt ν o = vBt ν o - 1 + 1 by omega) (h3 (vBt ν o - 1) (by omega))
          exact hQ ▸ vx_ret (x_iret hx hb hr hlk hS w ⟨by unfold opBatchOf; rw [ho], by unfold opBatchOf; rw [ho]; simp only [e]; rfl, by unfold opBatchOf; rw [ho]; exact fun _ => h⟩ hM dX1_batchOf_55)
        · have hk : k < vC ν 5 := by omega
          obtain ⟨hb2, mc2, hL2⟩ := hX.bs hk
          obtain ⟨hb1, hb3, hb4⟩ := hβ k hk
          refine lv_aload_n hx hb dX1_batchOf_21 rfl (lh_at hl rfl) ?_
          refine xr_get (C := RX1) (T := TX1) (N := 12) (ci := 0) (n := 0) hx hb hts in_X1 hown hE hM (by first | assumption | exact va_up_s | rfl | (refine (va_up_n ?_).trans ?_; rotate_left; (first | assumption | exact va_up_s | rfl | (refine (va_up_n ?_).trans ?_; rotate_left; (first | assumption | exact va_up_s | rfl | (refine (va_up_n ?_).trans ?_; rotate_left; (first | assumption | exact va_up_s | rfl | (refine (va_up_n ?_).trans ?_; rotate_left; (first | assumption | exact va_up_s | rfl | (refine (va_up_n ?_).trans ?_; rotate_left; (assumption); omega)); omega)); omega)); omega)); omega)) rfl 6 (by decide) (hts _ q147) (fun _ h => h) rfl dX1_batchOf_22 ?_
          refine lv_iload_n hx hb dX1_batchOf_25 rfl (lh_at hl rfl) ?_
          refine x_callFr (x_runF (As := [.int (nI k)]) hF hE hS hM hl (jk_get l g A w 5 6 (ad 5) 5 k (ad (bN β k)) mc _ hL (bL_at hk)) (xw.recv hE hM (by first | assumption | exact va_up_s | rfl | (refine (va_up_n ?_).trans ?_; rotate_left; (first | assumption | exact va_up_s | rfl | (refine (va_up_n ?_).trans ?_; rotate_left; (first | assumption | exact va_up_s | rfl | (refine (va_up_n ?_).trans ?_; rotate_left; (first | assumption | exact va_up_s | rfl | (refine (va_up_n ?_).trans ?_; rotate_left; (first | assumption | exact va_up_s | rfl | (refine (va_up_n ?_).trans ?_; rotate_left; (assumption); omega)); omega)); omega)); omega)); omega)) rfl) (xw.at hE (ci := 6) rfl) (List.mem_of_getElem? (i := 2) rfl) q621 q626 q624 q41 q628 ⟨by decide +kernel, by decide +kernel, by show _ = some 1; decide +kernel⟩ rfl rfl ⟨Nat.le_of_ble_eq_true rfl, Nat.le_of_ble_eq_true rfl⟩ rfl (Nat.le_of_ble_eq_true rfl) dX1_batchOf_26 ⟨Nat.le_of_ble_eq_true rfl, Nat.le_of_ble_eq_true rfl⟩) hS (fun uu ra H locs hq hM hS => ?_)
          obtain ⟨hra, hM⟩ := hM
          rw [hra]
          refine xr_cast (n := (bN β k)) (r := (RX6, TX6, 3)) (ci := 5) hx hb hown hE hM (by first | assumption | exact va_up_s | rfl | (refine (va_up_n ?_).trans ?_; rotate_left; (first | assumption | exact va_up_s | rfl | (refine (va_up_n ?_).trans ?_; rotate_left; (first | assumption | exact va_up_s | rfl | (refine (va_up_n ?_).trans ?_; rotate_left; (first | assumption | exact va_up_s | rfl | (refine (va_up_n ?_).trans ?_; rotate_left; (first | assumption | exact va_up_s | rfl | (refine (va_up_n ?_).trans ?_; rotate_left; (assumption); omega)); omega)); omega)); omega)); omega)) rfl (hts _ q1107) dX1_batchOf_31 ?_
          refine xr_getN (C := RX6) (T := TX6) (N := 3) (ci := 5) (n := (bN β k)) hx hb hts in_X6 hown hE hM (by first | assumption | exact va_up_s | rfl | (refine (va_up_n ?_).trans ?_; rotate_left; (first | assumption | exact va_up_s | rfl | (refine (va_up_n ?_).trans ?_; rotate_left; (first | assumption | exact va_up_s | rfl | (refine (va_up_n ?_).trans ?_; rotate_left; (first | assumption | exact va_up_s | rfl | (refine (va_up_n ?_).trans ?_; rotate_left; (first | assumption | exact va_up_s | rfl | (refine (va_up_n ?_).trans ?_; rotate_left; (assumption); omega)); omega)); omega)); omega)); omega)) rfl 0 (by decide) q1123 (fun _ h => h) rfl dX1_batchOf_34 ?_
          refine lv_aload_n hx hb dX1_batchOf_37 rfl (lh_at hl rfl) ?_
          obtain ⟨d7, hd7⟩ := hL2.size
          refine x_callFi (x_runF (As := [.ref (ad (2000 + 2 * o))]) hF hE hS hM hl (jk_contains l g A w (bN β k + 1) (bN β k + 2) (ad (bN β k + 1)) (ad (2000 + 2 * o)) mc2 _ hL2 ⟨_, _, ho2⟩ (fun z => hb3 (List.map_eq_nil_iff.mp z))) (xw.recv hE hM (by first | assumption | exact va_up_s | rfl | (refine (va_up_n ?_).trans ?_; rotate_left; (first | assumption | exact va_up_s | rfl | (refine (va_up_n ?_).trans ?_; rotate_left; (first | assumption | exact va_up_s | rfl | (refine (va_up_n ?_).trans ?_; rotate_left; (first | assumption | exact va_up_s | rfl | (refine (va_up_n ?_).trans ?_; rotate_left; (first | assumption | exact va_up_s | rfl | (refine (va_up_n ?_).trans ?_; rotate_left; (assumption); omega)); omega)); omega)); omega)); omega)) rfl) (xw.at hE (ci := 6) rfl) (List.mem_of_getElem? (i := 7) rfl) q1198 q1203 q1201 q41 q1205 ⟨by decide +kernel, by decide +kernel, by show _ = some 1; decide +kernel⟩ rfl rfl ⟨Nat.le_of_ble_eq_true rfl, Nat.le_of_ble_eq_true rfl⟩ rfl (Nat.le_of_ble_eq_true rfl) dX1_batchOf_38 ⟨Nat.le_of_ble_eq_true rfl, Nat.le_of_ble_eq_true rfl⟩) hS (fun r uu H locs hq hM hS => ?_)
          have hmem : ad (2000 + 2 * o) ∈ bE ad (β k) ↔ vBt ν o = k + 1 := by
            rw [bE_mem (fun o' h1 h2 => hX.inj hM hoN ((hb4 o').mp h1).1 h2), hb4 o]
            exact ⟨fun z => z.2, fun z => ⟨hoN, z⟩⟩
          by_cases hy : vBt ν o = k + 1
          · rw [if_pos (hmem.mpr hy)] at hq
            rw [hq]
            refine lv_if_eq (tgt := 48) hx hb dX1_batchOf_43 (by decide) (fun c2 => ?_) (fun c2 => ?_)
            · exact absurd c2 (by decide)
            · refine lv_iload_n hx hb dX1_batchOf_46 rfl (lh_at hl rfl) ?_
              exact hQ ▸ vx_ret (x_iret hx hb hr hlk hS w ⟨by unfold opBatchOf; rw [ho], by unfold opBatchOf; rw [ho]; simp only [hy]; rfl, by unfold opBatchOf; rw [ho]; exact fun _ => h⟩ hM dX1_batchOf_47)
          · rw [if_neg (fun z => hy (hmem.mp z))] at hq
            rw [hq]
            refine lv_if_eq (tgt := 48) hx hb dX1_batchOf_43 (by decide) (fun c2 => ?_) (fun c2 => ?_)
            · refine n_iinc hx hb 1 dX1_batchOf_48 hl rfl (by decide +kernel) (by decide) (fun ls hl => ?_)
              refine lv_goto (tgt := 8) hx hb dX1_batchOf_51 (by decide) ?_
              refine ih (k + 1) (by omega) (by omega) (fun b hb5 => ?_) H locs _ hM hS (lh_sub hl _ ⟨rfl, rfl, rfl, trivial⟩)
              by_cases e : b = k
              · rw [e]
                exact hy
              · exact h3 b (by omega)
            · exact absurd rfl c2
    refine x_astore_n hx hb dX1_batchOf_5 rfl hl (by decide) (fun ls hl => ?_)
    refine n_const hx hb 0 dX1_batchOf_6 (by decide +kernel) ?_
    refine x_istore_n hx hb dX1_batchOf_7 rfl hl (by decide) (fun ls hl => ?_)
    exact J (vC ν 5 + 1) 0 (by omega) (by omega) (fun b hb5 => absurd hb5 (Nat.not_lt_zero b)) H locs _ hM hS (lh_sub hl _ ⟨rfl, rfl, rfl, trivial⟩)
theorem farN_s {ν : nS} {S a q : Nat} (hp : S.testBit q = true → 1 ≤ vPl ν q % 100) : 0 < farN ν S a (q + 1) ↔ (0 < farN ν S a q ∨ (S.testBit q = true ∧ vPl ν q / 100 = a)) := by
  conv => lhs; rhs; unfold farN
  by_cases h : S.testBit q = true ∧ vPl ν q / 100 = a
  · have := hp h.1
    by_cases h2 : farN ν S a q < vPl ν q % 100
    · rw [if_pos ⟨h, h2⟩]
      exact ⟨fun _ => Or.inr h, fun _ => by omega⟩
    · rw [if_neg (fun z => h2 z.2)]
      exact ⟨fun z => Or.inl z, fun _ => by omega⟩
  · rw [if_neg (fun z => h z.1)]
    exact ⟨fun z => Or.inl z, fun z => z.resolve_right h⟩
abbrev b01 (P : Prop) [Decidable P] : Nat := if P then 1 else 0
theorem xk_inAisle (l : Launch) (hlt : l.stackTraces = false) (g : xg) (A : Nat → Prop) (w : xw_W) (ν : nS) (x0 : Nat) (p0 : Int32) (h : xI g ν x0 w) :
    vx_Met l yX1_inAisle (ws_ yX1_inAisle cX1_inAisle 7 (some .int)) (xrm 8 10 1534) (xPw g A w [.ref x0, .int p0]) (opQi g A x0 (opInAisle ν p0)) (opQX g A w [eIB] (opInAisle ν p0)) 10 1534 A := by
  obtain ⟨hO, ad, β, rfl, hβ, hX⟩ := id h
  have h0 := hX.obj
  have hA6 := hO.V.1.2
  have hP20 := hO.V.2.1.2
  have hB := hO.B
  have h11 : w 11 = none := hX.tmp (by decide) (by decide)
  obtain ⟨mc, hL⟩ := hX.wav
  obtain ⟨d5, hd5⟩ := hL.size
  obtain ⟨f, hf, hfv⟩ := hX.pl
  refine x_startX rfl (Nat.le_of_ble_eq_true rfl) ?_
  intro p e s m below meth c hx hb hr hlk hml hxt hown hts hnm hE hM hS ls hl
  have hF : xFix p m c cX1_inAisle 7 s _ RX1 := ⟨hx, hb, hml, hown, hts⟩
  generalize hargs : List.toArray _ = args at hts hF ⊢
  generalize hQ : vx_MQ below _ _ _ s _ _ A = Q
  refine lv_iload_n hx hb dX1_inAisle_0 rfl (lh_at hl rfl) ?_
  refine lv_aload_n hx hb dX1_inAisle_1 rfl (lh_at hl rfl) ?_
  refine xr_get (C := RX1) (T := TX1) (N := 12) (ci := 0) (n := 0) hx hb hts in_X1 hown hE hM (by first | assumption | exact va_up_s | rfl | (refine (va_up_n ?_).trans ?_; rotate_left; (first | assumption | exact va_up_s | rfl | (refine (va_up_n ?_).trans ?_; rotate_left; (first | assumption | exact va_up_s | rfl | (refine (va_up_n ?_).trans ?_; rotate_left; (first | assumption | exact va_up_s | rfl | (refine (va_up_n ?_).trans ?_; rotate_left; (first | assumption | exact va_up_s | rfl | (refine (va_up_n ?_).trans ?_; rotate_left; (assumption); omega)); omega)); omega)); omega)); omega)) rfl 0 (by decide) (hts _ q138) (fun _ h => h) rfl dX1_inAisle_2 ?_
  refine xr_ldc hx hb hown hE (i := 3) (k := 135) rfl dX1_inAisle_5 ?_
  refine x_tcalli (x_runSX (As := [.int p0, .int (nI (vC ν 0)), .ref (g.2 (100 + 135))]) hF hE hS hM hl (xk_within l hlt g A w p0 (vC ν 0) (135, "aisle") (List.mem_of_getElem? (i := 3) rfl) (by omega)) q296 q297 q38 q298 ⟨by decide +kernel, by decide +kernel, by show _ = some 3; decide +kernel⟩ rfl rfl ⟨Nat.le_of_ble_eq_true rfl, Nat.le_of_ble_eq_true rfl⟩ rfl (Nat.le_of_ble_eq_true rfl) dX1_inAisle_7 ⟨Nat.le_of_ble_eq_true rfl, Nat.le_of_ble_eq_true rfl⟩) hS hQ hxt hlk (Nat.le_of_ble_eq_true rfl) (Nat.le_of_ble_eq_true rfl) (fun E9 H9 hE9 hP9 => ?_) (fun r uu H locs hq hM hS => ?_)
  · exact ⟨⟨xCode.at (by unfold opInAisle; rw [hE9.2]) rfl hE9.1, rfl⟩, hP9⟩
  · obtain ⟨a, ha, rfl⟩ := hq
    obtain ⟨haA, rfl⟩ := xr_some (by omega) ha
    refine lv_pop hx hb dX1_inAisle_10 rfl ?_
    refine n_const hx hb 0 dX1_inAisle_11 (by decide +kernel) ?_
    refine x_istore_n hx hb dX1_inAisle_12 rfl hl (by decide) (fun ls hl => ?_)
    refine lv_aload_n hx hb dX1_inAisle_13 rfl (lh_at hl rfl) ?_
    refine xr_get (C := RX1) (T := TX1) (N := 12) (ci := 0) (n := 0) hx hb hts in_X1 hown hE hM (by first | assumption | exact va_up_s | rfl | (refine (va_up_n ?_).trans ?_; rotate_left; (first | assumption | exact va_up_s | rfl | (refine (va_up_n ?_).trans ?_; rotate_left; (first | assumption | exact va_up_s | rfl | (refine (va_up_n ?_).trans ?_; rotate_left; (first | assumption | exact va_up_s | rfl | (refine (va_up_n ?_).trans ?_; rotate_left; (first | assumption | exact va_up_s | rfl | (refine (va_up_n ?_).trans ?_; rotate_left; (assumption); omega)); omega)); omega)); omega)); omega)) rfl 6 (by decide) (hts _ q147) (fun _ h => h) rfl dX1_inAisle_14 ?_
    refine x_callFr (x_runF (As := []) hF hE hS hM hl (jk_iterator l g A w 5 6 11 (ad 5) 5 mc _ hL (by decide) (fun q hq => by rw [h11] at hq; cases hq) (fun q fs e => by rw [h11] at e; cases e)) (xw.recv hE hM (by first | assumption | exact va_up_s | rfl | (refine (va_up_n ?_).trans ?_; rotate_left; (first | assumption | exact va_up_s | rfl | (refine (va_up_n ?_).trans ?_; rotate_left; (first | assumption | exact va_up_s | rfl | (refine (va_up_n ?_).trans ?_; rotate_left; (first | assumption | exact va_up_s | rfl | (refine (va_up_n ?_).trans ?_; rotate_left; (first | assumption | exact va_up_s | rfl | (refine (va_up_n ?_).trans ?_; rotate_left; (assumption); omega)); omega)); omega)); omega)); omega)) rfl) (xw.at hE (ci := 6) rfl) (List.mem_of_getElem? (i := 5) rfl) q1049 q1054 q1052 q41 q1056 ⟨by decide +kernel, by decide +kernel, by show _ = some 0; decide +kernel⟩ rfl rfl ⟨Nat.le_of_ble_eq_true rfl, Nat.le_of_ble_eq_true rfl⟩ rfl (Nat.le_of_ble_eq_true rfl) dX1_inAisle_17 ⟨Nat.le_of_ble_eq_true rfl, Nat.le_of_ble_eq_true rfl⟩) hS (fun u it H locs hq hM hS => ?_)
    obtain ⟨⟨hit, hag⟩, hM⟩ := hM
    rw [hag.eq hit] at hM
    clear hag hit
    refine x_astore_n hx hb dX1_inAisle_22 rfl hl (by decide) (fun ls hl => ?_)
    have J : ∀ (n k : Nat), k ≤ vC ν 5 → vC ν 5 < k + n → ∀ (last : Int32) (H : Heap) (locs : List Loc) (ls : Array Slot), xw g A (va_up w 11 (some (xIt it (nI k) last mc (ad 5)))) H → va_S A s.heap H locs → lh ls 7 (xl [(0, .ref (ad 0)), (1, .int (nI a)), (2, .int (nI (inAN ν a k))), (3, .ref it)]) → W p l e (xrm 8 10 1534) s m args below meth c H locs 10 1534 Q (F0 m 23 ls []) := by
      intro n
      induction n with
      | zero => intro k h1 h2; exact absurd h2 (by omega)
      | succ n ih =>
        intro k h1 h2 last H locs ls hM hS hl
        have hLu : ∀ e, xLs g (va_up w 11 e) 5 6 (ad 5) mc 5 (bL ad β (vC ν 5)) := fun e => hL.tmp h11 (by decide) (by decide)
        refine lv_aload_n hx hb dX1_inAisle_23 rfl (lh_at hl rfl) ?_
        refine x_callFi (x_runF (As := []) hF hE hS hM hl (jk_hasNext l g A (va_up w 11 (some (xIt it (nI k) last mc (ad 5)))) 5 6 11 it (ad 5) 5 k mc last _ (hLu _) va_up_s (by rw [bL_len]; exact h1)) (xw.recv hE hM (by first | assumption | exact va_up_s | rfl | (refine (va_up_n ?_).trans ?_; rotate_left; (first | assumption | exact va_up_s | rfl | (refine (va_up_n ?_).trans ?_; rotate_left; (first | assumption | exact va_up_s | rfl | (refine (va_up_n ?_).trans ?_; rotate_left; (first | assumption | exact va_up_s | rfl | (refine (va_up_n ?_).trans ?_; rotate_left; (first | assumption | exact va_up_s | rfl | (refine (va_up_n ?_).trans ?_; rotate_left; (assumption); omega)); omega)); omega)); omega)); omega)) rfl) (xw.at hE (ci := 7) rfl) (List.mem_of_getElem? (i := 8) rfl) q1077 q1083 q1081 q69 q1085 ⟨by decide +kernel, by decide +kernel, by show _ = some 0; decide +kernel⟩ rfl rfl ⟨Nat.le_of_ble_eq_true rfl, Nat.le_of_ble_eq_true rfl⟩ rfl (Nat.le_of_ble_eq_true rfl) dX1_inAisle_24 ⟨Nat.le_of_ble_eq_true rfl, Nat.le_of_ble_eq_true rfl⟩) hS (fun r uu H locs hq hM hS => ?_)
        rw [bL_len] at hq
        by_cases hkB : k = vC ν 5
        · rw [if_pos hkB] at hq
          rw [hq]
          refine lv_if_eq (tgt := 116) hx hb dX1_inAisle_29 (by decide) (fun c1 => ?_) (fun c1 => ?_)
          · refine lv_iload_n hx hb dX1_inAisle_116 rfl (lh_at hl rfl) ?_
            rw [hkB] at hl
            have hM := hM.drop h11
            exact hQ ▸ vx_ret (x_iret hx hb hr hlk hS w ⟨by unfold opInAisle; rw [ha], by unfold opInAisle; rw [ha]; simp only [hkB], by unfold opInAisle; rw [ha]; exact fun _ => h⟩ hM dX1_inAisle_117)
          · exact absurd rfl c1
        · rw [if_neg hkB] at hq
          rw [hq]
          have hk : k < vC ν 5 := by omega
          obtain ⟨hb2, -⟩ := hX.bs hk
          have hb11 : bN β k ≠ 11 := by unfold bN; omega
          have hS9 := hO.pset hk
          have hp1 : ∀ q, q < 20 → (pAll ν k).testBit q = true → vPl ν q ≠ 0 ∧ vPl ν q < 600 ∧ 1 ≤ vPl ν q % 100 := by
            intro q hq hbit
            have hz := hS9.2.1 q hq hbit
            have h3 := (hO.V.2.2.2.2.2.2.1 q hq).resolve_left hz
            exact ⟨hz, (h3.lt hA6 hP20).1, h3.2.1⟩
          refine lv_if_eq (tgt := 116) hx hb dX1_inAisle_29 (by decide) (fun c1 => ?_) (fun c1 => ?_)
          · exact absurd c1 (by decide)
          · refine lv_aload_n hx hb dX1_inAisle_32 rfl (lh_at hl rfl) ?_
            refine x_callFr (x_runF (As := []) hF hE hS hM hl (jk_next l g A (va_up w 11 (some (xIt it (nI k) last mc (ad 5)))) 5 6 11 it (ad 5) 5 k (ad (bN β k)) mc last _ (hLu _) va_up_s (bL_at hk)) (xw.recv hE hM (by first | assumption | exact va_up_s | rfl | (refine (va_up_n ?_).trans ?_; rotate_left; (first | assumption | exact va_up_s | rfl | (refine (va_up_n ?_).trans ?_; rotate_left; (first | assumption | exact va_up_s | rfl | (refine (va_up_n ?_).trans ?_; rotate_left; (first | assumption | exact va_up_s | rfl | (refine (va_up_n ?_).trans ?_; rotate_left; (first | assumption | exact va_up_s | rfl | (refine (va_up_n ?_).trans ?_; rotate_left; (assumption); omega)); omega)); omega)); omega)); omega)) rfl) (xw.at hE (ci := 7) rfl) (List.mem_of_getElem? (i := 9) rfl) q1087 q1092 q1090 q69 q1094 ⟨by decide +kernel, by decide +kernel, by show _ = some 0; decide +kernel⟩ rfl rfl ⟨Nat.le_of_ble_eq_true rfl, Nat.le_of_ble_eq_true rfl⟩ rfl (Nat.le_of_ble_eq_true rfl) dX1_inAisle_33 ⟨Nat.le_of_ble_eq_true rfl, Nat.le_of_ble_eq_true rfl⟩) hS (fun u1 ra H locs hq2 hM hS => ?_)
            obtain ⟨⟨hra, hu1⟩, hM⟩ := hM
            rw [hu1, va_up_up] at hM
            rw [hra]
            generalize hwu : va_up w 11 (some (xIt it (nI (k + 1)) (nI k) mc (ad 5))) = wu at hM
            have hbu : wu (bN β k) = some (ad (bN β k), .inr (5, bFs ν ad β k)) := by rw [← hwu, va_up_n hb11]; exact hb2
            have h0u : wu 0 = some (ad 0, .inr (0, fX ad ν (nI (vC ν 6)) (nI (vC ν 7)))) := by rw [← hwu, va_up_n (by decide)]; exact h0
            have hfu : wu 1 = some (ad 1, .inl (g.2 0, 20, .inl f)) := by rw [← hwu, va_up_n (by decide)]; exact hf
            refine xr_cast (n := (bN β k)) (r := (RX6, TX6, 3)) (ci := 5) hx hb hown hE hM (by first | assumption | exact va_up_s | rfl | (refine (va_up_n ?_).trans ?_; rotate_left; (first | assumption | exact va_up_s | rfl | (refine (va_up_n ?_).trans ?_; rotate_left; (first | assumption | exact va_up_s | rfl | (refine (va_up_n ?_).trans ?_; rotate_left; (first | assumption | exact va_up_s | rfl | (refine (va_up_n ?_).trans ?_; rotate_left; (first | assumption | exact va_up_s | rfl | (refine (va_up_n ?_).trans ?_; rotate_left; (assumption); omega)); omega)); omega)); omega)); omega)) rfl (hts _ q1107) dX1_inAisle_38 ?_
            refine x_astore hx hb dX1_inAisle_41 hl (by decide) (fun ls hl => ?_)
            refine n_const hx hb 0 dX1_inAisle_43 (by decide +kernel) ?_
            refine x_istore hx hb dX1_inAisle_44 hl (by decide) (fun ls hl => ?_)
            refine n_const hx hb 0 dX1_inAisle_46 (by decide +kernel) ?_
            refine x_istore hx hb dX1_inAisle_47 hl (by decide) (fun ls hl => ?_)
            have I : ∀ (n2 q : Nat), q ≤ 20 → 20 < q + n2 → ∀ (ls : Array Slot), lh ls 7 (xl [(0, .ref (ad 0)), (1, .int (nI a)), (2, .int (nI (inAN ν a k))), (3, .ref it), (4, .ref (ad (bN β k))), (5, .int (nI (if 0 < farN ν (pAll ν k) a q then 1 else 0))), (6, .int (nI q))]) → W p l e (xrm 8 10 1534) s m args below meth c H locs 10 1534 Q (F0 m 49 ls []) := by
              intro n2
              induction n2 with
              | zero => intro q h1 h2; exact absurd h2 (by omega)
              | succ n2 ih2 =>
                intro q q1 q2 ls hl
                refine lv_iload hx hb dX1_inAisle_49 (lh_at hl rfl) ?_
                refine n_bipush hx hb 20 dX1_inAisle_51 (by decide +kernel) ?_
                refine n_icmp_ge (tgt := 100) hx hb dX1_inAisle_53 (by decide) (by omega) (by omega) (fun c2 => ?_) (fun c2 => ?_)
                · have e20 : q = 20 := by omega
                  subst e20
                  refine lv_iload_n hx hb dX1_inAisle_100 rfl (lh_at hl rfl) ?_
                  refine lv_iload hx hb dX1_inAisle_101 (lh_at hl rfl) ?_
                  rw [← hwu] at hM
                  by_cases hfar : 0 < farN ν (pAll ν k) a 20
                  · rw [if_pos hfar]
                    refine n_if_eq (tgt := 110) hx hb dX1_inAisle_103 (by decide) (by omega) (fun c3 => ?_) (fun c3 => ?_)
                    · exact absurd c3 (by decide)
                    · refine n_const hx hb 1 dX1_inAisle_106 (by decide +kernel) ?_
                      refine lv_goto (tgt := 111) hx hb dX1_inAisle_107 (by decide) ?_
                      refine n_iadd hx hb dX1_inAisle_111 ?_
                      refine x_istore_n hx hb dX1_inAisle_112 rfl hl (by decide) (fun ls hl => ?_)
                      refine lv_goto (tgt := 23) hx hb dX1_inAisle_113 (by decide) ?_
                      refine ih (k + 1) (by omega) (by omega) (nI k) H locs _ hM hS (lh_sub hl _ ⟨rfl, rfl, ?_, rfl, trivial⟩)
                      show _ = some (Value.int (nI (inAN ν a (k + 1))))
                      have e : inAN ν a (k + 1) = inAN ν a k + 1 := by
                        conv => lhs; unfold inAN
                        rw [if_pos hfar]
                      rw [e]
                      rfl
                  · rw [if_neg hfar]
                    refine n_if_eq (tgt := 110) hx hb dX1_inAisle_103 (by decide) (by omega) (fun c3 => ?_) (fun c3 => ?_)
                    · refine n_const hx hb 0 dX1_inAisle_110 (by decide +kernel) ?_
                      refine n_iadd hx hb dX1_inAisle_111 ?_
                      refine x_istore_n hx hb dX1_inAisle_112 rfl hl (by decide) (fun ls hl => ?_)
                      refine lv_goto (tgt := 23) hx hb dX1_inAisle_113 (by decide) ?_
                      refine ih (k + 1) (by omega) (by omega) (nI k) H locs _ hM hS (lh_sub hl _ ⟨rfl, rfl, ?_, rfl, trivial⟩)
                      show _ = some (Value.int (nI (inAN ν a (k + 1))))
                      have e : inAN ν a (k + 1) = inAN ν a k := by
                        conv => lhs; unfold inAN
                        rw [if_neg hfar]
                      rw [e]
                      rfl
                    · exact absurd rfl c3
                · have hq20 : q < 20 := by omega
                  have hfs := farN_s (ν := ν) (S := pAll ν k) (a := a) (q := q) (fun z => (hp1 q hq20 z).2.2)
                  have hSl := hS9.1
                  have fin : ∀ (d : Nat), d ≤ 1 → (d = 1 ↔ ((pAll ν k).testBit q = true ∧ vPl ν q / 100 = a)) → ∀ (ls : Array Slot), lh ls 7 (xl [(0, .ref (ad 0)), (1, .int (nI a)), (2, .int (nI (inAN ν a k))), (3, .ref it), (4, .ref (ad (bN β k))), (6, .int (nI q))]) → W p l e (xrm 8 10 1534) s m args below meth c H locs 10 1534 Q (F0 m 91 ls [.int (nI d), .int (nI (if 0 < farN ν (pAll ν k) a q then 1 else 0))]) := by
                    intro d hd1 hd ls hl
                    refine n_ior hx hb dX1_inAisle_91 ?_
                    refine x_istore hx hb dX1_inAisle_92 hl (by decide) (fun ls hl => ?_)
                    refine n_iinc hx hb 1 dX1_inAisle_94 hl rfl (by decide +kernel) (by decide) (fun ls hl => ?_)
                    refine lv_goto (tgt := 49) hx hb dX1_inAisle_97 (by decide) ?_
                    refine ih2 (q + 1) (by omega) (by omega) _ (lh_sub hl _ ⟨rfl, rfl, rfl, rfl, rfl, ?_, rfl, trivial⟩)
                    show some (Value.int (nI ((if 0 < farN ν (pAll ν k) a q then 1 else 0) ||| d))) = some (Value.int (nI (if 0 < farN ν (pAll ν k) a (q + 1) then 1 else 0)))
                    congr 3
                    by_cases z1 : 0 < farN ν (pAll ν k) a q
                    · rw [if_pos z1, if_pos (hfs.mpr (Or.inl z1))]
                      have : d = 0 ∨ d = 1 := by omega
                      rcases this with rfl | rfl <;> rfl
                    · rw [if_neg z1]
                      by_cases z2 : (pAll ν k).testBit q = true ∧ vPl ν q / 100 = a
                      · rw [if_pos (hfs.mpr (Or.inr z2)), hd.mpr z2]
                        rfl
                      · rw [if_neg (fun z => (hfs.mp z).elim z1 z2)]
                        have : d = 0 := by
                          have : d ≠ 1 := fun z => z2 (hd.mp z)
                          omega
                        rw [this]
                        rfl
                  refine lv_iload hx hb dX1_inAisle_56 (lh_at hl rfl) ?_
                  refine lv_aload hx hb dX1_inAisle_58 (lh_at hl rfl) ?_
                  refine xr_getN (C := RX6) (T := TX6) (N := 3) (ci := 5) (n := (bN β k)) hx hb hts in_X6 hown hE hM (by first | assumption | exact va_up_s | rfl | (refine (va_up_n ?_).trans ?_; rotate_left; (first | assumption | exact va_up_s | rfl | (refine (va_up_n ?_).trans ?_; rotate_left; (first | assumption | exact va_up_s | rfl | (refine (va_up_n ?_).trans ?_; rotate_left; (first | assumption | exact va_up_s | rfl | (refine (va_up_n ?_).trans ?_; rotate_left; (first | assumption | exact va_up_s | rfl | (refine (va_up_n ?_).trans ?_; rotate_left; (assumption); omega)); omega)); omega)); omega)); omega)) rfl 1 (by decide) q1125 (fun _ h => h) rfl dX1_inAisle_60 ?_
                  refine lv_iload hx hb dX1_inAisle_63 (lh_at hl rfl) ?_
                  refine n_ishr hx hb (by omega) (by omega) dX1_inAisle_65 ?_
                  refine n_const hx hb 1 dX1_inAisle_66 (by decide +kernel) ?_
                  refine n_iand hx hb dX1_inAisle_67 ?_
                  refine n_const hx hb 1 dX1_inAisle_68 (by decide +kernel) ?_
                  refine n_icmp_ne (tgt := 90) hx hb dX1_inAisle_69 (by decide) (by have := and1_lt (pAll ν k) q; omega) (by omega) (fun c3 => ?_) (fun c3 => ?_)
                  · have hb0 : ¬ (pAll ν k).testBit q = true := fun z => c3 (bit_and.mpr z)
                    refine n_const hx hb 0 dX1_inAisle_90 (by decide +kernel) ?_
                    exact fin 0 (by omega) ⟨fun z => absurd z (by decide), fun z => absurd z.1 hb0⟩ _ (lh_sub hl _ ⟨rfl, rfl, rfl, rfl, rfl, rfl, trivial⟩)
                  · have hb1 : (pAll ν k).testBit q = true := bit_and.mp c3
                    obtain ⟨z1, z2, z3⟩ := hp1 q hq20 hb1
                    refine lv_aload_n hx hb dX1_inAisle_72 rfl (lh_at hl rfl) ?_
                    refine xr_get (C := RX1) (T := TX1) (N := 12) (ci := 0) (n := 0) hx hb hts in_X1 hown hE hM (by first | assumption | exact va_up_s | rfl | (refine (va_up_n ?_).trans ?_; rotate_left; (first | assumption | exact va_up_s | rfl | (refine (va_up_n ?_).trans ?_; rotate_left; (first | assumption | exact va_up_s | rfl | (refine (va_up_n ?_).trans ?_; rotate_left; (first | assumption | exact va_up_s | rfl | (refine (va_up_n ?_).trans ?_; rotate_left; (first | assumption | exact va_up_s | rfl | (refine (va_up_n ?_).trans ?_; rotate_left; (assumption); omega)); omega)); omega)); omega)); omega)) rfl 3 (by decide) (hts _ q143) (fun _ h => h) rfl dX1_inAisle_73 ?_
                    refine lv_iload hx hb dX1_inAisle_76 (lh_at hl rfl) ?_
                    refine xr_iald (n := 1) hx hb hE hM (by first | assumption | exact va_up_s | rfl | (refine (va_up_n ?_).trans ?_; rotate_left; (first | assumption | exact va_up_s | rfl | (refine (va_up_n ?_).trans ?_; rotate_left; (first | assumption | exact va_up_s | rfl | (refine (va_up_n ?_).trans ?_; rotate_left; (first | assumption | exact va_up_s | rfl | (refine (va_up_n ?_).trans ?_; rotate_left; (first | assumption | exact va_up_s | rfl | (refine (va_up_n ?_).trans ?_; rotate_left; (assumption); omega)); omega)); omega)); omega)); omega)) (by omega) (by first | decide | omega) (by exact (hfv q hq20).trans (eP_pos z1)) dX1_inAisle_78 ?_
                    refine n_bipush hx hb 100 dX1_inAisle_79 (by decide +kernel) ?_
                    refine n_idiv hx hb (by omega) (by decide) (by decide) dX1_inAisle_81 ?_
                    refine lv_iload_n hx hb dX1_inAisle_82 rfl (lh_at hl rfl) ?_
                    refine n_icmp_ne (tgt := 90) hx hb dX1_inAisle_83 (by decide) (by omega) (by omega) (fun c4 => ?_) (fun c4 => ?_)
                    · refine n_const hx hb 0 dX1_inAisle_90 (by decide +kernel) ?_
                      exact fin 0 (by omega) ⟨fun z => absurd z (by decide), fun z => absurd z.2 c4⟩ _ (lh_sub hl _ ⟨rfl, rfl, rfl, rfl, rfl, rfl, trivial⟩)
                    · refine n_const hx hb 1 dX1_inAisle_86 (by decide +kernel) ?_
                      refine lv_goto (tgt := 91) hx hb dX1_inAisle_87 (by decide) ?_
                      exact fin 1 (by omega) ⟨fun _ => ⟨hb1, c4⟩, fun _ => rfl⟩ _ (lh_sub hl _ ⟨rfl, rfl, rfl, rfl, rfl, rfl, trivial⟩)
            exact I 21 0 (by omega) (by omega) _ (lh_sub hl _ ⟨rfl, rfl, rfl, rfl, rfl, rfl, rfl, trivial⟩)
    exact J (vC ν 5 + 1) 0 (by omega) (by omega) (-1) H locs _ hM hS (lh_sub hl _ ⟨rfl, rfl, rfl, rfl, trivial⟩)
