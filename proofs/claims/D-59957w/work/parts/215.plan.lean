/-! Aislewright: planWave -/
set_option maxRecDepth 100000
/-- pairs that were reckoned, of the first k -/
def sOkN (ν : nS) (k : Nat) (F : Nat → Nat → Int32) : Prop := ∀ i j, i < vC ν 5 → j < vC ν 5 → i ≠ j → (i < k ∨ j < k) → F i j = savI ν i j
theorem sOkN.step {ν : nS} {k : Nat} {F : Nat → Nat → Int32} (h : sOkN ν k F) (hk : k < vC ν 5) : sOkN ν (k + 1) (rkF ν k F (vC ν 5)) := by
  intro i j hi hj hij hor
  unfold rkF
  by_cases e1 : i = k
  · rw [if_pos ⟨e1, hj⟩, if_neg (fun z => hij (e1.trans z.symm)), e1]
  · rw [if_neg (fun z => e1 z.1)]
    by_cases e2 : j = k
    · rw [if_pos ⟨e2, hi⟩, if_neg e1, e2, savI_comm]
    · rw [if_neg (fun z => e2 z.1)]
      exact h i j hi hj hij (by omega)
theorem sOkN.all {ν : nS} {F : Nat → Nat → Int32} (h : sOkN ν (vC ν 5) F) : sOk ν F := fun i j hi hj hij => h i j hi hj hij (Or.inl hi)
/-- with no batch the batches' orders say nothing -/
theorem XR.b0 {g : xg} {ν : nS} {ad : Nat → Nat} {β β' : Nat → List Nat} {w : xw_W} (h : XR g ν ad β w) (hz : vC ν 5 = 0) : XR g ν ad β' w := by
  obtain ⟨a1, a2, a3, a4, a5, a6, a7, a8, a9, aA, aB, aC, aD, aE⟩ := h
  rw [hz] at a5 aA aE
  refine ⟨a1, a2, a3, a4, ?_, a6, a7, a8, a9, ?_, aB, aC, aD, ?_⟩
  · rw [hz]
    exact a5
  · rw [hz]
    exact fun b hb => absurd hb (Nat.not_lt_zero b)
  · rw [hz]
    exact fun n h1 _ => aE n h1 (fun b hb => absurd hb (Nat.not_lt_zero b))
set_option maxHeartbeats 4000000 in
theorem xk_planWave (l : Launch) (hlt : l.stackTraces = false) (g : xg) (A : Nat → Prop) (w : xw_W) (ν : nS) (x0 : Nat) (p0 : Int32) (h : xI g ν x0 w) :
    vx_Met l yX1_planWave (ws_ yX1_planWave cX1_planWave 4 (some .int)) (xrm 10 2200 93200) (xPw g A w [.ref x0, .int p0]) (opQi g A x0 (opPlan ν p0)) (opQX g A w [eIA, eIS] (opPlan ν p0)) 2200 93200 A := by
  obtain ⟨hO, ad, β, rfl, hβ, hX⟩ := id h
  have h0 := hX.obj
  have hN := hO.N
  have hB := hO.B
  have hV := hO.V
  obtain ⟨mcw, hLw⟩ := hX.wav
  obtain ⟨d5, hd5⟩ := hLw.size
  obtain ⟨mco, hLo⟩ := hX.ord
  obtain ⟨d3, hd3⟩ := hLo.size
  refine x_startX rfl (Nat.le_of_ble_eq_true rfl) ?_
  intro p e s m below meth c hx hb hr hlk hml hxt hown hts hnm hE hM hS ls hl
  have hF : xFix p m c cX1_planWave 4 s _ RX1 := ⟨hx, hb, hml, hown, hts⟩
  generalize hargs : List.toArray _ = args at hts hF ⊢
  generalize hQ : vx_MQ below _ _ _ s _ _ A = Q
  refine lv_iload_n hx hb dX1_planWave_0 rfl (lh_at hl rfl) ?_
  refine n_const hx hb 0 dX1_planWave_1 (by decide +kernel) ?_
  refine n_sipush hx hb 999 dX1_planWave_2 (by decide +kernel) ?_
  refine x_tcallv (x_runSX (As := [.int p0, .int (nI 0), .int (nI 999)]) hF hE hS hM hl (xk_isWithin l hlt g A w p0 (nI 0) (nI 999)) q939 q940 q38 q941 ⟨by decide +kernel, by decide +kernel, by show _ = some 3; decide +kernel⟩ rfl rfl ⟨Nat.le_of_ble_eq_true rfl, Nat.le_of_ble_eq_true rfl⟩ rfl (Nat.le_of_ble_eq_true rfl) dX1_planWave_5 ⟨Nat.le_of_ble_eq_true rfl, Nat.le_of_ble_eq_true rfl⟩) hS hQ hxt hlk (Nat.le_of_ble_eq_true rfl) (Nat.le_of_ble_eq_true rfl) (fun E9 H9 hE9 hP9 => ?_) (fun uu H locs hq hM hS => ?_)
  · exact ⟨⟨xCode.at (j := 0) (by unfold opPlan; rw [isW0_none (n := 1000) (by decide) (by decide) hE9.2]) rfl hE9.1, rfl⟩, hP9⟩
  · obtain ⟨t, htx⟩ := (isW0 (n := 1000) (by decide) (by decide)).mp hq
    obtain ⟨ht9, rfl⟩ := xr_some (by decide) htx
    have hop : opPlan ν (nI t) = if 0 < vC ν 5 ∨ cntP ν t (vC ν 4) = 0 then (2, 0, ν) else (0, nI (vC (planS ν t) 5), planS ν t) := by
      unfold opPlan
      rw [htx]
    refine lv_aload_n hx hb dX1_planWave_8 rfl (lh_at hl rfl) ?_
    refine xr_get (C := RX1) (T := TX1) (N := 12) (ci := 0) (n := 0) hx hb hts in_X1 hown hE hM (by first | assumption | exact va_up_s | rfl | (refine (va_up_n ?_).trans ?_; rotate_left; (first | assumption | exact va_up_s | rfl | (refine (va_up_n ?_).trans ?_; rotate_left; (first | assumption | exact va_up_s | rfl | (refine (va_up_n ?_).trans ?_; rotate_left; (first | assumption | exact va_up_s | rfl | (refine (va_up_n ?_).trans ?_; rotate_left; (first | assumption | exact va_up_s | rfl | (refine (va_up_n ?_).trans ?_; rotate_left; (assumption); omega)); omega)); omega)); omega)); omega)) rfl 6 (by decide) (hts _ q147) (fun _ h => h) rfl dX1_planWave_9 ?_
    refine x_callFi (x_runF (As := []) hF hE hS hM hl (jk_isEmpty l g A w 5 6 (ad 5) 5 mcw _ hLw) (xw.recv hE hM (by first | assumption | exact va_up_s | rfl | (refine (va_up_n ?_).trans ?_; rotate_left; (first | assumption | exact va_up_s | rfl | (refine (va_up_n ?_).trans ?_; rotate_left; (first | assumption | exact va_up_s | rfl | (refine (va_up_n ?_).trans ?_; rotate_left; (first | assumption | exact va_up_s | rfl | (refine (va_up_n ?_).trans ?_; rotate_left; (first | assumption | exact va_up_s | rfl | (refine (va_up_n ?_).trans ?_; rotate_left; (assumption); omega)); omega)); omega)); omega)); omega)) rfl) (xw.at hE (ci := 6) rfl) (List.mem_of_getElem? (i := 1) rfl) q564 q569 q567 q41 q571 ⟨by decide +kernel, by decide +kernel, by show _ = some 0; decide +kernel⟩ rfl rfl ⟨Nat.le_of_ble_eq_true rfl, Nat.le_of_ble_eq_true rfl⟩ rfl (Nat.le_of_ble_eq_true rfl) dX1_planWave_12 ⟨Nat.le_of_ble_eq_true rfl, Nat.le_of_ble_eq_true rfl⟩) hS (fun r uu H locs hq2 hM hS => ?_)
    rw [bL_len] at hq2
    refine xr_ldc hx hb hown hE (i := 6) (k := 149) rfl dX1_planWave_17 ?_
    by_cases hz : vC ν 5 = 0
    · rw [if_pos hz] at hq2
      rw [hq2]
      have hbt0 : ∀ o, o < vC ν 4 → vBt ν o = 0 := fun o ho => by
        have := (hV.2.2.2.2.2.2.2 o ho).2.2.1
        omega
      refine x_tcallv (x_runSX (As := [.int 1, .ref (g.2 (100 + 149))]) hF hE hS hM hl (xk_must l hlt g A w 1 (g.2 (100 + 149))) q573 q574 q38 q575 ⟨by decide +kernel, by decide +kernel, by show _ = some 2; decide +kernel⟩ rfl rfl ⟨Nat.le_of_ble_eq_true rfl, Nat.le_of_ble_eq_true rfl⟩ rfl (Nat.le_of_ble_eq_true rfl) dX1_planWave_19 ⟨Nat.le_of_ble_eq_true rfl, Nat.le_of_ble_eq_true rfl⟩) hS hQ hxt hlk (Nat.le_of_ble_eq_true rfl) (Nat.le_of_ble_eq_true rfl) (fun E9 H9 hE9 hP9 => ?_) (fun uu H locs hq hM hS => ?_)
      · exact absurd hE9.2 (by decide)
      · have h11 : w 11 = none := hX.tmp (by decide) (by decide)
        refine lv_aload_n hx hb dX1_planWave_22 rfl (lh_at hl rfl) ?_
        refine xr_get (C := RX1) (T := TX1) (N := 12) (ci := 0) (n := 0) hx hb hts in_X1 hown hE hM (by first | assumption | exact va_up_s | rfl | (refine (va_up_n ?_).trans ?_; rotate_left; (first | assumption | exact va_up_s | rfl | (refine (va_up_n ?_).trans ?_; rotate_left; (first | assumption | exact va_up_s | rfl | (refine (va_up_n ?_).trans ?_; rotate_left; (first | assumption | exact va_up_s | rfl | (refine (va_up_n ?_).trans ?_; rotate_left; (first | assumption | exact va_up_s | rfl | (refine (va_up_n ?_).trans ?_; rotate_left; (assumption); omega)); omega)); omega)); omega)); omega)) rfl 5 (by decide) (hts _ q146) (fun _ h => h) rfl dX1_planWave_23 ?_
        refine x_callFr (x_runF (As := []) hF hE hS hM hl (jk_iterator l g A w 3 4 11 (ad 3) 4 mco _ hLo (by decide) (fun q hq => by rw [h11] at hq; cases hq) (fun q fs e => by rw [h11] at e; cases e)) (xw.recv hE hM (by first | assumption | exact va_up_s | rfl | (refine (va_up_n ?_).trans ?_; rotate_left; (first | assumption | exact va_up_s | rfl | (refine (va_up_n ?_).trans ?_; rotate_left; (first | assumption | exact va_up_s | rfl | (refine (va_up_n ?_).trans ?_; rotate_left; (first | assumption | exact va_up_s | rfl | (refine (va_up_n ?_).trans ?_; rotate_left; (first | assumption | exact va_up_s | rfl | (refine (va_up_n ?_).trans ?_; rotate_left; (assumption); omega)); omega)); omega)); omega)); omega)) rfl) (xw.at hE (ci := 6) rfl) (List.mem_of_getElem? (i := 5) rfl) q1049 q1054 q1052 q41 q1056 ⟨by decide +kernel, by decide +kernel, by show _ = some 0; decide +kernel⟩ rfl rfl ⟨Nat.le_of_ble_eq_true rfl, Nat.le_of_ble_eq_true rfl⟩ rfl (Nat.le_of_ble_eq_true rfl) dX1_planWave_26 ⟨Nat.le_of_ble_eq_true rfl, Nat.le_of_ble_eq_true rfl⟩) hS (fun u it H locs hq3 hM hS => ?_)
        obtain ⟨⟨hit, hag⟩, hM⟩ := hM
        rw [hag.eq hit] at hM
        clear hag hit
        refine x_astore_n hx hb dX1_planWave_31 rfl hl (by decide) (fun ls hl => ?_)
        -- the joining
        have AFT : ∀ (n : Nat) (cells slots : Nat) (ν1 : nS) (ad1 : Nat → Nat) (β1 : Nat → List Nat) (w1 : xw_W) (σ1 : rS) (F1 : Nat → Nat → Int32) (r : Int32) (u : xw_W) (H : Heap) (locs : List Loc) (ls : Array Slot), cells + 49 * n ≤ 2200 → slots + 2104 * n ≤ 93200 → vC ν1 5 ≤ n → joinAll ν1 n = planS ν t → ¬ (0 < vC ν 5 ∨ cntP ν t (vC ν 4) = 0) → ad1 0 = ad 0 → xOk ν1 → bOk ν1 β1 → XR g ν1 ad1 β1 w1 → sOk ν1 F1 →
            ((r = 0 ∧ joinsN ν1 = none ∧ u = sW g w1 ad1 σ1 F1) ∨ (r = 1 ∧ ∃ ν', joinsN ν1 = some ν' ∧ xOk ν' ∧ ∃ ad' β' w' σ' F', ad' 0 = ad1 0 ∧ bOk ν' β' ∧ XR g ν' ad' β' w' ∧ sOk ν' F' ∧ u = sW g w' ad' σ' F')) → xw g A u H → va_S A s.heap H locs → lh ls 4 (xl [(0, .ref (ad 0)), (2, .int r)]) → W p l e (xrm 10 2200 93200) s m args below meth c H locs cells slots Q (F0 m 152 ls []) := by
          intro n
          induction n with
          | zero =>
            intro cells slots ν1 ad1 β1 w1 σ1 F1 r u H locs ls hc hsl hn hj hgo had hO1 hβ1 hX1 hs1 hr9 hM hS hl
            rcases hr9 with ⟨hr0, hjn, hu⟩ | ⟨hr1, ν', hjn, -⟩
            · subst hr0
              have hX2 := hX1.sput σ1 F1
              rw [← hu] at hX2
              have h02 := hX2.obj
              obtain ⟨mc2, hL2⟩ := hX2.wav
              obtain ⟨d2, hd2⟩ := hL2.size
              rw [had] at h02
              refine lv_iload_n hx hb dX1_planWave_152 rfl (lh_at hl rfl) ?_
              refine lv_if_eq (tgt := 164) hx hb dX1_planWave_153 (by decide) (fun c1 => ?_) (fun c1 => ?_)
              · rw [if_neg hgo] at hop
                have hfin : planS ν t = ν1 := hj.symm
                refine lv_aload_n hx hb dX1_planWave_164 rfl (lh_at hl rfl) ?_
                refine xr_get (C := RX1) (T := TX1) (N := 12) (ci := 0) (n := 0) hx hb hts in_X1 hown hE hM (by first | assumption | exact va_up_s | rfl | (refine (va_up_n ?_).trans ?_; rotate_left; (first | assumption | exact va_up_s | rfl | (refine (va_up_n ?_).trans ?_; rotate_left; (first | assumption | exact va_up_s | rfl | (refine (va_up_n ?_).trans ?_; rotate_left; (first | assumption | exact va_up_s | rfl | (refine (va_up_n ?_).trans ?_; rotate_left; (first | assumption | exact va_up_s | rfl | (refine (va_up_n ?_).trans ?_; rotate_left; (assumption); omega)); omega)); omega)); omega)); omega)) rfl 6 (by decide) (hts _ q147) (fun _ h => h) rfl dX1_planWave_165 ?_
                refine x_callFi (x_runF (As := []) hF hE hS hM hl (jk_size l g A u 5 6 (ad1 5) 5 mc2 _ hL2) (xw.recv hE hM (by first | assumption | exact va_up_s | rfl | (refine (va_up_n ?_).trans ?_; rotate_left; (first | assumption | exact va_up_s | rfl | (refine (va_up_n ?_).trans ?_; rotate_left; (first | assumption | exact va_up_s | rfl | (refine (va_up_n ?_).trans ?_; rotate_left; (first | assumption | exact va_up_s | rfl | (refine (va_up_n ?_).trans ?_; rotate_left; (first | assumption | exact va_up_s | rfl | (refine (va_up_n ?_).trans ?_; rotate_left; (assumption); omega)); omega)); omega)); omega)); omega)) rfl) (xw.at hE (ci := 6) rfl) (List.mem_of_getElem? (i := 0) rfl) q183 q189 q187 q41 q191 ⟨by decide +kernel, by decide +kernel, by show _ = some 0; decide +kernel⟩ rfl rfl ⟨Nat.le_of_ble_eq_true rfl, Nat.le_of_ble_eq_true rfl⟩ rfl (Nat.le_of_ble_eq_true rfl) dX1_planWave_168 (by show (_ : Nat) ≤ 2200 ∧ (_ : Nat) ≤ 93200; omega)) hS (fun r uu H locs hq hM hS => ?_)
                rw [hq, bL_len]
                refine W.widen (k := 2200) (n := 93200) (by show (_ : Nat) ≤ 2200; omega) (by show (_ : Nat) ≤ 93200; omega) ?_
                exact hQ ▸ vx_ret (x_iret hx hb hr hlk hS u ⟨by rw [hop], by rw [hop, hfin], by rw [hop, hfin]; exact fun hV2 => ⟨hO1, ad1, β1, had, hβ1, hX2⟩⟩ hM dX1_planWave_173)
              · exact absurd rfl c1
            · have := (joinsN_wv hO1.V hO1.W hjn).2
              omega
          | succ n ih =>
            intro cells slots ν1 ad1 β1 w1 σ1 F1 r u H locs ls hc hsl hn hj hgo had hO1 hβ1 hX1 hs1 hr9 hM hS hl
            rcases hr9 with ⟨hr0, hjn, hu⟩ | ⟨hr1, ν', hjn, hO2, ad', β', w', σ', F', had', hβ2, hX2, hs2, hu⟩
            · subst hr0
              have hX2 := hX1.sput σ1 F1
              rw [← hu] at hX2
              have h02 := hX2.obj
              obtain ⟨mc2, hL2⟩ := hX2.wav
              obtain ⟨d2, hd2⟩ := hL2.size
              rw [had] at h02
              refine lv_iload_n hx hb dX1_planWave_152 rfl (lh_at hl rfl) ?_
              refine lv_if_eq (tgt := 164) hx hb dX1_planWave_153 (by decide) (fun c1 => ?_) (fun c1 => ?_)
              · rw [if_neg hgo] at hop
                have hfin : planS ν t = ν1 := by
                  rw [← hj]
                  show (match joinsN ν1 with | none => ν1 | some ν' => joinAll ν' n) = ν1
                  rw [hjn]
                refine lv_aload_n hx hb dX1_planWave_164 rfl (lh_at hl rfl) ?_
                refine xr_get (C := RX1) (T := TX1) (N := 12) (ci := 0) (n := 0) hx hb hts in_X1 hown hE hM (by first | assumption | exact va_up_s | rfl | (refine (va_up_n ?_).trans ?_; rotate_left; (first | assumption | exact va_up_s | rfl | (refine (va_up_n ?_).trans ?_; rotate_left; (first | assumption | exact va_up_s | rfl | (refine (va_up_n ?_).trans ?_; rotate_left; (first | assumption | exact va_up_s | rfl | (refine (va_up_n ?_).trans ?_; rotate_left; (first | assumption | exact va_up_s | rfl | (refine (va_up_n ?_).trans ?_; rotate_left; (assumption); omega)); omega)); omega)); omega)); omega)) rfl 6 (by decide) (hts _ q147) (fun _ h => h) rfl dX1_planWave_165 ?_
                refine x_callFi (x_runF (As := []) hF hE hS hM hl (jk_size l g A u 5 6 (ad1 5) 5 mc2 _ hL2) (xw.recv hE hM (by first | assumption | exact va_up_s | rfl | (refine (va_up_n ?_).trans ?_; rotate_left; (first | assumption | exact va_up_s | rfl | (refine (va_up_n ?_).trans ?_; rotate_left; (first | assumption | exact va_up_s | rfl | (refine (va_up_n ?_).trans ?_; rotate_left; (first | assumption | exact va_up_s | rfl | (refine (va_up_n ?_).trans ?_; rotate_left; (first | assumption | exact va_up_s | rfl | (refine (va_up_n ?_).trans ?_; rotate_left; (assumption); omega)); omega)); omega)); omega)); omega)) rfl) (xw.at hE (ci := 6) rfl) (List.mem_of_getElem? (i := 0) rfl) q183 q189 q187 q41 q191 ⟨by decide +kernel, by decide +kernel, by show _ = some 0; decide +kernel⟩ rfl rfl ⟨Nat.le_of_ble_eq_true rfl, Nat.le_of_ble_eq_true rfl⟩ rfl (Nat.le_of_ble_eq_true rfl) dX1_planWave_168 (by show (_ : Nat) ≤ 2200 ∧ (_ : Nat) ≤ 93200; omega)) hS (fun r uu H locs hq hM hS => ?_)
                rw [hq, bL_len]
                refine W.widen (k := 2200) (n := 93200) (by show (_ : Nat) ≤ 2200; omega) (by show (_ : Nat) ≤ 93200; omega) ?_
                exact hQ ▸ vx_ret (x_iret hx hb hr hlk hS u ⟨by rw [hop], by rw [hop, hfin], by rw [hop, hfin]; exact fun hV2 => ⟨hO1, ad1, β1, had, hβ1, hX2⟩⟩ hM dX1_planWave_173)
              · exact absurd rfl c1
            · subst hr1
              have hwv := (joinsN_wv hO1.V hO1.W hjn).2
              have hj2 : joinAll ν' n = planS ν t := by
                rw [← hj]
                show _ = (match joinsN ν1 with | none => ν1 | some ν' => joinAll ν' n)
                rw [hjn]
              rw [hu] at hM
              have had2 : ad' 0 = ad 0 := had'.trans had
              have h02 := (hX2.sput σ' F').obj
              rw [had2] at h02
              refine lv_iload_n hx hb dX1_planWave_152 rfl (lh_at hl rfl) ?_
              refine lv_if_eq (tgt := 164) hx hb dX1_planWave_153 (by decide) (fun c1 => ?_) (fun c1 => ?_)
              · exact absurd c1 (by decide)
              · refine lv_aload_n hx hb dX1_planWave_156 rfl (lh_at hl rfl) ?_
                rw [← had2] at h02 hl ⊢
                refine x_calli (x_runV (As := []) hF hE hS hM hl (xk_joinsBest l g A w' ν' ad' β' σ' F' hO2 hβ2 hX2 hs2) (xw.recv hE hM (by first | assumption | exact va_up_s | rfl | (refine (va_up_n ?_).trans ?_; rotate_left; (first | assumption | exact va_up_s | rfl | (refine (va_up_n ?_).trans ?_; rotate_left; (first | assumption | exact va_up_s | rfl | (refine (va_up_n ?_).trans ?_; rotate_left; (first | assumption | exact va_up_s | rfl | (refine (va_up_n ?_).trans ?_; rotate_left; (first | assumption | exact va_up_s | rfl | (refine (va_up_n ?_).trans ?_; rotate_left; (assumption); omega)); omega)); omega)); omega)); omega)) rfl) q1144 q1146 qs15 q38 q1147 ⟨rfl, by decide +kernel, by decide +kernel, by show _ = some 0; decide +kernel⟩ rfl rfl ⟨Nat.le_of_ble_eq_true rfl, Nat.le_of_ble_eq_true rfl⟩ rfl (Nat.le_of_ble_eq_true rfl) dX1_planWave_157 (by show (_ : Nat) ≤ 2200 ∧ (_ : Nat) ≤ 93200; omega)) hS (fun r9 u9 H locs hq9 hM hS => ?_)
                rw [had2] at hl
                refine x_istore_n hx hb dX1_planWave_160 rfl hl (by decide) (fun ls hl => ?_)
                refine lv_goto (tgt := 152) hx hb dX1_planWave_161 (by decide) ?_
                exact ih _ _ ν' ad' β' w' σ' F' r9 u9 H locs _ (by omega) (by omega) (by omega) hj2 hgo had2 hO2 hβ2 hX2 hs2 hq9 hM hS (lh_sub hl _ ⟨rfl, rfl, trivial⟩)
        -- the reckoning
        have REC : ∀ (n k : Nat), k ≤ cntP ν t (vC ν 4) → cntP ν t (vC ν 4) < k + n → cntP ν t (vC ν 4) ≠ 0 → ∀ (cells slots : Nat) (ad1 : Nat → Nat) (w1 : xw_W) (σ1 : rS) (F1 : Nat → Nat → Int32) (H : Heap) (locs : List Loc) (ls : Array Slot), cells ≤ 191 → slots ≤ 6900 → ad1 0 = ad 0 → XR g (waveN ν t (vC ν 4)) ad1 (bW ν t (vC ν 4)) w1 → sOkN (waveN ν t (vC ν 4)) k F1 → xw g A (sW g w1 ad1 σ1 F1) H → va_S A s.heap H locs → lh ls 4 (xl [(0, .ref (ad 0)), (2, .int (nI k))]) → W p l e (xrm 10 2200 93200) s m args below meth c H locs cells slots Q (F0 m 123 ls []) := by
          intro n
          induction n with
          | zero => intro k h1 h2; exact absurd h2 (by omega)
          | succ n ih =>
            intro k k1 k2 hne cells slots ad1 w1 σ1 F1 H locs ls hc hsl had hX1 hs1 hM hS hl
            have hOw : xOk (waveN ν t (vC ν 4)) := hO.wave hz
            have w5 : vC (waveN ν t (vC ν 4)) 5 = cntP ν t (vC ν 4) := wave_5
            have hcle := cntP_le (ν := ν) (t := t) (vC ν 4)
            have hX2 := hX1.sput σ1 F1
            have h02 := hX2.obj
            obtain ⟨mc2, hL2⟩ := hX2.wav
            obtain ⟨d2, hd2⟩ := hL2.size
            rw [w5] at hL2 hd2
            rw [← had] at hl
            refine lv_iload_n hx hb dX1_planWave_123 rfl (lh_at hl rfl) ?_
            refine lv_aload_n hx hb dX1_planWave_124 rfl (lh_at hl rfl) ?_
            refine xr_get (C := RX1) (T := TX1) (N := 12) (ci := 0) (n := 0) hx hb hts in_X1 hown hE hM (by first | assumption | exact va_up_s | rfl | (refine (va_up_n ?_).trans ?_; rotate_left; (first | assumption | exact va_up_s | rfl | (refine (va_up_n ?_).trans ?_; rotate_left; (first | assumption | exact va_up_s | rfl | (refine (va_up_n ?_).trans ?_; rotate_left; (first | assumption | exact va_up_s | rfl | (refine (va_up_n ?_).trans ?_; rotate_left; (first | assumption | exact va_up_s | rfl | (refine (va_up_n ?_).trans ?_; rotate_left; (assumption); omega)); omega)); omega)); omega)); omega)) rfl 6 (by decide) (hts _ q147) (fun _ h => h) rfl dX1_planWave_125 ?_
            refine x_callFi (x_runF (As := []) hF hE hS hM hl (jk_size l g A _ 5 6 (ad1 5) 5 mc2 _ hL2) (xw.recv hE hM (by first | assumption | exact va_up_s | rfl | (refine (va_up_n ?_).trans ?_; rotate_left; (first | assumption | exact va_up_s | rfl | (refine (va_up_n ?_).trans ?_; rotate_left; (first | assumption | exact va_up_s | rfl | (refine (va_up_n ?_).trans ?_; rotate_left; (first | assumption | exact va_up_s | rfl | (refine (va_up_n ?_).trans ?_; rotate_left; (first | assumption | exact va_up_s | rfl | (refine (va_up_n ?_).trans ?_; rotate_left; (assumption); omega)); omega)); omega)); omega)); omega)) rfl) (xw.at hE (ci := 6) rfl) (List.mem_of_getElem? (i := 0) rfl) q183 q189 q187 q41 q191 ⟨by decide +kernel, by decide +kernel, by show _ = some 0; decide +kernel⟩ rfl rfl ⟨Nat.le_of_ble_eq_true rfl, Nat.le_of_ble_eq_true rfl⟩ rfl (Nat.le_of_ble_eq_true rfl) dX1_planWave_128 (by show (_ : Nat) ≤ 2200 ∧ (_ : Nat) ≤ 93200; omega)) hS (fun r uu H locs hq hM hS => ?_)
            rw [hq, bL_len]
            refine n_icmp_ge (tgt := 147) hx hb dX1_planWave_133 (by decide) (by omega) (by omega) (fun c1 => ?_) (fun c1 => ?_)
            · have ek : k = cntP ν t (vC ν 4) := by omega
              rw [ek, ← w5] at hs1
              refine lv_aload_n hx hb dX1_planWave_147 rfl (lh_at hl rfl) ?_
              refine x_calli (x_runV (As := []) hF hE hS hM hl (xk_joinsBest l g A w1 (waveN ν t (vC ν 4)) ad1 (bW ν t (vC ν 4)) σ1 F1 hOw (bW_ok hbt0 (Nat.le_refl _)) hX1 hs1.all) (xw.recv hE hM (by first | assumption | exact va_up_s | rfl | (refine (va_up_n ?_).trans ?_; rotate_left; (first | assumption | exact va_up_s | rfl | (refine (va_up_n ?_).trans ?_; rotate_left; (first | assumption | exact va_up_s | rfl | (refine (va_up_n ?_).trans ?_; rotate_left; (first | assumption | exact va_up_s | rfl | (refine (va_up_n ?_).trans ?_; rotate_left; (first | assumption | exact va_up_s | rfl | (refine (va_up_n ?_).trans ?_; rotate_left; (assumption); omega)); omega)); omega)); omega)); omega)) rfl) q1144 q1146 qs15 q38 q1147 ⟨rfl, by decide +kernel, by decide +kernel, by show _ = some 0; decide +kernel⟩ rfl rfl ⟨Nat.le_of_ble_eq_true rfl, Nat.le_of_ble_eq_true rfl⟩ rfl (Nat.le_of_ble_eq_true rfl) dX1_planWave_148 (by show (_ : Nat) ≤ 2200 ∧ (_ : Nat) ≤ 93200; omega)) hS (fun r9 u9 H locs hq9 hM hS => ?_)
              rw [had] at hl
              refine x_istore_n hx hb dX1_planWave_151 rfl hl (by decide) (fun ls hl => ?_)
              exact AFT 40 _ _ (waveN ν t (vC ν 4)) ad1 (bW ν t (vC ν 4)) w1 σ1 F1 r9 u9 H locs _ (by omega) (by omega) (by rw [w5]; omega) rfl (fun z => by omega) had hOw (bW_ok hbt0 (Nat.le_refl _)) hX1 hs1.all hq9 hM hS (lh_sub hl _ ⟨rfl, rfl, trivial⟩)
            · have hk : k < cntP ν t (vC ν 4) := by omega
              refine lv_aload_n hx hb dX1_planWave_136 rfl (lh_at hl rfl) ?_
              refine lv_iload_n hx hb dX1_planWave_137 rfl (lh_at hl rfl) ?_
              refine x_callv (x_runV (As := [.int (nI k)]) hF hE hS hM hl (xk_reckons l g A w1 (waveN ν t (vC ν 4)) ad1 (bW ν t (vC ν 4)) σ1 F1 k hOw hX1 (by rw [w5]; exact hk)) (xw.recv hE hM (by first | assumption | exact va_up_s | rfl | (refine (va_up_n ?_).trans ?_; rotate_left; (first | assumption | exact va_up_s | rfl | (refine (va_up_n ?_).trans ?_; rotate_left; (first | assumption | exact va_up_s | rfl | (refine (va_up_n ?_).trans ?_; rotate_left; (first | assumption | exact va_up_s | rfl | (refine (va_up_n ?_).trans ?_; rotate_left; (first | assumption | exact va_up_s | rfl | (refine (va_up_n ?_).trans ?_; rotate_left; (assumption); omega)); omega)); omega)); omega)); omega)) rfl) q1136 q1138 qs13 q38 q1139 ⟨rfl, by decide +kernel, by decide +kernel, by show _ = some 1; decide +kernel⟩ rfl rfl ⟨Nat.le_of_ble_eq_true rfl, Nat.le_of_ble_eq_true rfl⟩ rfl (Nat.le_of_ble_eq_true rfl) dX1_planWave_138 (by show (_ : Nat) ≤ 2200 ∧ (_ : Nat) ≤ 93200; omega)) hS (fun σ2 H locs hq9 hM hS => ?_)
              rw [had] at hl
              refine n_iinc hx hb 1 dX1_planWave_141 hl rfl (by decide +kernel) (by decide) (fun ls hl => ?_)
              refine lv_goto (tgt := 123) hx hb dX1_planWave_144 (by decide) ?_
              exact ih (k + 1) (by omega) (by omega) hne _ _ ad1 w1 σ2 _ H locs _ (by omega) (by omega) had hX1 (hs1.step (by rw [w5]; exact hk)) hM hS (lh_sub hl _ ⟨rfl, rfl, trivial⟩)
        -- the orders
        have ORD : ∀ (n i : Nat), i ≤ vC ν 4 → vC ν 4 < i + n → ∀ (cells slots : Nat) (ad1 : Nat → Nat) (v : xw_W) (last : Int32) (H : Heap) (locs : List Loc) (ls : Array Slot), cells ≤ 12 + 4 * i → slots ≤ 1840 + 126 * i → (∀ m, m < 3000 → ad1 m = ad m) → (cntP ν t i = 0 → v = w) → XR g (waveN ν t i) ad1 (bW ν t i) v → xLs g v 3 4 (ad 3) mco 4 (oL ad (vC ν 4)) → xw g A (va_up v 11 (some (xIt it (nI i) last mco (ad 3)))) H → va_S A s.heap H locs →
            lh ls 4 (xl [(0, .ref (ad 0)), (1, .int (nI t)), (2, .ref it)]) → W p l e (xrm 10 2200 93200) s m args below meth c H locs cells slots Q (F0 m 32 ls []) := by
          intro n
          induction n with
          | zero => intro i h1 h2; exact absurd h2 (by omega)
          | succ n ih =>
            intro i i1 i2 cells slots ad1 v last H locs ls hc hsl had hvw hXi hLi hM hS hl
            have v11 : v 11 = none := hXi.tmp (by decide) (by decide)
            have hLu : ∀ e, xLs g (va_up v 11 e) 3 4 (ad 3) mco 4 (oL ad (vC ν 4)) := fun e => hLi.tmp v11 (by decide) (by decide)
            have w5 : vC (waveN ν t i) 5 = cntP ν t i := wave_5
            have w4 : vC (waveN ν t i) 4 = vC ν 4 := wave_C (by decide)
            have hcle := cntP_le (ν := ν) (t := t) i
            obtain ⟨d3i, hd3i⟩ := hLi.size
            refine lv_aload_n hx hb dX1_planWave_32 rfl (lh_at hl rfl) ?_
            refine x_callFi (x_runF (As := []) hF hE hS hM hl (jk_hasNext l g A (va_up v 11 (some (xIt it (nI i) last mco (ad 3)))) 3 4 11 it (ad 3) 4 i mco last _ (hLu _) va_up_s (by rw [oL_len]; exact i1)) (xw.recv hE hM (by first | assumption | exact va_up_s | rfl | (refine (va_up_n ?_).trans ?_; rotate_left; (first | assumption | exact va_up_s | rfl | (refine (va_up_n ?_).trans ?_; rotate_left; (first | assumption | exact va_up_s | rfl | (refine (va_up_n ?_).trans ?_; rotate_left; (first | assumption | exact va_up_s | rfl | (refine (va_up_n ?_).trans ?_; rotate_left; (first | assumption | exact va_up_s | rfl | (refine (va_up_n ?_).trans ?_; rotate_left; (assumption); omega)); omega)); omega)); omega)); omega)) rfl) (xw.at hE (ci := 7) rfl) (List.mem_of_getElem? (i := 8) rfl) q1077 q1083 q1081 q69 q1085 ⟨by decide +kernel, by decide +kernel, by show _ = some 0; decide +kernel⟩ rfl rfl ⟨Nat.le_of_ble_eq_true rfl, Nat.le_of_ble_eq_true rfl⟩ rfl (Nat.le_of_ble_eq_true rfl) dX1_planWave_33 (by show (_ : Nat) ≤ 2200 ∧ (_ : Nat) ≤ 93200; omega)) hS (fun r uu H locs hq hM hS => ?_)
            rw [oL_len] at hq
            by_cases hiN : i = vC ν 4
            · rw [if_pos hiN] at hq
              rw [hq]
              subst hiN
              have hM := hM.drop v11
              have h02 := hXi.obj
              rw [had 0 (by omega)] at h02
              obtain ⟨mc2, hL2⟩ := hXi.wav
              rw [w5] at hL2
              obtain ⟨d2, hd2⟩ := hL2.size
              refine lv_if_eq (tgt := 99) hx hb dX1_planWave_38 (by decide) (fun c1 => ?_) (fun c1 => ?_)
              · refine lv_aload_n hx hb dX1_planWave_99 rfl (lh_at hl rfl) ?_
                refine xr_get (C := RX1) (T := TX1) (N := 12) (ci := 0) (n := 0) hx hb hts in_X1 hown hE hM (by first | assumption | exact va_up_s | rfl | (refine (va_up_n ?_).trans ?_; rotate_left; (first | assumption | exact va_up_s | rfl | (refine (va_up_n ?_).trans ?_; rotate_left; (first | assumption | exact va_up_s | rfl | (refine (va_up_n ?_).trans ?_; rotate_left; (first | assumption | exact va_up_s | rfl | (refine (va_up_n ?_).trans ?_; rotate_left; (first | assumption | exact va_up_s | rfl | (refine (va_up_n ?_).trans ?_; rotate_left; (assumption); omega)); omega)); omega)); omega)); omega)) rfl 6 (by decide) (hts _ q147) (fun _ h => h) rfl dX1_planWave_100 ?_
                refine x_callFi (x_runF (As := []) hF hE hS hM hl (jk_isEmpty l g A v 5 6 (ad1 5) 5 mc2 _ hL2) (xw.recv hE hM (by first | assumption | exact va_up_s | rfl | (refine (va_up_n ?_).trans ?_; rotate_left; (first | assumption | exact va_up_s | rfl | (refine (va_up_n ?_).trans ?_; rotate_left; (first | assumption | exact va_up_s | rfl | (refine (va_up_n ?_).trans ?_; rotate_left; (first | assumption | exact va_up_s | rfl | (refine (va_up_n ?_).trans ?_; rotate_left; (first | assumption | exact va_up_s | rfl | (refine (va_up_n ?_).trans ?_; rotate_left; (assumption); omega)); omega)); omega)); omega)); omega)) rfl) (xw.at hE (ci := 6) rfl) (List.mem_of_getElem? (i := 1) rfl) q564 q569 q567 q41 q571 ⟨by decide +kernel, by decide +kernel, by show _ = some 0; decide +kernel⟩ rfl rfl ⟨Nat.le_of_ble_eq_true rfl, Nat.le_of_ble_eq_true rfl⟩ rfl (Nat.le_of_ble_eq_true rfl) dX1_planWave_103 (by show (_ : Nat) ≤ 2200 ∧ (_ : Nat) ≤ 93200; omega)) hS (fun r uu H locs hq2 hM hS => ?_)
                rw [bL_len] at hq2
                by_cases hc0 : cntP ν t (vC ν 4) = 0
                · rw [if_pos hc0] at hq2
                  rw [hq2]
                  rw [if_pos (Or.inr hc0)] at hop
                  rw [hvw hc0] at hM
                  refine lv_if_ne (tgt := 115) hx hb dX1_planWave_108 (by decide) (fun c2 => ?_) (fun c2 => ?_)
                  · refine n_const hx hb 0 dX1_planWave_115 (by decide +kernel) ?_
                    refine xr_ldc hx hb hown hE (i := 14) (k := 225) rfl dX1_planWave_116 ?_
                    refine x_tcallv (x_runSX (As := [.int (nI 0), .ref (g.2 (100 + 225))]) hF hE hS hM hl (xk_must l hlt g A w (nI 0) (g.2 (100 + 225))) q573 q574 q38 q575 ⟨by decide +kernel, by decide +kernel, by show _ = some 2; decide +kernel⟩ rfl rfl ⟨Nat.le_of_ble_eq_true rfl, Nat.le_of_ble_eq_true rfl⟩ rfl (Nat.le_of_ble_eq_true rfl) dX1_planWave_118 (by show (_ : Nat) ≤ 2200 ∧ (_ : Nat) ≤ 93200; omega)) hS hQ hxt hlk (by omega) (by omega) (fun E9 H9 hE9 hP9 => ?_) (fun uu H locs hq hM hS => ?_)
                    · exact ⟨⟨xCode.at (j := 1) (by rw [hop]) rfl hE9.1, rfl⟩, hP9⟩
                    · exact absurd rfl hq
                  · exact absurd c2 (by decide)
                · rw [if_neg hc0] at hq2
                  rw [hq2]
                  refine lv_if_ne (tgt := 115) hx hb dX1_planWave_108 (by decide) (fun c2 => ?_) (fun c2 => ?_)
                  · exact absurd rfl c2
                  · refine n_const hx hb 1 dX1_planWave_111 (by decide +kernel) ?_
                    refine lv_goto (tgt := 116) hx hb dX1_planWave_112 (by decide) ?_
                    refine xr_ldc hx hb hown hE (i := 14) (k := 225) rfl dX1_planWave_116 ?_
                    refine x_tcallv (x_runSX (As := [.int (nI 1), .ref (g.2 (100 + 225))]) hF hE hS hM hl (xk_must l hlt g A v (nI 1) (g.2 (100 + 225))) q573 q574 q38 q575 ⟨by decide +kernel, by decide +kernel, by show _ = some 2; decide +kernel⟩ rfl rfl ⟨Nat.le_of_ble_eq_true rfl, Nat.le_of_ble_eq_true rfl⟩ rfl (Nat.le_of_ble_eq_true rfl) dX1_planWave_118 (by show (_ : Nat) ≤ 2200 ∧ (_ : Nat) ≤ 93200; omega)) hS hQ hxt hlk (by omega) (by omega) (fun E9 H9 hE9 hP9 => ?_) (fun uu H locs hq hM hS => ?_)
                    · exact absurd hE9.2 (by decide)
                    · obtain ⟨σ1, F1, hM⟩ := hXi.sget hM
                      refine n_const hx hb 0 dX1_planWave_121 (by decide +kernel) ?_
                      refine x_istore_n hx hb dX1_planWave_122 rfl hl (by decide) (fun ls hl => ?_)
                      exact REC (cntP ν t (vC ν 4) + 1) 0 (by omega) (by omega) hc0 _ _ ad1 v σ1 F1 H locs _ (by omega) (by omega) (had 0 (by omega)) hXi (fun i j _ _ _ z => by omega) hM hS (lh_sub hl _ ⟨rfl, rfl, trivial⟩)
              · exact absurd rfl c1
            · rw [if_neg hiN] at hq
              rw [hq]
              have hi : i < vC ν 4 := by omega
              obtain ⟨hoi, -⟩ := hXi.os (o := i) (by rw [w4]; exact hi)
              have hVi := hV.2.2.2.2.2.2.2 i hi
              have hoF : oFs (waveN ν t i) ad1 i = oFs ν ad i := by
                unfold oFs
                rw [wave_st, if_neg (fun z => Nat.lt_irrefl i z.1), had _ (by omega)]
                rfl
              rw [hoF, had _ (by omega)] at hoi
              refine lv_if_eq (tgt := 99) hx hb dX1_planWave_38 (by decide) (fun c1 => ?_) (fun c1 => ?_)
              · exact absurd c1 (by decide)
              · refine lv_aload_n hx hb dX1_planWave_41 rfl (lh_at hl rfl) ?_
                refine x_callFr (x_runF (As := []) hF hE hS hM hl (jk_next l g A (va_up v 11 (some (xIt it (nI i) last mco (ad 3)))) 3 4 11 it (ad 3) 4 i (ad (2000 + 2 * i)) mco last _ (hLu _) va_up_s (oL_at hi)) (xw.recv hE hM (by first | assumption | exact va_up_s | rfl | (refine (va_up_n ?_).trans ?_; rotate_left; (first | assumption | exact va_up_s | rfl | (refine (va_up_n ?_).trans ?_; rotate_left; (first | assumption | exact va_up_s | rfl | (refine (va_up_n ?_).trans ?_; rotate_left; (first | assumption | exact va_up_s | rfl | (refine (va_up_n ?_).trans ?_; rotate_left; (first | assumption | exact va_up_s | rfl | (refine (va_up_n ?_).trans ?_; rotate_left; (assumption); omega)); omega)); omega)); omega)); omega)) rfl) (xw.at hE (ci := 7) rfl) (List.mem_of_getElem? (i := 9) rfl) q1087 q1092 q1090 q69 q1094 ⟨by decide +kernel, by decide +kernel, by show _ = some 0; decide +kernel⟩ rfl rfl ⟨Nat.le_of_ble_eq_true rfl, Nat.le_of_ble_eq_true rfl⟩ rfl (Nat.le_of_ble_eq_true rfl) dX1_planWave_42 (by show (_ : Nat) ≤ 2200 ∧ (_ : Nat) ≤ 93200; omega)) hS (fun u1 ra H locs hq2 hM hS => ?_)
                obtain ⟨⟨hra, hu1⟩, hM⟩ := hM
                rw [hu1, va_up_up] at hM
                rw [hra]
                have hou : va_up v 11 (some (xIt it (nI (i + 1)) (nI i) mco (ad 3))) (2000 + 2 * i) = some (ad (2000 + 2 * i), .inr (4, oFs ν ad i)) := (va_up_n (by omega)).trans hoi
                have skip : ¬ takeB ν t i = true → ∀ (H : Heap) (locs : List Loc) (ls : Array Slot), xw g A (va_up v 11 (some (xIt it (nI (i + 1)) (nI i) mco (ad 3)))) H → va_S A s.heap H locs → lh ls 4 (xl [(0, .ref (ad 0)), (1, .int (nI t)), (2, .ref it)]) → W p l e (xrm 10 2200 93200) s m args below meth c H locs cells slots Q (F0 m 96 ls []) := by
                  intro hnt H locs ls hM hS hl
                  have hc1 : cntP ν t (i + 1) = cntP ν t i := by rw [cntP, if_neg hnt]
                  refine lv_goto (tgt := 32) hx hb dX1_planWave_96 (by decide) ?_
                  refine ih (i + 1) (by omega) (by omega) _ _ ad1 v (nI i) H locs _ (by omega) (by omega) had (fun z => hvw (by omega)) ?_ hLi hM hS (lh_sub hl _ ⟨rfl, rfl, rfl, trivial⟩)
                  rw [wave_skip hnt, bW_skip hnt]
                  exact hXi
                refine xr_cast (n := (2000 + 2 * i)) (r := (RX5, TX5, 4)) (ci := 4) hx hb hown hE hM (by first | assumption | exact va_up_s | rfl | (refine (va_up_n ?_).trans ?_; rotate_left; (first | assumption | exact va_up_s | rfl | (refine (va_up_n ?_).trans ?_; rotate_left; (first | assumption | exact va_up_s | rfl | (refine (va_up_n ?_).trans ?_; rotate_left; (first | assumption | exact va_up_s | rfl | (refine (va_up_n ?_).trans ?_; rotate_left; (first | assumption | exact va_up_s | rfl | (refine (va_up_n ?_).trans ?_; rotate_left; (assumption); omega)); omega)); omega)); omega)); omega)) rfl (hts _ q947) dX1_planWave_47 ?_
                refine x_astore_n hx hb dX1_planWave_50 rfl hl (by decide) (fun ls hl => ?_)
                refine lv_aload_n hx hb dX1_planWave_51 rfl (lh_at hl rfl) ?_
                refine xr_getN (C := RX5) (T := TX5) (N := 4) (ci := 4) (n := (2000 + 2 * i)) hx hb hts in_X5 hown hE hM (by first | assumption | exact va_up_s | rfl | (refine (va_up_n ?_).trans ?_; rotate_left; (first | assumption | exact va_up_s | rfl | (refine (va_up_n ?_).trans ?_; rotate_left; (first | assumption | exact va_up_s | rfl | (refine (va_up_n ?_).trans ?_; rotate_left; (first | assumption | exact va_up_s | rfl | (refine (va_up_n ?_).trans ?_; rotate_left; (first | assumption | exact va_up_s | rfl | (refine (va_up_n ?_).trans ?_; rotate_left; (assumption); omega)); omega)); omega)); omega)); omega)) rfl 3 (by decide) q961 (fun _ h => h) rfl dX1_planWave_52 ?_
                refine n_if_ne (tgt := 96) hx hb dX1_planWave_55 (by decide) (by omega) (fun c2 => ?_) (fun c2 => ?_)
                · exact skip (fun z => c2 (takeB_iff.mp z).1) H locs _ hM hS (lh_sub hl _ ⟨rfl, rfl, rfl, trivial⟩)
                · refine lv_aload_n hx hb dX1_planWave_58 rfl (lh_at hl rfl) ?_
                  refine xr_getN (C := RX5) (T := TX5) (N := 4) (ci := 4) (n := (2000 + 2 * i)) hx hb hts in_X5 hown hE hM (by first | assumption | exact va_up_s | rfl | (refine (va_up_n ?_).trans ?_; rotate_left; (first | assumption | exact va_up_s | rfl | (refine (va_up_n ?_).trans ?_; rotate_left; (first | assumption | exact va_up_s | rfl | (refine (va_up_n ?_).trans ?_; rotate_left; (first | assumption | exact va_up_s | rfl | (refine (va_up_n ?_).trans ?_; rotate_left; (first | assumption | exact va_up_s | rfl | (refine (va_up_n ?_).trans ?_; rotate_left; (assumption); omega)); omega)); omega)); omega)); omega)) rfl 2 (by decide) q959 (fun _ h => h) rfl dX1_planWave_59 ?_
                  have hwl := hO.want hi
                  refine n_if_eq (tgt := 96) hx hb dX1_planWave_62 (by decide) (by omega) (fun c3 => ?_) (fun c3 => ?_)
                  · refine skip (fun z => ?_) H locs _ hM hS (lh_sub hl _ ⟨rfl, rfl, rfl, trivial⟩)
                    exact want_0 (by have := (takeB_iff.mp z).2.1; omega) c3
                  · refine lv_aload_n hx hb dX1_planWave_65 rfl (lh_at hl rfl) ?_
                    refine xr_getN (C := RX5) (T := TX5) (N := 4) (ci := 4) (n := (2000 + 2 * i)) hx hb hts in_X5 hown hE hM (by first | assumption | exact va_up_s | rfl | (refine (va_up_n ?_).trans ?_; rotate_left; (first | assumption | exact va_up_s | rfl | (refine (va_up_n ?_).trans ?_; rotate_left; (first | assumption | exact va_up_s | rfl | (refine (va_up_n ?_).trans ?_; rotate_left; (first | assumption | exact va_up_s | rfl | (refine (va_up_n ?_).trans ?_; rotate_left; (first | assumption | exact va_up_s | rfl | (refine (va_up_n ?_).trans ?_; rotate_left; (assumption); omega)); omega)); omega)); omega)); omega)) rfl 0 (by decide) q954 (fun _ h => h) rfl dX1_planWave_66 ?_
                    refine lv_iload_n hx hb dX1_planWave_69 rfl (lh_at hl rfl) ?_
                    refine n_icmp_gt (tgt := 96) hx hb dX1_planWave_70 (by decide) (by omega) (by omega) (fun c4 => ?_) (fun c4 => ?_)
                    · exact skip (fun z => by have := (takeB_iff.mp z).2.2; omega) H locs _ hM hS (lh_sub hl _ ⟨rfl, rfl, rfl, trivial⟩)
                    · have hmn0 : vMn ν i ≠ 0 := by
                        intro z
                        apply c3
                        unfold wantN
                        rw [z]
                        rfl
                      have htk : takeB ν t i = true := takeB_iff.mpr ⟨by omega, by omega, by omega⟩
                      have hc1 : cntP ν t (i + 1) = cntP ν t i + 1 := by rw [cntP, if_pos htk]
                      obtain ⟨mc2, hL2⟩ := hXi.wav
                      rw [w5] at hL2
                      have h02 := hXi.obj
                      rw [had 0 (by omega)] at h02
                      have hbno : ∀ m, m = 3000 + 3 * i ∨ m = 3001 + 3 * i ∨ m = 3002 + 3 * i → v m = none := by
                        intro m hm
                        refine hXi.bno (by omega) (fun b hb9 => ?_)
                        obtain ⟨-, n2, n3⟩ := bW_ok (t := t) hbt0 (show i ≤ vC ν 4 by omega) b hb9
                        obtain ⟨y, l1, hy⟩ := List.exists_cons_of_ne_nil n2
                        have hyi : y < i := (bW_mem.mp (show y ∈ bW ν t i b by rw [hy]; exact List.mem_cons_self)).1
                        unfold bN
                        rw [hy]
                        simp only [List.headD_cons]
                        omega
                      refine lv_aload_n hx hb dX1_planWave_73 rfl (lh_at hl rfl) ?_
                      refine n_const hx hb 1 dX1_planWave_74 (by decide +kernel) ?_
                      refine xr_putN (C := RX5) (T := TX5) (N := 4) (ci := 4) (n := (2000 + 2 * i)) hx hb hts in_X5 tyX5 tyX5_ok nmX5 hown hE hM hS (by first | assumption | exact va_up_s | rfl | (refine (va_up_n ?_).trans ?_; rotate_left; (first | assumption | exact va_up_s | rfl | (refine (va_up_n ?_).trans ?_; rotate_left; (first | assumption | exact va_up_s | rfl | (refine (va_up_n ?_).trans ?_; rotate_left; (first | assumption | exact va_up_s | rfl | (refine (va_up_n ?_).trans ?_; rotate_left; (first | assumption | exact va_up_s | rfl | (refine (va_up_n ?_).trans ?_; rotate_left; (assumption); omega)); omega)); omega)); omega)); omega)) rfl 3 (by decide) q961 (fun _ h => h) rfl (tyX5_ok 3 (by decide)) rfl rfl (Nat.le_of_ble_eq_true rfl) dX1_planWave_75 (fun H locs hM hS => ?_)
                      generalize hv2 : va_up (va_up v 11 (some (xIt it (nI (i + 1)) (nI i) mco (ad 3)))) (2000 + 2 * i) (some (ad (2000 + 2 * i), .inr (4, (oFs ν ad i).set 3 (.int (nI 1))))) = v2 at hM
                      have v2k : ∀ m, m ≠ 11 → m ≠ 2000 + 2 * i → v2 m = v m := fun m m1 m2 => by rw [← hv2, va_up_n m2, va_up_n m1]
                      have v2o : v2 (2000 + 2 * i) = some (ad (2000 + 2 * i), .inr (4, (oFs ν ad i).set 3 (.int (nI 1)))) := by rw [← hv2, va_up_s]
                      have v2i : v2 11 = some (xIt it (nI (i + 1)) (nI i) mco (ad 3)) := by rw [← hv2, va_up_n (by omega), va_up_s]
                      have v20 := (v2k 0 (by omega) (by omega)).trans h02
                      refine lv_aload_n hx hb dX1_planWave_78 rfl (lh_at hl rfl) ?_
                      refine xr_get (C := RX1) (T := TX1) (N := 12) (ci := 0) (n := 0) hx hb hts in_X1 hown hE hM (by first | assumption | exact va_up_s | rfl | (refine (va_up_n ?_).trans ?_; rotate_left; (first | assumption | exact va_up_s | rfl | (refine (va_up_n ?_).trans ?_; rotate_left; (first | assumption | exact va_up_s | rfl | (refine (va_up_n ?_).trans ?_; rotate_left; (first | assumption | exact va_up_s | rfl | (refine (va_up_n ?_).trans ?_; rotate_left; (first | assumption | exact va_up_s | rfl | (refine (va_up_n ?_).trans ?_; rotate_left; (assumption); omega)); omega)); omega)); omega)); omega)) rfl 6 (by decide) (hts _ q147) (fun _ h => h) rfl dX1_planWave_79 ?_
                      refine xr_new hx hb hts in_X6 tyX6 tyX6_ok hown (hts _ q1107) (hts _ q1108) (hts _ q70) hE hM hS (3000 + 3 * i) (ci := 5) (fs := [.null, .int 0, .int 0]) rfl (by decide) (by show (_ : Nat) ≤ 2200; omega) (by show (_ : Nat) ≤ 93200; omega) dX1_planWave_82 (fun y9 H hy9 hM hS => ?_)
                      refine lv_dup hx hb dX1_planWave_85 rfl ?_
                      refine lv_aload_n hx hb dX1_planWave_86 rfl (lh_at hl rfl) ?_
                      have v3o : va_up v2 (3000 + 3 * i) (some (y9, .inr (5, [.null, .int 0, .int 0]))) (2000 + 2 * i) = some (ad (2000 + 2 * i), .inr (4, [.int (nI (vDue ν i)), .ref (ad (2001 + 2 * i)), .int (nI (wantN ν i)), .int (nI 1)])) := (va_up_n (by omega)).trans v2o
                      refine x_callv (x_runI (As := [.ref (ad (2000 + 2 * i))]) hF hE hS hM hl (xk_batInit l g A _ (3000 + 3 * i) (3001 + 3 * i) (3002 + 3 * i) 12 (2000 + 2 * i) y9 (ad (2000 + 2 * i)) (wantN ν i) (nI (vDue ν i)) (nI 1) (.ref (ad (2001 + 2 * i))) va_up_s v3o hwl (by omega) (by omega) ((va_up_n (by omega)).trans ((v2k 12 (by omega) (by omega)).trans (hXi.tmp (by decide) (by decide)))) (by omega) (by omega) (by omega) (by omega) (by omega) (by omega) (fun b fs e => by rw [va_up_n (by omega), v2k _ (by omega) (by omega), hbno _ (Or.inr (Or.inr rfl))] at e; cases e)) q1109 q1110 q70 q1111 rfl ⟨by decide +kernel, by decide +kernel, by show _ = some 1; decide +kernel⟩ rfl rfl ⟨Nat.le_of_ble_eq_true rfl, Nat.le_of_ble_eq_true rfl⟩ rfl (Nat.le_of_ble_eq_true rfl) dX1_planWave_87 (by show (_ : Nat) ≤ 2200 ∧ (_ : Nat) ≤ 93200; omega)) hS (fun v4 H locs hq5 hM hS => ?_)
                      obtain ⟨⟨la, hll, hob⟩, v4k0⟩ := hq5
                      have v4k : ∀ m, m ≠ 3000 + 3 * i → m ≠ 3001 + 3 * i → m ≠ 3002 + 3 * i → v4 m = v2 m := fun m m1 m2 m3 => (v4k0 m m2 m3 m1).trans (va_up_n m1)
                      have v4d : ∀ m, m ≠ 11 → m ≠ 2000 + 2 * i → m ≠ 3000 + 3 * i → m ≠ 3001 + 3 * i → m ≠ 3002 + 3 * i → v4 m = v m := fun m m1 m2 m3 m4 m5 => (v4k m m3 m4 m5).trans (v2k m m1 m2)
                      have hL4 : xLs g v4 5 6 (ad1 5) mc2 5 (bL ad1 (bW ν t i) (cntP ν t i)) := hL2.bLk (v4d 5 (by omega) (by omega) (by omega) (by omega) (by omega)) (v4d 6 (by omega) (by omega) (by omega) (by omega) (by omega)) (fun b2 hb2 => by
                        have hbs := (hXi.bs (b := b2) (by rw [w5]; exact hb2)).1
                        have hne : bN (bW ν t i) b2 ≠ 3000 + 3 * i ∧ bN (bW ν t i) b2 ≠ 3001 + 3 * i ∧ bN (bW ν t i) b2 ≠ 3002 + 3 * i := by
                          refine ⟨fun z => ?_, fun z => ?_, fun z => ?_⟩
                          all_goals rw [z, hbno _ (by omega)] at hbs
                          all_goals cases hbs
                        have g3 := bN_ge (β := bW ν t i) (b := b2)
                        exact ⟨_, (v4d _ (by omega) (by omega) hne.1 hne.2.1 hne.2.2).trans hbs⟩)
                      obtain ⟨d4, hd4⟩ := hL4.size
                      refine x_callFi (x_runF (As := [.ref y9]) hF hE hS hM hl (jk_add2 l g A v4 5 6 12 (ad1 5) 5 y9 mc2 _ hL4 (by rw [bL_len]; omega) ⟨_, _, hob⟩ (by decide) (by decide) ((v4d 12 (by omega) (by omega) (by omega) (by omega) (by omega)).trans (hXi.tmp (by decide) (by decide))) xOb5 (by decide) (fun b fs e => hXi.dat (Or.inr rfl) b 5 fs (by rw [← v4d 6 (by omega) (by omega) (by omega) (by omega) (by omega)]; exact e))) (xw.recv hE hM (by first | assumption | exact va_up_s | rfl | (refine (va_up_n ?_).trans ?_; rotate_left; (first | assumption | exact va_up_s | rfl | (refine (va_up_n ?_).trans ?_; rotate_left; (first | assumption | exact va_up_s | rfl | (refine (va_up_n ?_).trans ?_; rotate_left; (first | assumption | exact va_up_s | rfl | (refine (va_up_n ?_).trans ?_; rotate_left; (first | assumption | exact va_up_s | rfl | (refine (va_up_n ?_).trans ?_; rotate_left; (assumption); omega)); omega)); omega)); omega)); omega)) rfl) (xw.at hE (ci := 6) rfl) (List.mem_of_getElem? (i := 4) rfl) q972 q977 q975 q41 q979 ⟨by decide +kernel, by decide +kernel, by show _ = some 1; decide +kernel⟩ rfl rfl ⟨Nat.le_of_ble_eq_true rfl, Nat.le_of_ble_eq_true rfl⟩ rfl (Nat.le_of_ble_eq_true rfl) dX1_planWave_90 (by show (_ : Nat) ≤ 2200 ∧ (_ : Nat) ≤ 93200; omega)) hS (fun r v5 H locs hq6 hM hS => ?_)
                      obtain ⟨-, hL5, v5k⟩ := hq6
                      refine lv_pop hx hb dX1_planWave_95 rfl ?_
                      refine lv_goto (tgt := 32) hx hb dX1_planWave_96 (by decide) ?_
                      have hd6 : ∀ b c fs, v5 6 = some (b, .inr (c, fs)) → False := by
                        intro b c fs e
                        obtain ⟨d8, z1, z2, z3, z4⟩ := hL5
                        rcases z4 with ⟨z5, -⟩ | ⟨cap, f, z5, -⟩
                        · simp at z5
                        · rw [z5] at e
                          cases e
                      have v5i : v5 11 = some (xIt it (nI (i + 1)) (nI i) mco (ad 3)) := (v5k 11 (by decide) (by decide)).trans ((v4k 11 (by omega) (by omega) (by omega)).trans v2i)
                      -- the iterator apart
                      generalize hv6 : va_up v5 11 none = v6
                      have hM6 : xw g A (va_up v6 11 (some (xIt it (nI (i + 1)) (nI i) mco (ad 3)))) H := hM.eq (fun m => by
                        rw [← hv6, va_up_up]
                        by_cases e : m = 11
                        · rw [e, va_up_s, v5i]
                        · rw [va_up_n e])
                      have v6k : ∀ m, m ≠ 11 → v6 m = v5 m := fun m m1 => by rw [← hv6, va_up_n m1]
                      have v6i : v6 11 = none := by rw [← hv6, va_up_s]
                      have k11 : ∀ ci y fs, (ci = 4 ∨ ci = 5) → v5 11 = some (y, .inr (ci, fs)) → False := fun ci y fs hci e => by
                        rw [v5i] at e
                        have h2 := (Prod.mk.inj (Option.some.inj e)).2
                        have h3 := (Prod.mk.inj (Sum.inr.inj h2)).1
                        omega
                      have hL6 : xLs g v6 5 6 (ad1 5) (mc2 + 1) 5 (bL ad1 (bW ν t i) (cntP ν t i) ++ [y9]) := hL5.keep2 (v6k 5 (by decide)) (v6k 6 (by decide)) (fun y hy k fs e => ⟨k, fs, (v6k k (fun z => k11 5 y fs (Or.inr rfl) (by rw [← z]; exact e))).trans e⟩)
                      have hll6 : xLs g v6 (3001 + 3 * i) (3002 + 3 * i) la 1 4 [ad (2000 + 2 * i)] := by
                        refine hll.keep2 ((v6k _ (by omega)).trans (v5k _ (by omega) (by omega))) ((v6k _ (by omega)).trans (v5k _ (by omega) (by omega))) (fun y hy k fs e => ?_)
                        rw [List.mem_singleton.mp hy]
                        exact ⟨2000 + 2 * i, _, (v6k _ (by omega)).trans ((v5k _ (by omega) (by omega)).trans ((v4k _ (by omega) (by omega) (by omega)).trans v2o))⟩
                      have v6d : ∀ m, m ≠ 5 → m ≠ 6 → m ≠ 2000 + 2 * i → m ≠ 3000 + 3 * i → m ≠ 3001 + 3 * i → m ≠ 3002 + 3 * i → v6 m = v m := by
                        intro m m1 m2 m3 m4 m5 m6
                        by_cases e : m = 11
                        · rw [e, v6i, v11]
                        · rw [v6k m e, v5k m m1 m2]
                          exact v4d m e m3 m4 m5 m6
                      have hXn := XR.addBat (ad := ad1) (b := y9) (la := la) (mc := mc2 + 1) (u := v6) hO hbt0 hi htk hXi hL6 (by rw [had _ (by omega)]; exact hll6) ((v6k _ (by omega)).trans ((v5k _ (by omega) (by omega)).trans (by rw [← hO.lines hi]; exact hob))) (by
                        rw [had _ (by omega), v6k _ (by omega), v5k _ (by omega) (by omega), v4k _ (by omega) (by omega) (by omega), v2o]
                        unfold oFs
                        rw [had _ (by omega)]) v6d (fun b c fs e => hd6 b c fs (by rw [← v6k 6 (by decide)]; exact e))
                      refine ih (i + 1) (by omega) (by omega) _ _ _ v6 (nI i) H locs _ (by omega) (by omega) (fun m hm => by rw [va_up_n (by omega), va_up_n (by omega)]; exact had m hm) (fun z => by omega) hXn ?_ hM6 hS (lh_sub hl _ ⟨rfl, rfl, rfl, trivial⟩)
                      refine hLi.oLk (v6d 3 (by omega) (by omega) (by omega) (by omega) (by omega) (by omega)) (v6d 4 (by omega) (by omega) (by omega) (by omega) (by omega) (by omega)) (fun o ho => ?_)
                      by_cases e : o = i
                      · rw [e]
                        exact ⟨_, (v6k _ (by omega)).trans ((v5k _ (by omega) (by omega)).trans ((v4k _ (by omega) (by omega) (by omega)).trans v2o))⟩
                      · rw [v6d _ (by omega) (by omega) (by omega) (by omega) (by omega) (by omega)]
                        have := (hXi.os (o := o) (by rw [w4]; exact ho)).1
                        rw [had _ (by omega)] at this
                        exact ⟨_, this⟩
        refine ORD (vC ν 4 + 1) 0 (by omega) (by omega) _ _ ad w (-1) H locs _ (Nat.le_of_ble_eq_true rfl) (Nat.le_of_ble_eq_true rfl) (fun _ _ => rfl) (fun _ => rfl) ?_ hLo hM hS (lh_sub hl _ ⟨rfl, rfl, rfl, trivial⟩)
        rw [waveN_0 hz]
        exact hX.b0 hz
    · rw [if_neg hz] at hq2
      rw [hq2]
      rw [if_pos (Or.inl (by omega))] at hop
      refine x_tcallv (x_runSX (As := [.int 0, .ref (g.2 (100 + 149))]) hF hE hS hM hl (xk_must l hlt g A w 0 (g.2 (100 + 149))) q573 q574 q38 q575 ⟨by decide +kernel, by decide +kernel, by show _ = some 2; decide +kernel⟩ rfl rfl ⟨Nat.le_of_ble_eq_true rfl, Nat.le_of_ble_eq_true rfl⟩ rfl (Nat.le_of_ble_eq_true rfl) dX1_planWave_19 ⟨Nat.le_of_ble_eq_true rfl, Nat.le_of_ble_eq_true rfl⟩) hS hQ hxt hlk (Nat.le_of_ble_eq_true rfl) (Nat.le_of_ble_eq_true rfl) (fun E9 H9 hE9 hP9 => ?_) (fun uu H locs hq hM hS => ?_)
      · exact ⟨⟨xCode.at (j := 1) (by rw [hop]) rfl hE9.1, rfl⟩, hP9⟩
      · exact absurd rfl hq
