/-! THE REFERENCE: waves and picks -/
set_option maxRecDepth 100000
theorem cntP_mono {ν : nS} {t : Nat} {o : Nat} : ∀ n, cntP ν t o ≤ cntP ν t (o + n)
  | 0 => Nat.le_refl _
  | n + 1 => by
    have ih := cntP_mono (ν := ν) (t := t) (o := o) n
    show _ ≤ cntP ν t (o + n + 1)
    rw [cntP]
    split <;> omega
theorem cntP_lt {ν : nS} {t o n : Nat} (ho : o < n) (ht : takeB ν t o = true) : cntP ν t o + 1 ≤ cntP ν t n := by
  have h1 : cntP ν t (o + 1) = cntP ν t o + 1 := by rw [cntP, if_pos ht]
  have h2 := cntP_mono (ν := ν) (t := t) (o := o + 1) (n - (o + 1))
  rw [show o + 1 + (n - (o + 1)) = n by omega] at h2
  omega
theorem cntP_le {ν : nS} {t : Nat} : ∀ n, cntP ν t n ≤ n
  | 0 => Nat.le_refl _
  | n + 1 => by
    have ih := cntP_le (ν := ν) (t := t) n
    rw [cntP]
    split <;> omega
theorem waveN_0 {ν : nS} {t : Nat} (hB : vC ν 5 = 0) : waveN ν t 0 = ν := by
  unfold waveN
  have h1 : va_up ν.1 5 (cntP ν t 0) = ν.1 := by
    funext k
    by_cases e : k = 5
    · rw [e, va_up_s]
      exact hB.symm
    · rw [va_up_n e]
  have h2 : (fun o => if o < 0 ∧ takeB ν t o = true then 1 else vSt ν o) = vSt ν := by
    funext o
    rw [if_neg (by omega)]
  have h3 : (fun o => if o < 0 ∧ takeB ν t o = true then cntP ν t o + 1 else vBt ν o) = vBt ν := by
    funext o
    rw [if_neg (by omega)]
  rw [h1, h2, h3]
theorem waveN_skip {ν : nS} {t i : Nat} (h : ¬ takeB ν t i = true) : waveN ν t (i + 1) = waveN ν t i := by
  unfold waveN
  have h1 : cntP ν t (i + 1) = cntP ν t i := by rw [cntP, if_neg h]
  have h2 : ∀ o, (o < i + 1 ∧ takeB ν t o = true) ↔ (o < i ∧ takeB ν t o = true) := by
    intro o
    constructor
    · rintro ⟨a, b⟩
      refine ⟨?_, b⟩
      have : o ≠ i := fun e => h (e ▸ b)
      omega
    · rintro ⟨a, b⟩
      exact ⟨by omega, b⟩
  rw [h1]
  simp only [h2]
theorem mR_wave {ν : nS} {μ : mS} {t i : Nat} (hR : mR (waveN ν t i) μ) (hi : i < vC ν 4) (hB : vC ν 5 = 0) (hb0 : ∀ o, o < vC ν 4 → vBt ν o = 0) (ht : takeB ν t i = true) :
    mR (waveN ν t (i + 1)) (m_setI (m_setA (m_setA μ 8 (upd (μ.2.1 8) i (nI 1))) 9 (upd (μ.2.1 9) i (nI (cntP ν t i)))) 13 (nI (cntP ν t i + 1))) := by
  obtain ⟨⟨a1, a2, a3, a4, a5, a6, a7, a8⟩, ⟨c1, c2, c3, c4, c5, c6, c7⟩, r3, r4, r5⟩ := hR
  have hc1 : cntP ν t (i + 1) = cntP ν t i + 1 := by rw [cntP, if_pos ht]
  have h40 : vC ν 4 ≤ 40 := a5
  have hci := cntP_le (ν := ν) (t := t) (i + 1)
  refine ⟨⟨a1, a2, a3, a4, a5, by show cntP ν t (i + 1) ≤ 40; omega, a7, fun o ho => ?_⟩, ⟨c1, c2, c3, c4, c5, by show nI (cntP ν t i + 1) = nI (cntP ν t (i + 1)); rw [hc1], c7⟩, r3, fun o ho => ?_, r5⟩
  · obtain ⟨b1, b2, b3, b4⟩ := a8 o ho
    have ho : o < vC ν 4 := ho
    refine ⟨b1, ?_, ?_, b4⟩
    · show (if o < i + 1 ∧ takeB ν t o = true then 1 else vSt ν o) ≤ 2
      have b2 : (if o < i ∧ takeB ν t o = true then 1 else vSt ν o) ≤ 2 := b2
      split
      · omega
      · next q =>
        rw [if_neg (fun z => q ⟨by omega, z.2⟩)] at b2
        exact b2
    · show (if o < i + 1 ∧ takeB ν t o = true then cntP ν t o + 1 else vBt ν o) ≤ cntP ν t (i + 1)
      split
      · next q => exact cntP_lt q.1 q.2
      · rw [hb0 o ho]
        omega
  · obtain ⟨b1, b2, b3, b4⟩ := r4 o ho
    refine ⟨b1, ?_, ?_, b4⟩
    · show upd (μ.2.1 8) i (nI 1) o = nI (if o < i + 1 ∧ takeB ν t o = true then 1 else vSt ν o)
      by_cases e : o = i
      · rw [e, pk_us, if_pos ⟨by omega, ht⟩]
      · rw [pk_un e, b2]
        show nI (if o < i ∧ takeB ν t o = true then 1 else vSt ν o) = _
        have : (o < i ∧ takeB ν t o = true) ↔ (o < i + 1 ∧ takeB ν t o = true) := by
          constructor
          · exact fun z => ⟨by omega, z.2⟩
          · exact fun z => ⟨by omega, z.2⟩
        simp only [this]
    · show upd (μ.2.1 9) i (nI (cntP ν t i)) o = eB (if o < i + 1 ∧ takeB ν t o = true then cntP ν t o + 1 else vBt ν o)
      by_cases e : o = i
      · rw [e, pk_us, if_pos ⟨by omega, ht⟩, eB_s]
      · rw [pk_un e, b3]
        show eB (if o < i ∧ takeB ν t o = true then cntP ν t o + 1 else vBt ν o) = _
        have : (o < i ∧ takeB ν t o = true) ↔ (o < i + 1 ∧ takeB ν t o = true) := by
          constructor
          · exact fun z => ⟨by omega, z.2⟩
          · exact fun z => ⟨by omega, z.2⟩
        simp only [this]
theorem wave_lines {ν : nS} {t b : Nat} (hV : vOk ν) (hb0 : ∀ o, o < vC ν 4 → vBt ν o = 0) : ∀ n, n ≤ vC ν 4 → (cntP ν t n ≤ b → linesN (waveN ν t (vC ν 4)) b n = 0) ∧ linesN (waveN ν t (vC ν 4)) b n ≤ 5
  | 0, _ => ⟨fun _ => rfl, Nat.zero_le _⟩
  | n + 1, hn => by
    obtain ⟨h1, h2⟩ := wave_lines hV hb0 (t := t) (b := b) n (by omega)
    have hm := (hV.2.2.2.2.2.2.2 n (by omega)).2.2.2.1
    have hbt : vBt (waveN ν t (vC ν 4)) n = if takeB ν t n = true then cntP ν t n + 1 else 0 := by
      show (if n < vC ν 4 ∧ takeB ν t n = true then cntP ν t n + 1 else vBt ν n) = _
      by_cases q : takeB ν t n = true
      · rw [if_pos ⟨by omega, q⟩, if_pos q]
      · rw [if_neg (fun z => q z.2), if_neg q]
        exact hb0 n (by omega)
    have hmn : vMn (waveN ν t (vC ν 4)) n = vMn ν n := rfl
    rw [linesN, hbt, hmn, cntP]
    by_cases q : takeB ν t n = true
    · simp only [if_pos q]
      by_cases e : cntP ν t n + 1 = b + 1
      · rw [if_pos e, h1 (by omega)]
        exact ⟨fun z => by omega, by omega⟩
      · rw [if_neg e]
        exact ⟨fun z => h1 (by omega), h2⟩
    · simp only [if_neg q]
      rw [if_neg (by omega)]
      exact ⟨h1, h2⟩
theorem joinsN_0 {ν : nS} (h : vC ν 5 = 0) : joinsN ν = none := by
  unfold joinsN
  rw [h]
  rfl
set_option maxHeartbeats 8000000 in
theorem mk_planWave (l : Launch) (g : xg) (A : Nat → Prop) (m0 : Nat) (ad : Nat → Nat) (μ : mS) (ν : nS) (hR : mR ν μ) (v : Int32) :
    Met l yX3_planWave (ws_ yX3_planWave cX3_planWave 4 (some .int)) (xrm 9 0 0) (mPc g A m0 ad μ [.int v]) (mQi g A m0 ad (mOp (opPlan ν v))) 0 0 A := by
  refine x_start rfl (Nat.le_of_ble_eq_true rfl) ?_
  intro p e s m below meth c hx hb hr hlk hml hown hts hnm hE hM hS ls hl
  have hF : xFix p m c cX3_planWave 4 s _ RX3 := ⟨hx, hb, hml, hown, hts⟩
  generalize hargs : List.toArray _ = args at hts hF ⊢
  generalize hQ : MQ below _ _ s _ _ A = Q
  refine lv_aload_n hx hb dX3_planWave_0 rfl (lh_at hl rfl) ?_
  refine n_const hx hb 0 dX3_planWave_1 (by decide +kernel) ?_
  refine m_putI hF hE hM hS 0 (by decide) q1314 rfl (by decide +kernel) rfl dX3_planWave_2 (fun H locs hM hS => ?_)
  refine lv_iload_n hx hb dX3_planWave_5 rfl (lh_at hl rfl) ?_
  have hR := mR_thrown (v := nI 0) hR
  have hN := hR.N
  have hB := hR.B
  generalize hμ : m_setI μ 0 (nI 0) = μ1 at hM hR hN hB
  have h0 : μ1.1 0 = nI 0 := by rw [← hμ]; rfl
  refine lv_iconst (v := 0) hx hb dX3_planWave_6 (by decide +kernel) ?_
  refine lv_sipush (v := 999) hx hb dX3_planWave_7 (by decide +kernel) ?_
  refine z_calli (P := mW g A m0 ad μ1) (As := [.int v, .int 0, .int 999]) hF hE hM hS hl (zk_in l g A _ v 0 999) q1392 q1393 q44 q1394 ⟨by decide +kernel, by decide +kernel, by show _ = some 3; decide +kernel⟩ rfl rfl ⟨Nat.le_of_ble_eq_true rfl, Nat.le_of_ble_eq_true rfl⟩ rfl (Nat.le_of_ble_eq_true rfl) dX3_planWave_10 ⟨Nat.le_of_ble_eq_true rfl, Nat.le_of_ble_eq_true rfl⟩ (fun r H locs hq hM hS => ?_)
  have hq := hq.trans (in_xr (n := 1000) (by decide))
  cases hxr : xr v 1000 with
  | none =>
    obtain rfl := isS0 hq hxr
    refine lv_if_ne (tgt := 22) hx hb dX3_planWave_13 (by decide) (fun d => ?_) (fun d => ?_)
    · exact absurd rfl d
    · refine lv_aload_n hx hb dX3_planWave_16 rfl (lh_at hl rfl) ?_
      refine n_const hx hb 1 dX3_planWave_17 (by decide +kernel) ?_
      refine m_calli (As := [.int (nI 1)]) hF hE hM hS hl (mk_fails l g A m0 ad _ (nI 1)) q1395 q1397 qs19 q1398 ⟨rfl, by decide +kernel, by decide +kernel, by show _ = some 1; decide +kernel⟩ rfl rfl ⟨Nat.le_of_ble_eq_true rfl, Nat.le_of_ble_eq_true rfl⟩ rfl (Nat.le_of_ble_eq_true rfl) dX3_planWave_18 ⟨Nat.le_of_ble_eq_true rfl, Nat.le_of_ble_eq_true rfl⟩ (fun r uf H locs hqf hM hS => ?_)
      obtain ⟨rfl, huf⟩ := hqf
      rw [huf] at hM
      exact hQ ▸ x_iret hx hb hr hlk hS _ ⟨by simp [opPlan, hxr]; rfl, by simp [opPlan, hxr], by simp only [opPlan, hxr]; exact hR⟩ hM dX3_planWave_21
  | some t =>
    obtain rfl := isS1 hq hxr
    obtain ⟨ht9, rfl⟩ := xr_some (by decide) hxr
    -- the joining
    have joining : ∀ (n : Nat) (ν1 : nS) (u : mS) (H : Heap) (locs : List Loc) (ls : Array Slot), vC ν1 5 ≤ n → joinAll ν1 n = planS ν t → ¬ (0 < vC ν 5 ∨ cntP ν t (vC ν 4) = 0) → mR ν1 u → wvOk ν1 → u.1 0 = nI 0 → mW g A m0 ad u H → va_S A s.heap H locs → lh ls 4 (xl [(0, .ref m0), (3, .int (nI 1))]) → W p l e (xrm 9 0 0) s m args below meth c H locs 0 0 Q (F0 m 166 ls []) := by
      intro n
      induction n with
      | zero =>
        intro ν1 u H locs ls hn hj hc hR1 hW1 h01 hM hS hl
        refine lv_iload_n hx hb dX3_planWave_166 rfl (lh_at hl rfl) ?_
        refine n_if_eq (tgt := 178) hx hb dX3_planWave_167 (by decide) (by omega) (fun c1 => ?_) (fun c1 => ?_)
        · omega
        · refine lv_aload_n hx hb dX3_planWave_170 rfl (lh_at hl rfl) ?_
          refine m_calli (As := []) hF hE hM hS hl (mk_joins l g A m0 ad u ν1 hR1 hW1) q1484 q1486 qs30 q1487 ⟨rfl, by decide +kernel, by decide +kernel, by show _ = some 0; decide +kernel⟩ rfl rfl ⟨Nat.le_of_ble_eq_true rfl, Nat.le_of_ble_eq_true rfl⟩ rfl (Nat.le_of_ble_eq_true rfl) dX3_planWave_171 ⟨Nat.le_of_ble_eq_true rfl, Nat.le_of_ble_eq_true rfl⟩ (fun r u2 H locs hq hM hS => ?_)
          rw [joinsN_0 (by omega)] at hq
          obtain ⟨h02, hr2, hR2⟩ := hq
          have hr2 : r = nI 0 := hr2
          have hR2 : mR ν1 u2 := hR2
          subst hr2
          refine x_istore_n hx hb dX3_planWave_174 rfl hl (by decide) (fun ls hl => ?_)
          refine lv_goto (tgt := 166) hx hb dX3_planWave_175 (by decide) ?_
          refine lv_iload_n hx hb dX3_planWave_166 rfl (lh_at hl rfl) ?_
          refine n_if_eq (tgt := 178) hx hb dX3_planWave_167 (by decide) (by omega) (fun c2 => ?_) (fun c2 => ?_)
          · refine lv_aload_n hx hb dX3_planWave_178 rfl (lh_at hl rfl) ?_
            refine m_getI hF hE hM 13 (by decide) q1327 rfl (by exact hR2.B.1) dX3_planWave_179 ?_
            have e : planS ν t = ν1 := hj.symm
            exact hQ ▸ x_iret hx hb hr hlk hS _ ⟨by simp only [opPlan, hxr, if_neg hc]; exact h02.trans h01, by simp only [opPlan, hxr, if_neg hc, e], by simp only [opPlan, hxr, if_neg hc, e]; exact hR2⟩ hM dX3_planWave_182
          · omega
      | succ n ih =>
        intro ν1 u H locs ls hn hj hc hR1 hW1 h01 hM hS hl
        refine lv_iload_n hx hb dX3_planWave_166 rfl (lh_at hl rfl) ?_
        refine n_if_eq (tgt := 178) hx hb dX3_planWave_167 (by decide) (by omega) (fun c1 => ?_) (fun c1 => ?_)
        · omega
        · refine lv_aload_n hx hb dX3_planWave_170 rfl (lh_at hl rfl) ?_
          refine m_calli (As := []) hF hE hM hS hl (mk_joins l g A m0 ad u ν1 hR1 hW1) q1484 q1486 qs30 q1487 ⟨rfl, by decide +kernel, by decide +kernel, by show _ = some 0; decide +kernel⟩ rfl rfl ⟨Nat.le_of_ble_eq_true rfl, Nat.le_of_ble_eq_true rfl⟩ rfl (Nat.le_of_ble_eq_true rfl) dX3_planWave_171 ⟨Nat.le_of_ble_eq_true rfl, Nat.le_of_ble_eq_true rfl⟩ (fun r u2 H locs hq hM hS => ?_)
          obtain ⟨h02, hq⟩ := hq
          cases hjn : joinsN ν1 with
          | none =>
            rw [hjn] at hq
            obtain ⟨hr2, hR2⟩ := hq
            have hr2 : r = nI 0 := hr2
            have hR2 : mR ν1 u2 := hR2
            subst hr2
            refine x_istore_n hx hb dX3_planWave_174 rfl hl (by decide) (fun ls hl => ?_)
            refine lv_goto (tgt := 166) hx hb dX3_planWave_175 (by decide) ?_
            refine lv_iload_n hx hb dX3_planWave_166 rfl (lh_at hl rfl) ?_
            refine n_if_eq (tgt := 178) hx hb dX3_planWave_167 (by decide) (by omega) (fun c2 => ?_) (fun c2 => ?_)
            · refine lv_aload_n hx hb dX3_planWave_178 rfl (lh_at hl rfl) ?_
              refine m_getI hF hE hM 13 (by decide) q1327 rfl (by exact hR2.B.1) dX3_planWave_179 ?_
              have e : planS ν t = ν1 := by
                rw [← hj, joinAll, hjn]
              exact hQ ▸ x_iret hx hb hr hlk hS _ ⟨by simp only [opPlan, hxr, if_neg hc]; exact h02.trans h01, by simp only [opPlan, hxr, if_neg hc, e], by simp only [opPlan, hxr, if_neg hc, e]; exact hR2⟩ hM dX3_planWave_182
            · omega
          | some ν2 =>
            rw [hjn] at hq
            obtain ⟨hr2, hR2⟩ := hq
            have hr2 : r = nI 1 := hr2
            have hR2 : mR ν2 u2 := hR2
            subst hr2
            obtain ⟨hW2, hB2⟩ := joinsN_wv hR1.1 hW1 hjn
            refine x_istore_n hx hb dX3_planWave_174 rfl hl (by decide) (fun ls hl => ?_)
            refine lv_goto (tgt := 166) hx hb dX3_planWave_175 (by decide) ?_
            exact ih ν2 u2 _ _ _ (by omega) (by rw [← hj, joinAll, hjn]) hc hR2 hW2 (h02.trans h01) hM hS (lh_sub hl _ ⟨rfl, rfl, trivial⟩)
    -- the wave is made
    have waving : vC ν 5 = 0 → cntP ν t (vC ν 4) ≠ 0 → ∀ (n i : Nat), i ≤ vC ν 4 → vC ν 4 < i + n → ∀ (u : mS) (H : Heap) (locs : List Loc) (ls : Array Slot), mR (waveN ν t i) u → u.1 0 = nI 0 → mW g A m0 ad u H → va_S A s.heap H locs → lh ls 4 (xl [(0, .ref m0), (1, .int (nI t)), (3, .int (nI i))]) → W p l e (xrm 9 0 0) s m args below meth c H locs 0 0 Q (F0 m 95 ls []) := by
      intro hB0 hc0
      have hb0 : ∀ o, o < vC ν 4 → vBt ν o = 0 := by
        intro o ho
        have := (hR.bt ho).2
        omega
      intro n
      induction n with
      | zero => intro i h1 h2; exact absurd h2 (by omega)
      | succ n ih =>
        intro i h1 h2 u H locs ls hRi h01 hM hS hl
        have hNi : u.1 6 = nI (vC ν 4) := hRi.N.1
        refine lv_iload_n hx hb dX3_planWave_95 rfl (lh_at hl rfl) ?_
        refine lv_aload_n hx hb dX3_planWave_96 rfl (lh_at hl rfl) ?_
        refine m_getI hF hE hM 6 (by decide) q1320 rfl (by exact hNi) dX3_planWave_97 ?_
        refine n_icmp_ge (tgt := 164) hx hb dX3_planWave_100 (by decide) (by omega) (by omega) (fun c1 => ?_) (fun c1 => ?_)
        · have e : i = vC ν 4 := by omega
          subst e
          refine n_const hx hb 1 dX3_planWave_164 (by decide +kernel) ?_
          refine x_istore_n hx hb dX3_planWave_165 rfl hl (by decide) (fun ls hl => ?_)
          have hW1 : wvOk (waveN ν t (vC ν 4)) := fun b hb5 => by
            have := (wave_lines (t := t) (b := b) hR.1 hb0 (vC ν 4) (Nat.le_refl _)).2
            show linesN (waveN ν t (vC ν 4)) b (vC ν 4) ≤ 9
            omega
          exact joining 40 (waveN ν t (vC ν 4)) u _ _ _ hRi.B.2 rfl (fun z => z.elim (by omega) hc0) hRi hW1 h01 hM hS (lh_sub hl _ ⟨rfl, rfl, trivial⟩)
        · have hi : i < vC ν 4 := by omega
          have hst : u.2.1 8 i = nI (vSt ν i) := by
            rw [(hRi.st (o := i) hi).1]
            show nI (if i < i ∧ takeB ν t i = true then 1 else vSt ν i) = _
            rw [if_neg (by omega)]
          have hst2 := (hR.st hi).2
          have hmn : u.2.1 10 i = nI (vMn ν i) := (hRi.mn (o := i) hi).1
          have hmn2 := (hR.mn hi).2
          have hdu : u.2.1 7 i = nI (vDue ν i) := (hRi.due (o := i) hi).1
          have hdu2 := (hR.due hi).2
          have skip : ∀ (ls : Array Slot), ¬ takeB ν t i = true → lh ls 4 (xl [(0, .ref m0), (1, .int (nI t)), (3, .int (nI i))]) → W p l e (xrm 9 0 0) s m args below meth c H locs 0 0 Q (F0 m 158 ls []) := by
            intro ls hnt hl
            refine n_iinc hx hb 1 dX3_planWave_158 hl rfl (by decide +kernel) (by decide) (fun ls hl => ?_)
            refine lv_goto (tgt := 95) hx hb dX3_planWave_161 (by decide) ?_
            exact ih (i + 1) (by omega) (by omega) _ _ _ _ (by rw [waveN_skip hnt]; exact hRi) h01 hM hS (lh_sub hl _ ⟨rfl, rfl, rfl, trivial⟩)
          refine lv_aload_n hx hb dX3_planWave_103 rfl (lh_at hl rfl) ?_
          refine m_getA hF hE hM 8 (by decide) q1322 rfl dX3_planWave_104 ?_
          refine lv_iload_n hx hb dX3_planWave_107 rfl (lh_at hl rfl) ?_
          refine m_ald hF hE hM (by decide) (by simp only [mLen]; omega) (by exact hst) dX3_planWave_108 ?_
          refine n_if_ne (tgt := 158) hx hb dX3_planWave_109 (by decide) (by omega) (fun c2 => ?_) (fun c2 => ?_)
          · exact skip _ (by simp [takeB, c2]) (lh_sub hl _ ⟨rfl, rfl, rfl, trivial⟩)
          · refine lv_aload_n hx hb dX3_planWave_112 rfl (lh_at hl rfl) ?_
            refine m_getA hF hE hM 10 (by decide) q1324 rfl dX3_planWave_113 ?_
            refine lv_iload_n hx hb dX3_planWave_116 rfl (lh_at hl rfl) ?_
            refine m_ald hF hE hM (by decide) (by simp only [mLen]; omega) (by exact hmn) dX3_planWave_117 ?_
            refine n_if_le (tgt := 158) hx hb dX3_planWave_118 (by decide) (by omega) (fun c3 => ?_) (fun c3 => ?_)
            · have : ¬ 0 < vMn ν i := by omega
              exact skip _ (by simp [takeB, this]) (lh_sub hl _ ⟨rfl, rfl, rfl, trivial⟩)
            · refine lv_aload_n hx hb dX3_planWave_121 rfl (lh_at hl rfl) ?_
              refine m_getA hF hE hM 7 (by decide) q1321 rfl dX3_planWave_122 ?_
              refine lv_iload_n hx hb dX3_planWave_125 rfl (lh_at hl rfl) ?_
              refine m_ald hF hE hM (by decide) (by simp only [mLen]; omega) (by exact hdu) dX3_planWave_126 ?_
              refine lv_iload_n hx hb dX3_planWave_127 rfl (lh_at hl rfl) ?_
              refine n_icmp_gt (tgt := 158) hx hb dX3_planWave_128 (by decide) (by omega) (by omega) (fun c4 => ?_) (fun c4 => ?_)
              · have : ¬ vDue ν i ≤ t := by omega
                exact skip _ (by simp [takeB, this]) (lh_sub hl _ ⟨rfl, rfl, rfl, trivial⟩)
              · have hta : takeB ν t i = true := by
                  have h5 : 0 < vMn ν i := by omega
                  have h6 : vDue ν i ≤ t := by omega
                  simp [takeB, c2, h5, h6]
                have hBi : u.1 13 = nI (cntP ν t i) := hRi.B.1
                refine lv_aload_n hx hb dX3_planWave_131 rfl (lh_at hl rfl) ?_
                refine m_getA hF hE hM 8 (by decide) q1322 rfl dX3_planWave_132 ?_
                refine lv_iload_n hx hb dX3_planWave_135 rfl (lh_at hl rfl) ?_
                refine n_const hx hb 1 dX3_planWave_136 (by decide +kernel) ?_
                refine m_ast hF hE hM hS (by decide) (by simp only [mLen]; omega) dX3_planWave_137 (fun H locs hM hS => ?_)
                refine lv_aload_n hx hb dX3_planWave_138 rfl (lh_at hl rfl) ?_
                refine m_getA hF hE hM 9 (by decide) q1323 rfl dX3_planWave_139 ?_
                refine lv_iload_n hx hb dX3_planWave_142 rfl (lh_at hl rfl) ?_
                refine lv_aload_n hx hb dX3_planWave_143 rfl (lh_at hl rfl) ?_
                refine m_getI hF hE hM 13 (by decide) q1327 rfl (by exact hBi) dX3_planWave_144 ?_
                refine m_ast hF hE hM hS (by decide) (by simp only [mLen]; omega) dX3_planWave_147 (fun H locs hM hS => ?_)
                refine lv_aload_n hx hb dX3_planWave_148 rfl (lh_at hl rfl) ?_
                refine lv_dup hx hb dX3_planWave_149 rfl ?_
                refine m_getI hF hE hM 13 (by decide) q1327 rfl (by exact hBi) dX3_planWave_150 ?_
                refine n_const hx hb 1 dX3_planWave_153 (by decide +kernel) ?_
                refine n_iadd hx hb dX3_planWave_154 ?_
                refine m_putI hF hE hM hS 13 (by decide) q1327 rfl (by decide +kernel) rfl dX3_planWave_155 (fun H locs hM hS => ?_)
                refine n_iinc hx hb 1 dX3_planWave_158 hl rfl (by decide +kernel) (by decide) (fun ls hl => ?_)
                refine lv_goto (tgt := 95) hx hb dX3_planWave_161 (by decide) ?_
                exact ih (i + 1) (by omega) (by omega) _ _ _ _ (mR_wave hRi hi hB0 hb0 hta) h01 hM hS (lh_sub hl _ ⟨rfl, rfl, rfl, trivial⟩)
    have counting : ∀ (n i : Nat), i ≤ vC ν 4 → vC ν 4 < i + n → ∀ (H : Heap) (locs : List Loc) (ls : Array Slot), mW g A m0 ad μ1 H → va_S A s.heap H locs → lh ls 4 (xl [(0, .ref m0), (1, .int (nI t)), (2, .int (nI (cntP ν t i))), (3, .int (nI i))]) → W p l e (xrm 9 0 0) s m args below meth c H locs 0 0 Q (F0 m 26 ls []) := by
      intro n
      induction n with
      | zero => intro i h1 h2; exact absurd h2 (by omega)
      | succ n ih =>
        intro i h1 h2 H locs ls hM hS hl
        have hci := cntP_le (ν := ν) (t := t) i
        refine lv_iload_n hx hb dX3_planWave_26 rfl (lh_at hl rfl) ?_
        refine lv_aload_n hx hb dX3_planWave_27 rfl (lh_at hl rfl) ?_
        refine m_getI hF hE hM 6 (by decide) q1320 rfl (by exact hN.1) dX3_planWave_28 ?_
        refine n_icmp_ge (tgt := 76) hx hb dX3_planWave_31 (by decide) (by omega) (by omega) (fun c1 => ?_) (fun c1 => ?_)
        · have e : i = vC ν 4 := by omega
          subst e
          have no : ∀ (ls : Array Slot), (0 < vC ν 5 ∨ cntP ν t (vC ν 4) = 0) → lh ls 4 (xl [(0, .ref m0)]) → W p l e (xrm 9 0 0) s m args below meth c H locs 0 0 Q (F0 m 87 ls []) := by
            intro ls he hl
            refine lv_aload_n hx hb dX3_planWave_87 rfl (lh_at hl rfl) ?_
            refine n_const hx hb 2 dX3_planWave_88 (by decide +kernel) ?_
            refine m_calli (As := [.int (nI 2)]) hF hE hM hS hl (mk_fails l g A m0 ad _ (nI 2)) q1395 q1397 qs19 q1398 ⟨rfl, by decide +kernel, by decide +kernel, by show _ = some 1; decide +kernel⟩ rfl rfl ⟨Nat.le_of_ble_eq_true rfl, Nat.le_of_ble_eq_true rfl⟩ rfl (Nat.le_of_ble_eq_true rfl) dX3_planWave_89 ⟨Nat.le_of_ble_eq_true rfl, Nat.le_of_ble_eq_true rfl⟩ (fun r uf H locs hqf hM hS => ?_)
            obtain ⟨rfl, huf⟩ := hqf
            rw [huf] at hM
            exact hQ ▸ x_iret hx hb hr hlk hS _ ⟨by simp only [opPlan, hxr, if_pos he]; rfl, by simp only [opPlan, hxr, if_pos he], by simp only [opPlan, hxr, if_pos he]; exact hR⟩ hM dX3_planWave_92
          refine lv_aload_n hx hb dX3_planWave_76 rfl (lh_at hl rfl) ?_
          refine m_getI hF hE hM 13 (by decide) q1327 rfl (by exact hB.1) dX3_planWave_77 ?_
          refine n_if_gt (tgt := 87) hx hb dX3_planWave_80 (by decide) (by omega) (fun c2 => ?_) (fun c2 => ?_)
          · exact no _ (Or.inl c2) (lh_sub hl _ ⟨rfl, trivial⟩)
          · refine lv_iload_n hx hb dX3_planWave_83 rfl (lh_at hl rfl) ?_
            refine n_if_ne (tgt := 93) hx hb dX3_planWave_84 (by decide) (by omega) (fun c3 => ?_) (fun c3 => ?_)
            · refine n_const hx hb 0 dX3_planWave_93 (by decide +kernel) ?_
              refine x_istore_n hx hb dX3_planWave_94 rfl hl (by decide) (fun ls hl => ?_)
              exact waving (by omega) c3 (vC ν 4 + 1) 0 (by omega) (by omega) _ _ _ _ (by rw [waveN_0 (by omega)]; exact hR) h0 hM hS (lh_sub hl _ ⟨rfl, rfl, rfl, trivial⟩)
            · exact no _ (Or.inr c3) (lh_sub hl _ ⟨rfl, trivial⟩)
        · have hi : i < vC ν 4 := by omega
          have hst := hR.st hi
          have hmn := hR.mn hi
          have hdu := hR.due hi
          have skip : ∀ (ls : Array Slot), ¬ takeB ν t i = true → lh ls 4 (xl [(0, .ref m0), (1, .int (nI t)), (2, .int (nI (cntP ν t i))), (3, .int (nI i))]) → W p l e (xrm 9 0 0) s m args below meth c H locs 0 0 Q (F0 m 67 ls [.int (nI (cntP ν t i))]) := by
            intro ls hnt hl
            have e : cntP ν t (i + 1) = cntP ν t i := by rw [cntP, if_neg hnt]
            refine n_const hx hb 0 dX3_planWave_67 (by decide +kernel) ?_
            refine n_iadd hx hb dX3_planWave_68 ?_
            refine x_istore_n hx hb dX3_planWave_69 rfl hl (by decide) (fun ls hl => ?_)
            refine n_iinc hx hb 1 dX3_planWave_70 hl rfl (by decide +kernel) (by decide) (fun ls hl => ?_)
            refine lv_goto (tgt := 26) hx hb dX3_planWave_73 (by decide) ?_
            exact ih (i + 1) (by omega) (by omega) _ _ _ hM hS (lh_sub hl _ ⟨rfl, rfl, xl_v (by rw [e]; rfl), rfl, trivial⟩)
          refine lv_iload_n hx hb dX3_planWave_34 rfl (lh_at hl rfl) ?_
          refine lv_aload_n hx hb dX3_planWave_35 rfl (lh_at hl rfl) ?_
          refine m_getA hF hE hM 8 (by decide) q1322 rfl dX3_planWave_36 ?_
          refine lv_iload_n hx hb dX3_planWave_39 rfl (lh_at hl rfl) ?_
          refine m_ald hF hE hM (by decide) (by simp only [mLen]; omega) (by exact hst.1) dX3_planWave_40 ?_
          refine n_if_ne (tgt := 67) hx hb dX3_planWave_41 (by decide) (by omega) (fun c2 => ?_) (fun c2 => ?_)
          · exact skip _ (by simp [takeB, c2]) (lh_sub hl _ ⟨rfl, rfl, rfl, rfl, trivial⟩)
          · refine lv_aload_n hx hb dX3_planWave_44 rfl (lh_at hl rfl) ?_
            refine m_getA hF hE hM 10 (by decide) q1324 rfl dX3_planWave_45 ?_
            refine lv_iload_n hx hb dX3_planWave_48 rfl (lh_at hl rfl) ?_
            refine m_ald hF hE hM (by decide) (by simp only [mLen]; omega) (by exact hmn.1) dX3_planWave_49 ?_
            refine n_if_le (tgt := 67) hx hb dX3_planWave_50 (by decide) (by omega) (fun c3 => ?_) (fun c3 => ?_)
            · have : ¬ 0 < vMn ν i := by omega
              exact skip _ (by simp [takeB, this]) (lh_sub hl _ ⟨rfl, rfl, rfl, rfl, trivial⟩)
            · refine lv_aload_n hx hb dX3_planWave_53 rfl (lh_at hl rfl) ?_
              refine m_getA hF hE hM 7 (by decide) q1321 rfl dX3_planWave_54 ?_
              refine lv_iload_n hx hb dX3_planWave_57 rfl (lh_at hl rfl) ?_
              refine m_ald hF hE hM (by decide) (by simp only [mLen]; omega) (by exact hdu.1) dX3_planWave_58 ?_
              refine lv_iload_n hx hb dX3_planWave_59 rfl (lh_at hl rfl) ?_
              refine n_icmp_gt (tgt := 67) hx hb dX3_planWave_60 (by decide) (by omega) (by omega) (fun c4 => ?_) (fun c4 => ?_)
              · have : ¬ vDue ν i ≤ t := by omega
                exact skip _ (by simp [takeB, this]) (lh_sub hl _ ⟨rfl, rfl, rfl, rfl, trivial⟩)
              · have hta : takeB ν t i = true := by
                  have h5 : 0 < vMn ν i := by omega
                  have h6 : vDue ν i ≤ t := by omega
                  simp [takeB, c2, h5, h6]
                have e : cntP ν t (i + 1) = cntP ν t i + 1 := by rw [cntP, if_pos hta]
                refine n_const hx hb 1 dX3_planWave_63 (by decide +kernel) ?_
                refine lv_goto (tgt := 68) hx hb dX3_planWave_64 (by decide) ?_
                refine n_iadd hx hb dX3_planWave_68 ?_
                refine x_istore_n hx hb dX3_planWave_69 rfl hl (by decide) (fun ls hl => ?_)
                refine n_iinc hx hb 1 dX3_planWave_70 hl rfl (by decide +kernel) (by decide) (fun ls hl => ?_)
                refine lv_goto (tgt := 26) hx hb dX3_planWave_73 (by decide) ?_
                exact ih (i + 1) (by omega) (by omega) _ _ _ hM hS (lh_sub hl _ ⟨rfl, rfl, xl_v (by rw [e]), rfl, trivial⟩)
    refine lv_if_ne (tgt := 22) hx hb dX3_planWave_13 (by decide) (fun d => ?_) (fun d => ?_)
    · refine n_const hx hb 0 dX3_planWave_22 (by decide +kernel) ?_
      refine x_istore_n hx hb dX3_planWave_23 rfl hl (by decide) (fun ls hl => ?_)
      refine n_const hx hb 0 dX3_planWave_24 (by decide +kernel) ?_
      refine x_istore_n hx hb dX3_planWave_25 rfl hl (by decide) (fun ls hl => ?_)
      exact counting (vC ν 4 + 1) 0 (by omega) (by omega) _ _ _ hM hS (lh_sub hl _ ⟨rfl, rfl, rfl, rfl, trivial⟩)
    · exact absurd d (by decide)
section XTL
variable {p : Program} {l : Launch} {e : Env} {R : Room} {s : State} {m : MethodId} {args : Array Value} {below : List Frame} {meth : Method} {c : Code} {H : Heap} {locs : List Loc} {cells slots : Nat} {Q : State → Prop} {pc : Nat} {ls : Array Slot} {rest : List Value}
theorem x_topL {x y : Int64} (h : x = y) (k : W p l e R s m args below meth c H locs cells slots Q (F0 m pc ls (.long y :: rest))) : W p l e R s m args below meth c H locs cells slots Q (F0 m pc ls (.long x :: rest)) := by
  subst h
  exact k
end XTL
theorem pickN_0 {ν : nS} {b : Nat} : pickN ν b 0 = ν := by
  unfold pickN
  have h1 : va_up ν.1 7 (vC ν 7 + aloneN ν b 0) = ν.1 := by
    funext k
    by_cases e : k = 7
    · rw [e, va_up_s]
      rfl
    · rw [va_up_n e]
  have h2 : (fun o => if o < 0 ∧ vBt ν o = b + 1 then 2 else vSt ν o) = vSt ν := by
    funext o
    rw [if_neg (by omega)]
  have h3 : (fun o => if o < 0 ∧ vBt ν o = b + 1 then 0 else vBt ν o) = vBt ν := by
    funext o
    rw [if_neg (by omega)]
  rw [h1, h2, h3]
theorem pickN_skip {ν : nS} {b i : Nat} (h : ¬ vBt ν i = b + 1) : pickN ν b (i + 1) = pickN ν b i := by
  unfold pickN
  have h1 : aloneN ν b (i + 1) = aloneN ν b i := by rw [aloneN, if_neg h]
  have h2 : ∀ o, (o < i + 1 ∧ vBt ν o = b + 1) ↔ (o < i ∧ vBt ν o = b + 1) := by
    intro o
    constructor
    · rintro ⟨a, b⟩
      refine ⟨?_, b⟩
      have : o ≠ i := fun e => h (e ▸ b)
      omega
    · rintro ⟨a, b⟩
      exact ⟨by omega, b⟩
  rw [h1]
  simp only [h2]
theorem mR_pick {ν : nS} {μ : mS} {b i : Nat} (hR : mR (pickN ν b i) μ) (ht : vBt ν i = b + 1) :
    mR (pickN ν b (i + 1)) (m_setA (m_setA (m_setL μ (lN (vC ν 7 + aloneN ν b i + lenN ν (wantN ν i)))) 8 (upd (μ.2.1 8) i (nI 2))) 9 (upd (μ.2.1 9) i (-1))) := by
  obtain ⟨⟨a1, a2, a3, a4, a5, a6, a7, a8⟩, ⟨c1, c2, c3, c4, c5, c6, c7, c8⟩, r3, r4, r5⟩ := hR
  have hc1 : aloneN ν b (i + 1) = aloneN ν b i + lenN ν (wantN ν i) := by rw [aloneN, if_pos ht]
  have hiff : ∀ o, o ≠ i → ((o < i ∧ vBt ν o = b + 1) ↔ (o < i + 1 ∧ vBt ν o = b + 1)) := by
    intro o e
    constructor
    · exact fun z => ⟨by omega, z.2⟩
    · exact fun z => ⟨by omega, z.2⟩
  refine ⟨⟨a1, a2, a3, a4, a5, a6, a7, fun o ho => ?_⟩, ⟨c1, c2, c3, c4, c5, c6, c7, ?_⟩, r3, fun o ho => ?_, r5⟩
  · obtain ⟨b1, b2, b3, b4⟩ := a8 o ho
    refine ⟨b1, ?_, ?_, b4⟩
    · show (if o < i + 1 ∧ vBt ν o = b + 1 then 2 else vSt ν o) ≤ 2
      have b2 : (if o < i ∧ vBt ν o = b + 1 then 2 else vSt ν o) ≤ 2 := b2
      split
      · omega
      · next q =>
        rw [if_neg (fun z => q ⟨by omega, z.2⟩)] at b2
        exact b2
    · show (if o < i + 1 ∧ vBt ν o = b + 1 then 0 else vBt ν o) ≤ vC ν 5
      have b3 : (if o < i ∧ vBt ν o = b + 1 then 0 else vBt ν o) ≤ vC ν 5 := b3
      split
      · omega
      · next q =>
        rw [if_neg (fun z => q ⟨by omega, z.2⟩)] at b3
        exact b3
  · show lN (vC ν 7 + aloneN ν b i + lenN ν (wantN ν i)) = lN (vC ν 7 + aloneN ν b (i + 1))
    rw [hc1, Nat.add_assoc]
  · obtain ⟨b1, b2, b3, b4⟩ := r4 o ho
    refine ⟨b1, ?_, ?_, b4⟩
    · show upd (μ.2.1 8) i (nI 2) o = nI (if o < i + 1 ∧ vBt ν o = b + 1 then 2 else vSt ν o)
      by_cases e : o = i
      · rw [e, pk_us, if_pos ⟨by omega, ht⟩]
      · rw [pk_un e, b2]
        show nI (if o < i ∧ vBt ν o = b + 1 then 2 else vSt ν o) = _
        simp only [hiff o e]
    · show upd (μ.2.1 9) i (-1) o = eB (if o < i + 1 ∧ vBt ν o = b + 1 then 0 else vBt ν o)
      by_cases e : o = i
      · rw [e, pk_us, if_pos ⟨by omega, ht⟩]
        rfl
      · rw [pk_un e, b3]
        show eB (if o < i ∧ vBt ν o = b + 1 then 0 else vBt ν o) = _
        simp only [hiff o e]
set_option maxHeartbeats 8000000 in
theorem mk_pick (l : Launch) (g : xg) (A : Nat → Prop) (m0 : Nat) (ad : Nat → Nat) (μ : mS) (ν : nS) (hR : mR ν μ) (hW : wvOk ν) (v : Int32) :
    Met l yX3_pick (ws_ yX3_pick cX3_pick 4 (some .int)) (xrm 9 0 0) (mPc g A m0 ad μ [.int v]) (mQi g A m0 ad (mOp (opPick ν v))) 0 0 A := by
  refine x_start rfl (Nat.le_of_ble_eq_true rfl) ?_
  intro p e s m below meth c hx hb hr hlk hml hown hts hnm hE hM hS ls hl
  have hF : xFix p m c cX3_pick 4 s _ RX3 := ⟨hx, hb, hml, hown, hts⟩
  generalize hargs : List.toArray _ = args at hts hF ⊢
  generalize hQ : MQ below _ _ s _ _ A = Q
  refine lv_aload_n hx hb dX3_pick_0 rfl (lh_at hl rfl) ?_
  refine n_const hx hb 0 dX3_pick_1 (by decide +kernel) ?_
  refine m_putI hF hE hM hS 0 (by decide) q1314 rfl (by decide +kernel) rfl dX3_pick_2 (fun H locs hM hS => ?_)
  refine lv_aload_n hx hb dX3_pick_5 rfl (lh_at hl rfl) ?_
  refine lv_iload_n hx hb dX3_pick_6 rfl (lh_at hl rfl) ?_
  have hR := mR_thrown (v := nI 0) hR
  have hN := hR.N
  have hB := hR.B
  generalize hμ : m_setI μ 0 (nI 0) = μ1 at hM hR hN hB
  have h0 : μ1.1 0 = nI 0 := by rw [← hμ]; rfl
  refine m_calli (As := [.int v]) hF hE hM hS hl (mk_isBatch l g A m0 ad _ v (vC ν 5) hB.1 hB.2) q1504 q1506 qs34 q1507 ⟨rfl, by decide +kernel, by decide +kernel, by show _ = some 1; decide +kernel⟩ rfl rfl ⟨Nat.le_of_ble_eq_true rfl, Nat.le_of_ble_eq_true rfl⟩ rfl (Nat.le_of_ble_eq_true rfl) dX3_pick_7 ⟨Nat.le_of_ble_eq_true rfl, Nat.le_of_ble_eq_true rfl⟩ (fun r u H locs hq hM hS => ?_)
  obtain ⟨hq, hu⟩ := hq
  rw [hu] at hM
  cases hxr : xr v (vC ν 5) with
  | none =>
    obtain rfl := isS0 hq hxr
    refine lv_if_ne (tgt := 19) hx hb dX3_pick_10 (by decide) (fun d => ?_) (fun d => ?_)
    · exact absurd rfl d
    · refine lv_aload_n hx hb dX3_pick_13 rfl (lh_at hl rfl) ?_
      refine n_const hx hb 1 dX3_pick_14 (by decide +kernel) ?_
      refine m_calli (As := [.int (nI 1)]) hF hE hM hS hl (mk_fails l g A m0 ad _ (nI 1)) q1395 q1397 qs19 q1398 ⟨rfl, by decide +kernel, by decide +kernel, by show _ = some 1; decide +kernel⟩ rfl rfl ⟨Nat.le_of_ble_eq_true rfl, Nat.le_of_ble_eq_true rfl⟩ rfl (Nat.le_of_ble_eq_true rfl) dX3_pick_15 ⟨Nat.le_of_ble_eq_true rfl, Nat.le_of_ble_eq_true rfl⟩ (fun r uf H locs hqf hM hS => ?_)
      obtain ⟨rfl, huf⟩ := hqf
      rw [huf] at hM
      exact hQ ▸ x_iret hx hb hr hlk hS _ ⟨by simp [opPick, hxr]; rfl, by simp [opPick, hxr], by simp only [opPick, hxr]; exact hR⟩ hM dX3_pick_18
  | some b =>
    obtain rfl := isS1 hq hxr
    obtain ⟨hb5, rfl⟩ := xr_some (by omega) hxr
    have hO := pAll_ok hR.1 hW hb5
    have hlen := lenN_le hR.1 hO
    have loop : ∀ (n i : Nat), i ≤ vC ν 4 → vC ν 4 < i + n → ∀ (u : mS) (H : Heap) (locs : List Loc) (ls : Array Slot), mR (pickN ν b i) u → u.1 0 = nI 0 → mW g A m0 ad u H → va_S A s.heap H locs → lh ls 4 (xl [(0, .ref m0), (1, .int (nI b)), (2, .int (nI (lenN ν (pAll ν b)))), (3, .int (nI i))]) → W p l e (xrm 9 0 0) s m args below meth c H locs 0 0 Q (F0 m 31 ls []) := by
      intro n
      induction n with
      | zero => intro i h1 h2; exact absurd h2 (by omega)
      | succ n ih =>
        intro i h1 h2 u H locs ls hRi h01 hM hS hl
        have hNi : u.1 6 = nI (vC ν 4) := hRi.N.1
        refine lv_iload_n hx hb dX3_pick_31 rfl (lh_at hl rfl) ?_
        refine lv_aload_n hx hb dX3_pick_32 rfl (lh_at hl rfl) ?_
        refine m_getI hF hE hM 6 (by decide) q1320 rfl (by exact hNi) dX3_pick_33 ?_
        refine n_icmp_ge (tgt := 88) hx hb dX3_pick_36 (by decide) (by omega) (by omega) (fun c1 => ?_) (fun c1 => ?_)
        · have e : i = vC ν 4 := by omega
          subst e
          have hwk : u.1 14 = nI (vC ν 6) := hRi.wk
          refine lv_aload_n hx hb dX3_pick_88 rfl (lh_at hl rfl) ?_
          refine lv_dup hx hb dX3_pick_89 rfl ?_
          refine m_getI hF hE hM 14 (by decide) q1328 rfl (by exact hwk) dX3_pick_90 ?_
          refine lv_iload_n hx hb dX3_pick_93 rfl (lh_at hl rfl) ?_
          refine n_iadd hx hb dX3_pick_94 ?_
          refine m_putI hF hE hM hS 14 (by decide) q1328 rfl (by decide +kernel) rfl dX3_pick_95 (fun H locs hM hS => ?_)
          refine lv_aload_n hx hb dX3_pick_98 rfl (lh_at hl rfl) ?_
          refine lv_iload_n hx hb dX3_pick_99 rfl (lh_at hl rfl) ?_
          have hR2 : mR (vSetC (pickN ν b (vC ν 4)) 6 (vC ν 6 + lenN ν (pAll ν b))) (m_setI u 14 (nI (vC ν 6 + lenN ν (pAll ν b)))) := by
            obtain ⟨a, ⟨c1, c2, c3, c4, c5, c6, c7, c8⟩, r3⟩ := hRi
            exact ⟨a, ⟨c1, c2, c3, c4, c5, c6, rfl, c8⟩, r3⟩
          have hno : ∀ o, o < vC ν 4 → vBt (vSetC (pickN ν b (vC ν 4)) 6 (vC ν 6 + lenN ν (pAll ν b))) o ≠ b + 1 := by
            intro o ho
            show (if o < vC ν 4 ∧ vBt ν o = b + 1 then 0 else vBt ν o) ≠ b + 1
            split
            · omega
            · next q => exact fun z => q ⟨ho, z⟩
          refine m_callv (As := [.int (nI b)]) hF hE hM hS hl (mk_closeUp l g A m0 ad _ _ hR2 b hb5 hno) q1496 q1498 qs33 q1499 ⟨rfl, by decide +kernel, by decide +kernel, by show _ = some 1; decide +kernel⟩ rfl rfl ⟨Nat.le_of_ble_eq_true rfl, Nat.le_of_ble_eq_true rfl⟩ rfl (Nat.le_of_ble_eq_true rfl) dX3_pick_100 ⟨Nat.le_of_ble_eq_true rfl, Nat.le_of_ble_eq_true rfl⟩ (fun u2 H locs hq hM hS => ?_)
          obtain ⟨hR3, h03⟩ := hq
          refine lv_iload_n hx hb dX3_pick_103 rfl (lh_at hl rfl) ?_
          exact hQ ▸ x_iret hx hb hr hlk hS _ ⟨by simp only [opPick, hxr]; exact h03.trans h01, by simp only [opPick, hxr], by simp only [opPick, hxr]; exact hR3⟩ hM dX3_pick_104
        · have hi : i < vC ν 4 := by omega
          have hbt : u.2.1 9 i = eB (vBt ν i) := by
            rw [(hRi.bt (o := i) hi).1]
            show eB (if i < i ∧ vBt ν i = b + 1 then 0 else vBt ν i) = _
            rw [if_neg (by omega)]
          have hbt2 := (hR.bt hi).2
          refine lv_aload_n hx hb dX3_pick_39 rfl (lh_at hl rfl) ?_
          refine m_getA hF hE hM 9 (by decide) q1323 rfl dX3_pick_40 ?_
          refine lv_iload_n hx hb dX3_pick_43 rfl (lh_at hl rfl) ?_
          refine m_ald hF hE hM (by decide) (by simp only [mLen]; omega) (by exact hbt) dX3_pick_44 ?_
          refine lv_iload_n hx hb dX3_pick_45 rfl (lh_at hl rfl) ?_
          refine lv_icmp_ne (tgt := 82) hx hb dX3_pick_46 (by decide) (fun c2 => ?_) (fun c2 => ?_)
          · have e : ¬ vBt ν i = b + 1 := fun z => c2 ((eB_nI (by omega) (by omega)).mpr z)
            refine n_iinc hx hb 1 dX3_pick_82 hl rfl (by decide +kernel) (by decide) (fun ls hl => ?_)
            refine lv_goto (tgt := 31) hx hb dX3_pick_85 (by decide) ?_
            exact ih (i + 1) (by omega) (by omega) _ _ _ _ (by rw [pickN_skip e]; exact hRi) h01 hM hS (lh_sub hl _ ⟨rfl, rfl, rfl, rfl, trivial⟩)
          · have e : vBt ν i = b + 1 := (eB_nI (by omega) (by omega)).mp c2
            have hal : u.2.2 = lN (vC ν 7 + aloneN ν b i) := hRi.al
            have hOi := want_okSet hR.1 hi
            have hli := lenN_le hR.1 hOi
            refine lv_aload_n hx hb dX3_pick_49 rfl (lh_at hl rfl) ?_
            refine lv_dup hx hb dX3_pick_50 rfl ?_
            refine m_getL hF hE hM q1329 (by exact hal) dX3_pick_51 ?_
            refine lv_aload_n hx hb dX3_pick_54 rfl (lh_at hl rfl) ?_
            refine lv_aload_n hx hb dX3_pick_55 rfl (lh_at hl rfl) ?_
            refine lv_iload_n hx hb dX3_pick_56 rfl (lh_at hl rfl) ?_
            refine m_calli (As := [.int (nI i)]) hF hE hM hS hl (mk_wanted l g A m0 ad u _ hRi i hi) q1443 q1445 qs25 q1446 ⟨rfl, by decide +kernel, by decide +kernel, by show _ = some 1; decide +kernel⟩ rfl rfl ⟨Nat.le_of_ble_eq_true rfl, Nat.le_of_ble_eq_true rfl⟩ rfl (Nat.le_of_ble_eq_true rfl) dX3_pick_57 ⟨Nat.le_of_ble_eq_true rfl, Nat.le_of_ble_eq_true rfl⟩ (fun r u2 H locs hq hM hS => ?_)
            obtain ⟨rfl, hu⟩ := hq
            rw [hu] at hM
            refine m_calli (As := [.int (nI (wantN ν i))]) hF hE hM hS hl (mk_length l g A m0 ad u _ (wantN ν i) hRi hOi) q1459 q1461 qs26 q1462 ⟨rfl, by decide +kernel, by decide +kernel, by show _ = some 1; decide +kernel⟩ rfl rfl ⟨Nat.le_of_ble_eq_true rfl, Nat.le_of_ble_eq_true rfl⟩ rfl (Nat.le_of_ble_eq_true rfl) dX3_pick_60 ⟨Nat.le_of_ble_eq_true rfl, Nat.le_of_ble_eq_true rfl⟩ (fun r u3 H locs hq hM hS => ?_)
            obtain ⟨hr3, hG, -⟩ := hq
            have hr3 : r = nI (lenN ν (wantN ν i)) := hr3
            subst hr3
            have hR3 := hG.R hRi
            have h03 : u3.1 0 = nI 0 := (hG.1 0 (by decide)).trans h01
            refine lv_i2l hx hb dX3_pick_63 (by exact nI_l (by omega)) ?_
            refine lv_ladd hx hb dX3_pick_64 ?_
            refine x_topL (lN_add _ _) ?_
            refine m_putL hF hE hM hS q1329 dX3_pick_65 (fun H locs hM hS => ?_)
            refine lv_aload_n hx hb dX3_pick_68 rfl (lh_at hl rfl) ?_
            refine m_getA hF hE hM 8 (by decide) q1322 rfl dX3_pick_69 ?_
            refine lv_iload_n hx hb dX3_pick_72 rfl (lh_at hl rfl) ?_
            refine n_const hx hb 2 dX3_pick_73 (by decide +kernel) ?_
            refine m_ast hF hE hM hS (by decide) (by simp only [mLen]; omega) dX3_pick_74 (fun H locs hM hS => ?_)
            refine lv_aload_n hx hb dX3_pick_75 rfl (lh_at hl rfl) ?_
            refine m_getA hF hE hM 9 (by decide) q1323 rfl dX3_pick_76 ?_
            refine lv_iload_n hx hb dX3_pick_79 rfl (lh_at hl rfl) ?_
            refine lv_iconst (v := -1) hx hb dX3_pick_80 (by decide +kernel) ?_
            refine m_ast hF hE hM hS (by decide) (by simp only [mLen]; omega) dX3_pick_81 (fun H locs hM hS => ?_)
            refine n_iinc hx hb 1 dX3_pick_82 hl rfl (by decide +kernel) (by decide) (fun ls hl => ?_)
            refine lv_goto (tgt := 31) hx hb dX3_pick_85 (by decide) ?_
            exact ih (i + 1) (by omega) (by omega) _ _ _ _ (mR_pick hR3 e) h03 hM hS (lh_sub hl _ ⟨rfl, rfl, rfl, rfl, trivial⟩)
    refine lv_if_ne (tgt := 19) hx hb dX3_pick_10 (by decide) (fun d => ?_) (fun d => ?_)
    · refine lv_aload_n hx hb dX3_pick_19 rfl (lh_at hl rfl) ?_
      refine lv_aload_n hx hb dX3_pick_20 rfl (lh_at hl rfl) ?_
      refine lv_iload_n hx hb dX3_pick_21 rfl (lh_at hl rfl) ?_
      refine m_calli (As := [.int (nI b)]) hF hE hM hS hl (mk_productsOf l g A m0 ad _ ν hR b (by omega)) q1492 q1494 qs32 q1495 ⟨rfl, by decide +kernel, by decide +kernel, by show _ = some 1; decide +kernel⟩ rfl rfl ⟨Nat.le_of_ble_eq_true rfl, Nat.le_of_ble_eq_true rfl⟩ rfl (Nat.le_of_ble_eq_true rfl) dX3_pick_22 ⟨Nat.le_of_ble_eq_true rfl, Nat.le_of_ble_eq_true rfl⟩ (fun r u2 H locs hq hM hS => ?_)
      obtain ⟨rfl, hu⟩ := hq
      rw [hu] at hM
      refine m_calli (As := [.int (nI (pAll ν b))]) hF hE hM hS hl (mk_length l g A m0 ad _ ν _ hR hO) q1459 q1461 qs26 q1462 ⟨rfl, by decide +kernel, by decide +kernel, by show _ = some 1; decide +kernel⟩ rfl rfl ⟨Nat.le_of_ble_eq_true rfl, Nat.le_of_ble_eq_true rfl⟩ rfl (Nat.le_of_ble_eq_true rfl) dX3_pick_25 ⟨Nat.le_of_ble_eq_true rfl, Nat.le_of_ble_eq_true rfl⟩ (fun r u3 H locs hq hM hS => ?_)
      obtain ⟨rfl, hG, -⟩ := hq
      refine x_istore_n hx hb dX3_pick_28 rfl hl (by decide) (fun ls hl => ?_)
      refine n_const hx hb 0 dX3_pick_29 (by decide +kernel) ?_
      refine x_istore_n hx hb dX3_pick_30 rfl hl (by decide) (fun ls hl => ?_)
      exact loop (vC ν 4 + 1) 0 (by omega) (by omega) _ _ _ _ (by rw [pickN_0]; exact hG.R hR) ((hG.1 0 (by decide)).trans h0) hM hS (lh_sub hl _ ⟨rfl, rfl, rfl, rfl, trivial⟩)
    · exact absurd d (by decide)
