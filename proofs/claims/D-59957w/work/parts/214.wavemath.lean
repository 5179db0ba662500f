/-! a wave is made: the state, the batches' orders -/
set_option maxRecDepth 100000
def bW (ν : nS) (t n : Nat) : Nat → List Nat := fun b => (List.range n).filter (fun o => takeB ν t o && decide (cntP ν t o = b))
section WV
variable {ν : nS} {t : Nat}
theorem wave_bt {n o : Nat} (h0 : vBt ν o = 0) : vBt (waveN ν t n) o = if o < n ∧ takeB ν t o = true then cntP ν t o + 1 else 0 := by
  show (if o < n ∧ takeB ν t o = true then cntP ν t o + 1 else vBt ν o) = _
  rw [h0]
theorem wave_st {n o : Nat} : vSt (waveN ν t n) o = if o < n ∧ takeB ν t o = true then 1 else vSt ν o := rfl
theorem wave_5 {n : Nat} : vC (waveN ν t n) 5 = cntP ν t n := by
  show va_up ν.1 5 (cntP ν t n) 5 = _
  exact va_up_s
theorem wave_C {n k : Nat} (h : k ≠ 5) : vC (waveN ν t n) k = vC ν k := by
  show va_up ν.1 5 (cntP ν t n) k = _
  exact va_up_n h
theorem takeB_iff {o : Nat} : takeB ν t o = true ↔ (vSt ν o = 0 ∧ 0 < vMn ν o ∧ vDue ν o ≤ t) := by
  unfold takeB
  simp only [Bool.and_eq_true, decide_eq_true_eq]
theorem bW_mem {n b o : Nat} : o ∈ bW ν t n b ↔ (o < n ∧ takeB ν t o = true ∧ cntP ν t o = b) := by
  unfold bW
  rw [List.mem_filter, List.mem_range]
  simp
theorem cntP_hit : ∀ n b, b < cntP ν t n → ∃ o, o < n ∧ takeB ν t o = true ∧ cntP ν t o = b
  | 0, b, h => absurd h (Nat.not_lt_zero b)
  | n + 1, b, h => by
    unfold cntP at h
    by_cases e : takeB ν t n = true
    · rw [if_pos e] at h
      by_cases e2 : b < cntP ν t n
      · obtain ⟨o, h1, h2, h3⟩ := cntP_hit n b e2
        exact ⟨o, by omega, h2, h3⟩
      · exact ⟨n, by omega, e, by omega⟩
    · rw [if_neg e] at h
      obtain ⟨o, h1, h2, h3⟩ := cntP_hit n b h
      exact ⟨o, by omega, h2, h3⟩
theorem bW_ok (h0 : ∀ o, o < vC ν 4 → vBt ν o = 0) {n : Nat} (hn : n ≤ vC ν 4) : bOk (waveN ν t n) (bW ν t n) := by
  intro b hb
  rw [wave_5] at hb
  refine ⟨List.nodup_range.filter _, fun z => ?_, fun o => ?_⟩
  · obtain ⟨o, h1, h2, h3⟩ := cntP_hit n b hb
    have : o ∈ bW ν t n b := bW_mem.mpr ⟨h1, h2, h3⟩
    rw [z] at this
    exact absurd this List.not_mem_nil
  · rw [bW_mem, wave_C (by decide)]
    constructor
    · rintro ⟨h1, h2, h3⟩
      refine ⟨by omega, ?_⟩
      rw [wave_bt (h0 o (by omega)), if_pos ⟨h1, h2⟩, h3]
    · rintro ⟨h1, h2⟩
      rw [wave_bt (h0 o h1)] at h2
      split at h2
      · next h3 => exact ⟨h3.1, h3.2, by omega⟩
      · omega
theorem wave_skip {n : Nat} (h : ¬ takeB ν t n = true) : waveN ν t (n + 1) = waveN ν t n := by
  have h1 : cntP ν t (n + 1) = cntP ν t n := by rw [cntP, if_neg h]
  have h2 : ∀ o, (o < n + 1 ∧ takeB ν t o = true) ↔ (o < n ∧ takeB ν t o = true) := by
    intro o
    constructor
    · rintro ⟨a, b⟩
      refine ⟨?_, b⟩
      by_cases e : o = n
      · rw [e] at b
        exact absurd b h
      · omega
    · rintro ⟨a, b⟩
      exact ⟨by omega, b⟩
  unfold waveN
  rw [h1]
  simp only [h2]
theorem bW_skip {n : Nat} (h : ¬ takeB ν t n = true) : bW ν t (n + 1) = bW ν t n := by
  funext b
  unfold bW
  rw [List.range_succ, List.filter_append, List.filter_cons_of_neg (by simp [h]), List.filter_nil, List.append_nil]
theorem bW_old {n b : Nat} (h : b ≠ cntP ν t n) : bW ν t (n + 1) b = bW ν t n b := by
  unfold bW
  rw [List.range_succ, List.filter_append, List.filter_cons_of_neg (by
    simp only [Bool.and_eq_true, decide_eq_true_eq]
    exact fun z => h z.2.symm), List.filter_nil, List.append_nil]
theorem bW_new {n : Nat} (h : takeB ν t n = true) : bW ν t (n + 1) (cntP ν t n) = [n] := by
  have hz : (List.range n).filter (fun o => takeB ν t o && decide (cntP ν t o = cntP ν t n)) = [] := by
    rw [List.filter_eq_nil_iff]
    intro o ho
    have ho := List.mem_range.mp ho
    simp only [Bool.and_eq_true, decide_eq_true_eq]
    rintro ⟨h1, h2⟩
    have := cntP_lt ho h1
    omega
  unfold bW
  rw [List.range_succ, List.filter_append, hz, List.nil_append, List.filter_cons_of_pos (by simp [h]), List.filter_nil]
theorem wave_V (hV : vOk ν) (h0 : ∀ o, o < vC ν 4 → vBt ν o = 0) : vOk (waveN ν t (vC ν 4)) := by
  obtain ⟨a1, a2, a3, a4, a5, a6, a7, a8⟩ := hV
  have c : ∀ k, k ≠ 5 → vC (waveN ν t (vC ν 4)) k = vC ν k := fun k hk => wave_C hk
  have hle := cntP_le (ν := ν) (t := t) (vC ν 4)
  refine ⟨by rw [c 0 (by decide)]; exact a1, by rw [c 1 (by decide)]; exact a2, by rw [c 2 (by decide)]; exact a3, by rw [c 3 (by decide)]; exact a4, by rw [c 4 (by decide)]; exact a5, by rw [wave_5]; omega, by rw [c 0 (by decide), c 1 (by decide)]; exact a7, fun o ho => ?_⟩
  rw [c 4 (by decide)] at ho
  obtain ⟨b1, b2, b3, b4, b5⟩ := a8 o ho
  refine ⟨b1, ?_, ?_, b4, b5⟩
  · rw [wave_st]
    split
    · decide
    · exact b2
  · rw [wave_bt (h0 o ho), wave_5]
    split
    · next h1 => exact cntP_lt h1.1 h1.2
    · exact Nat.zero_le _
theorem xOk.wave (h : xOk ν) (h5 : vC ν 5 = 0) : xOk (waveN ν t (vC ν 4)) := by
  have h0 : ∀ o, o < vC ν 4 → vBt ν o = 0 := fun o ho => by
    have := (h.V.2.2.2.2.2.2.2 o ho).2.2.1
    omega
  have hS : ∀ o, o < vC ν 4 → vSt ν o ≠ 1 := fun o ho z => by
    have := (h.o ho).1.mp z
    exact this (h0 o ho)
  refine ⟨wave_V h.V h0, fun b hb => ?_, fun o ho => ?_, ?_, ?_⟩
  · show linesN (waveN ν t (vC ν 4)) b (vC (waveN ν t (vC ν 4)) 4) ≤ 9
    rw [wave_C (by decide)]
    have := (wave_lines (t := t) (b := b) h.V h0 (vC ν 4) (Nat.le_refl _)).2
    omega
  · rw [wave_C (by decide)] at ho
    obtain ⟨h1, h2, h3⟩ := h.o ho
    rw [wave_bt (h0 o ho), wave_st]
    refine ⟨?_, ?_, h3⟩
    · by_cases e : o < vC ν 4 ∧ takeB ν t o = true
      · rw [if_pos e, if_pos e]
        omega
      · rw [if_neg e, if_neg e]
        have := hS o ho
        omega
    · by_cases e : o < vC ν 4 ∧ takeB ν t o = true
      · intro _
        have := (takeB_iff.mp e.2).2.1
        show vMn ν o ≠ 0
        omega
      · rw [if_neg e]
        intro z
        exact absurd rfl z
  · rw [wave_C (by decide), wave_C (by decide), dnN_congr (ν := ν) (ν' := waveN ν t (vC ν 4)) _ (fun o ho => ?_)]
    · exact h.2.2.2.1
    · rw [wave_st]
      split
      · next e =>
        have := (takeB_iff.mp e.2).1
        omega
      · exact Iff.rfl
  · rw [wave_C (by decide), wave_C (by decide), dnN_congr (ν := ν) (ν' := waveN ν t (vC ν 4)) _ (fun o ho => ?_)]
    · exact h.2.2.2.2
    · rw [wave_st]
      split
      · next e =>
        have := (takeB_iff.mp e.2).1
        omega
      · exact Iff.rfl
theorem wave_0 : waveN ν t 0 = vSetC ν 5 0 := by
  unfold waveN vSetC
  simp only [Nat.not_lt_zero, false_and, if_false]
  rfl
theorem want_0 (h : vMn ν t ≠ 0) : wantN ν t ≠ 0 := by
  intro z
  have := want_bit (ν := ν) (o := t) (k := 0) (by omega)
  rw [z] at this
  simp at this
end WV
/-- one batch more, of the order n alone -/
theorem XR.addBat {g : xg} {ν : nS} {t n : Nat} {ad : Nat → Nat} {w u : xw_W} {b la : Nat} {mc : Int32} (hO : xOk ν) (h0 : ∀ o, o < vC ν 4 → vBt ν o = 0) (hn : n < vC ν 4) (ht : takeB ν t n = true) (h : XR g (waveN ν t n) ad (bW ν t n) w)
    (hL : xLs g u 5 6 (ad 5) mc 5 (bL ad (bW ν t n) (cntP ν t n) ++ [b])) (hll : xLs g u (3001 + 3 * n) (3002 + 3 * n) la 1 4 [ad (2000 + 2 * n)]) (hob : u (3000 + 3 * n) = some (b, .inr (5, [.ref la, .int (nI (wantN ν n)), .int (nI (vMn ν n))]))) (hoi : u (2000 + 2 * n) = some (ad (2000 + 2 * n), .inr (4, (oFs ν ad n).set 3 (.int (nI 1)))))
    (hk : ∀ m, m ≠ 5 → m ≠ 6 → m ≠ 2000 + 2 * n → m ≠ 3000 + 3 * n → m ≠ 3001 + 3 * n → m ≠ 3002 + 3 * n → u m = w m) (hd6 : ∀ b c fs, u 6 = some (b, .inr (c, fs)) → False) :
    XR g (waveN ν t (n + 1)) (va_up (va_up ad (3000 + 3 * n) b) (3001 + 3 * n) la) (bW ν t (n + 1)) u := by
  have hN40 := hO.N
  have hc1 : cntP ν t (n + 1) = cntP ν t n + 1 := by rw [cntP, if_pos ht]
  have hst0 := (takeB_iff.mp ht).1
  have hadn : ∀ m, m < 3000 → va_up (va_up ad (3000 + 3 * n) b) (3001 + 3 * n) la m = ad m := fun m hm => by rw [va_up_n (by omega), va_up_n (by omega)]
  have hnew : bN (bW ν t (n + 1)) (cntP ν t n) = 3000 + 3 * n := by
    unfold bN
    rw [bW_new ht]
    rfl
  have hold : ∀ c, c < cntP ν t n → bN (bW ν t (n + 1)) c = bN (bW ν t n) c := fun c hc => by
    unfold bN
    rw [bW_old (by omega)]
  have hβ := bW_ok (t := t) h0 (show n ≤ vC ν 4 by omega)
  have hβ1 := bW_ok (t := t) h0 (show n + 1 ≤ vC ν 4 by omega)
  have hhd : ∀ c, c < cntP ν t n → ∃ y, y < n ∧ bN (bW ν t n) c = 3000 + 3 * y := by
    intro c hc
    obtain ⟨-, n2, -⟩ := hβ c (by rw [wave_5]; exact hc)
    obtain ⟨y, l1, hy⟩ := List.exists_cons_of_ne_nil n2
    have hm : y ∈ bW ν t n c := by rw [hy]; exact List.mem_cons_self
    refine ⟨y, (bW_mem.mp hm).1, ?_⟩
    unfold bN
    rw [hy]
    rfl
  have hadb : ∀ c, c < cntP ν t n → ∀ m, m = bN (bW ν t n) c ∨ m = bN (bW ν t n) c + 1 → va_up (va_up ad (3000 + 3 * n) b) (3001 + 3 * n) la m = ad m := by
    intro c hc m hm
    obtain ⟨y, y1, y2⟩ := hhd c hc
    rw [va_up_n (by omega), va_up_n (by omega)]
  have had0 : va_up (va_up ad (3000 + 3 * n) b) (3001 + 3 * n) la (3000 + 3 * n) = b := by rw [va_up_n (by omega), va_up_s]
  have had1 : va_up (va_up ad (3000 + 3 * n) b) (3001 + 3 * n) la (3001 + 3 * n) = la := va_up_s
  generalize hA9 : va_up (va_up ad (3000 + 3 * n) b) (3001 + 3 * n) la = ad' at hadn hadb had0 had1 ⊢
  have w4 : vC (waveN ν t n) 4 = vC ν 4 := wave_C (by decide)
  have w41 : vC (waveN ν t (n + 1)) 4 = vC ν 4 := wave_C (by decide)
  have w5 : vC (waveN ν t n) 5 = cntP ν t n := wave_5
  have w51 : vC (waveN ν t (n + 1)) 5 = cntP ν t n + 1 := by rw [wave_5, hc1]
  have hstE : ∀ o, o ≠ n → vSt (waveN ν t (n + 1)) o = vSt (waveN ν t n) o := fun o ho => by
    rw [wave_st, wave_st]
    by_cases e : o < n ∧ takeB ν t o = true
    · rw [if_pos e, if_pos ⟨by omega, e.2⟩]
    · rw [if_neg e, if_neg (fun z => e ⟨by omega, z.2⟩)]
  have hstN : vSt (waveN ν t (n + 1)) n = 1 := by rw [wave_st, if_pos ⟨by omega, ht⟩]
  have hoc : ∀ o, o < vC ν 4 → ∃ fs, u (2000 + 2 * o) = some (ad (2000 + 2 * o), .inr (4, fs)) := by
    intro o ho
    by_cases e : o = n
    · rw [e]
      exact ⟨_, hoi⟩
    · rw [hk _ (by omega) (by omega) (by omega) (by omega) (by omega) (by omega)]
      exact ⟨_, (h.os (by rw [w4]; exact ho)).1⟩
  have hok : ∀ m, m < 2000 → m ≠ 5 → m ≠ 6 → u m = w m := fun m h1 h2 h3 => hk m h2 h3 (by omega) (by omega) (by omega) (by omega)
  have hoE : oL ad' (vC ν 4) = oL ad (vC ν 4) := by
    unfold oL
    refine List.map_congr_left (fun o ho => hadn _ ?_)
    have := List.mem_range.mp ho
    omega
  have hbE : ∀ es, (∀ o ∈ es, o < vC ν 4) → bE ad' es = bE ad es := fun es hes => by
    unfold bE
    refine List.map_congr_left (fun o ho => hadn _ ?_)
    have := hes o ho
    omega
  have hbt : ∀ o, o < vC ν 4 → o ≠ n → vBt (waveN ν t (n + 1)) o = vBt (waveN ν t n) o := fun o ho e => by
    rw [wave_bt (h0 o ho), wave_bt (h0 o ho)]
    by_cases e2 : o < n ∧ takeB ν t o = true
    · rw [if_pos e2, if_pos ⟨by omega, e2.2⟩]
    · rw [if_neg e2, if_neg (fun z => e2 ⟨by omega, z.2⟩)]
  have hbtN : vBt (waveN ν t (n + 1)) n = cntP ν t n + 1 := by rw [wave_bt (h0 n hn), if_pos ⟨by omega, ht⟩]
  have hbtN0 : vBt (waveN ν t n) n = 0 := by rw [wave_bt (h0 n hn), if_neg (by omega)]
  refine h.lift (fun m hm => hadn m (by omega)) (fun m hm => hok m (by omega) (by omega) (by omega)) ?_ ?_ ?_ ?_ ⟨mc, ?_⟩ ?_ (fun o ho => ?_) (fun c hc => ?_) (fun m hm b9 c fs e => ?_) (fun m m1 m2 => ?_) (fun m m1 m2 => ?_)
  · rw [hok 0 (by omega) (by omega) (by omega), h.obj]
    unfold fX
    rw [wave_C (by decide), wave_C (by decide), wave_C (by decide), wave_C (by decide), wave_C (by decide), wave_C (by decide), wave_C (by decide), wave_C (by decide), wave_C (by decide), wave_C (by decide), wave_C (by decide), wave_C (by decide)]
  · rw [hok 1 (by omega) (by omega) (by omega)]
    exact h.pl
  · obtain ⟨f2, g1, g2⟩ := h.tu
    refine ⟨f2, (hok 2 (by omega) (by omega) (by omega)).trans g1, fun z hz => (g2 z hz).trans ?_⟩
    rw [w4, w41]
    refine congrArg nI (turnN_congr (ν := waveN ν t n) (ν' := waveN ν t (n + 1)) (vC ν 4) (fun o _ => ⟨?_, fun _ => hasN_congr _ (fun _ _ => ⟨rfl, rfl⟩)⟩)).symm
    by_cases e : o = n
    · rw [e, hstN, wave_st, if_neg (by omega), hst0]
      omega
    · rw [hstE o e]
  · obtain ⟨mco, hx⟩ := h.ord
    rw [w4] at hx
    rw [w41, hoE]
    exact ⟨mco, hx.oLk (hok 3 (by omega) (by omega) (by omega)) (hok 4 (by omega) (by omega) (by omega)) hoc⟩
  · rw [w51]
    have : bL ad' (bW ν t (n + 1)) (cntP ν t n + 1) = bL ad (bW ν t n) (cntP ν t n) ++ [b] := by
      unfold bL
      rw [List.range_succ, List.map_append, List.map_singleton, hnew, had0]
      congr 1
      refine List.map_congr_left (fun c hc => ?_)
      have hc := List.mem_range.mp hc
      rw [hold c hc]
      exact hadb c hc _ (Or.inl rfl)
    rw [this]
    exact hL
  · obtain ⟨so, g1, g2⟩ := h.sav
    refine ⟨so, (hok 7 (by omega) (by omega) (by omega)).trans g1, fun k hk9 => ?_⟩
    rw [hadn (100 + k) (by omega), hok (100 + k) (by omega) (by omega) (by omega)]
    exact g2 k hk9
  · rw [w41] at ho
    obtain ⟨g1, f2, g2, g3⟩ := h.os (o := o) (by rw [w4]; exact ho)
    rw [hadn (2000 + 2 * o) (by omega), hadn (2001 + 2 * o) (by omega), hk (2001 + 2 * o) (by omega) (by omega) (by omega) (by omega) (by omega) (by omega)]
    refine ⟨?_, f2, g2, fun q hq => (g3 q hq).trans (congrArg nI (hasN_congr (ν := waveN ν t n) (ν' := waveN ν t (n + 1)) (o := o) _ (fun _ _ => ⟨rfl, rfl⟩)).symm)⟩
    by_cases e : o = n
    · rw [e, hoi]
      unfold oFs
      rw [hstN, hadn (2001 + 2 * n) (by omega)]
      rfl
    · rw [hk (2000 + 2 * o) (by omega) (by omega) (by omega) (by omega) (by omega) (by omega), g1]
      unfold oFs
      rw [hstE o e, hadn (2001 + 2 * o) (by omega)]
      rfl
  · rw [w51] at hc
    by_cases e : c = cntP ν t n
    · subst e
      obtain ⟨z1, z2, z3⟩ := hβ1 (cntP ν t n) (by rw [w51]; omega)
      rw [hnew]
      unfold bFs
      rw [hnew, show 3000 + 3 * n + 1 = 3001 + 3 * n by omega, show 3000 + 3 * n + 2 = 3002 + 3 * n by omega, had0, had1]
      have e1 : pAll (waveN ν t (n + 1)) (cntP ν t n) = wantN ν n := by
        rw [← orW_p z3, bW_new ht]
        show wantN (waveN ν t (n + 1)) n ||| 0 = _
        rw [Nat.or_zero]
        rfl
      have e2 : lAll (waveN ν t (n + 1)) (cntP ν t n) = vMn ν n := by
        rw [← suM_l z1 z3, bW_new ht]
        rfl
      rw [e1, e2]
      refine ⟨hob, 1, ?_⟩
      rw [bW_new ht]
      show xLs g u (3001 + 3 * n) (3002 + 3 * n) la 1 4 [ad' (2000 + 2 * n)]
      rw [hadn _ (by omega)]
      exact hll
    · have hc2 : c < cntP ν t n := by omega
      obtain ⟨y, y1, y2⟩ := hhd c hc2
      obtain ⟨g1, mc9, g2⟩ := h.bs (b := c) (by rw [w5]; exact hc2)
      rw [hold c hc2, hadb c hc2 _ (Or.inl rfl), hadb c hc2 _ (Or.inr rfl), hk _ (by omega) (by omega) (by omega) (by omega) (by omega) (by omega)]
      refine ⟨?_, mc9, ?_⟩
      · rw [g1]
        unfold bFs
        rw [hold c hc2, hadb c hc2 _ (Or.inr rfl)]
        have e1 : pAll (waveN ν t (n + 1)) c = pAll (waveN ν t n) c := by
          show prodsN (waveN ν t (n + 1)) c (vC (waveN ν t (n + 1)) 4) = prodsN (waveN ν t n) c (vC (waveN ν t n) 4)
          rw [w4, w41]
          refine prodsN_congr _ (fun o ho => ⟨?_, fun _ => rfl⟩)
          by_cases e3 : o = n
          · rw [e3, hbtN, hbtN0]
            omega
          · rw [hbt o ho e3]
        have e2 : lAll (waveN ν t (n + 1)) c = lAll (waveN ν t n) c := by
          show linesN (waveN ν t (n + 1)) c (vC (waveN ν t (n + 1)) 4) = linesN (waveN ν t n) c (vC (waveN ν t n) 4)
          rw [w4, w41]
          refine linesN_congr _ (fun o ho => ⟨?_, fun _ => rfl⟩)
          by_cases e3 : o = n
          · rw [e3, hbtN, hbtN0]
            omega
          · rw [hbt o ho e3]
        rw [e1, e2]
      · have hbb : ∀ o ∈ bW ν t n c, o < vC ν 4 := fun o ho => by
          have := (bW_mem.mp ho).1
          omega
        rw [bW_old (by omega), hbE _ hbb]
        exact g2.bEk (hk _ (by omega) (by omega) (by omega) (by omega) (by omega) (by omega)) (hk _ (by omega) (by omega) (by omega) (by omega) (by omega) (by omega)) (fun o ho => hoc o (hbb o ho))
  · rcases hm with rfl | rfl
    · rw [hok 4 (by omega) (by omega) (by omega)] at e
      exact h.dat (Or.inl rfl) _ _ _ e
    · exact hd6 _ _ _ e
  · rw [w41] at m1
    rw [hk m (by omega) (by omega) (by omega) (by omega) (by omega) (by omega)]
    exact h.ono (by rw [w4]; exact m1) m2
  · have hz := m2 (cntP ν t n) (by rw [w51]; omega)
    rw [hnew] at hz
    rw [hk m (by omega) (by omega) (by omega) (by omega) (by omega) (by omega)]
    refine h.bno m1 (fun c hc => ?_)
    rw [w5] at hc
    have := m2 c (by rw [w51]; omega)
    rw [hold c hc] at this
    exact this
