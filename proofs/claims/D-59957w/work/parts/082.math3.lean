/-! PLAIN FUNCTIONS (3): sets' sizes, batches, the best pair -/
theorem laysF_cnt {pl : Nat → Nat} {S : Nat} : ∀ q, (laysF pl S q).1 = cntB S q
  | 0 => rfl
  | q + 1 => by
    simp only [laysF, cntB]
    split
    · rw [← laysF_cnt (pl := pl) q]
    · exact laysF_cnt (pl := pl) q
theorem cntN_eq {ν : nS} {S : Nat} : cntN ν S = cntB S 20 := laysF_cnt 20
theorem cntB_or {S T : Nat} : ∀ d, cntB (S ||| T) d ≤ cntB S d + cntB T d
  | 0 => Nat.le_refl _
  | d + 1 => by
    have ih := cntB_or (S := S) (T := T) d
    unfold cntB
    rw [Nat.testBit_or]
    cases S.testBit d <;> cases T.testBit d <;> simp <;> omega
theorem cntB_one (q : Nat) : ∀ d, cntB (1 <<< q) d ≤ 1 ∧ (d ≤ q → cntB (1 <<< q) d = 0)
  | 0 => ⟨by simp [cntB], fun _ => rfl⟩
  | d + 1 => by
    obtain ⟨h1, h2⟩ := cntB_one q d
    have hb : (1 <<< q).testBit d = decide (q = d) := by rw [show 1 <<< q = 2 ^ q by rw [Nat.shiftLeft_eq, Nat.one_mul], Nat.testBit_two_pow]
    unfold cntB
    rw [hb]
    by_cases e : q = d
    · have := h2 (by omega)
      simp only [e, decide_true, if_true]
      rw [e] at this
      exact ⟨by omega, fun h => by omega⟩
    · simp only [e, decide_false, Bool.false_eq_true, if_false]
      exact ⟨h1, fun h => h2 (by omega)⟩
theorem cntB_orM {f : Nat → Nat} {d : Nat} : ∀ n, cntB (orM f n) d ≤ n
  | 0 => by simp [orM, cntB_0]
  | n + 1 => by
    have h1 := cntB_or (S := orM f n) (T := 1 <<< f n) d
    have h2 := cntB_orM (f := f) (d := d) n
    have h3 := (cntB_one (f n) d).1
    unfold orM
    omega
theorem orM_bit {f : Nat → Nat} {q : Nat} : ∀ n, (orM f n).testBit q = true → ∃ k, k < n ∧ f k = q
  | 0, h => by simp [orM] at h
  | n + 1, h => by
    unfold orM at h
    rw [Nat.testBit_or, Bool.or_eq_true] at h
    rcases h with h | h
    · obtain ⟨k, h1, h2⟩ := orM_bit n h
      exact ⟨k, by omega, h2⟩
    · rw [show 1 <<< f n = 2 ^ f n by rw [Nat.shiftLeft_eq, Nat.one_mul], Nat.testBit_two_pow] at h
      exact ⟨n, by omega, of_decide_eq_true h⟩
theorem bit_orM {f : Nat → Nat} {q : Nat} : ∀ n k, k < n → f k = q → (orM f n).testBit q = true
  | n + 1, k, h, e => by
    unfold orM
    rw [Nat.testBit_or, Bool.or_eq_true]
    by_cases hk : k = n
    · subst hk
      exact Or.inr (by rw [e, show 1 <<< q = 2 ^ q by rw [Nat.shiftLeft_eq, Nat.one_mul], Nat.testBit_two_pow]; simp)
    · exact Or.inl (bit_orM n k (by omega) e)
/-- sets that orders can ask: small, of placed products -/
def setOk (ν : nS) (S : Nat) : Prop := S < 2 ^ 20 ∧ ∀ q, q < 20 → S.testBit q = true → vPl ν q ≠ 0
theorem setOk.or {ν : nS} {S T : Nat} (h : setOk ν S) (h2 : setOk ν T) : setOk ν (S ||| T) :=
  ⟨Nat.or_lt_two_pow h.1 h2.1, fun q hq hb => by
    rw [Nat.testBit_or, Bool.or_eq_true] at hb
    rcases hb with hb | hb
    · exact h.2 q hq hb
    · exact h2.2 q hq hb⟩
theorem setOk.ok {ν : nS} {S : Nat} (h : setOk ν S) (h9 : cntB S 20 ≤ 9) : okSet ν S := ⟨h.1, h.2, by rw [cntN_eq]; exact h9⟩
theorem want_ok {ν : nS} (hV : vOk ν) {o : Nat} (ho : o < vC ν 4) : setOk ν (wantN ν o) ∧ cntB (wantN ν o) 20 ≤ vMn ν o := by
  have h := (hV.2.2.2.2.2.2.2 o ho).2.2.2.2
  refine ⟨⟨orM_lt _ (fun k hk => (h k hk).1), fun q hq hb => ?_⟩, cntB_orM _⟩
  obtain ⟨k, h1, h2⟩ := orM_bit _ hb
  rw [← h2]
  exact (h k h1).2.2.2
theorem want_okSet {ν : nS} (hV : vOk ν) {o : Nat} (ho : o < vC ν 4) : okSet ν (wantN ν o) := by
  obtain ⟨h1, h2⟩ := want_ok hV ho
  have := (hV.2.2.2.2.2.2.2 o ho).2.2.2.1
  exact h1.ok (by omega)
theorem prods_ok {ν : nS} (hV : vOk ν) {b : Nat} : ∀ n, n ≤ vC ν 4 → setOk ν (prodsN ν b n) ∧ cntB (prodsN ν b n) 20 ≤ linesN ν b n
  | 0, _ => ⟨⟨by simp [prodsN], fun q hq hb => by simp [prodsN] at hb⟩, by simp [prodsN, cntB_0]⟩
  | n + 1, h => by
    obtain ⟨h1, h2⟩ := prods_ok hV (b := b) n (by omega)
    obtain ⟨h3, h4⟩ := want_ok hV (o := n) (by omega)
    unfold prodsN linesN
    by_cases e : vBt ν n = b + 1
    · rw [if_pos e, if_pos e]
      have := cntB_or (S := prodsN ν b n) (T := wantN ν n) 20
      exact ⟨h1.or h3, by omega⟩
    · rw [if_neg e, if_neg e]
      exact ⟨h1, h2⟩
abbrev pAll (ν : nS) (b : Nat) : Nat := prodsN ν b (vC ν 4)
abbrev lAll (ν : nS) (b : Nat) : Nat := linesN ν b (vC ν 4)
/-- every batch's lines fit on a route -/
def wvOk (ν : nS) : Prop := ∀ b, b < vC ν 5 → lAll ν b ≤ 9
theorem pAll_ok {ν : nS} (hV : vOk ν) (hW : wvOk ν) {b : Nat} (hb : b < vC ν 5) : okSet ν (pAll ν b) := by
  obtain ⟨h1, h2⟩ := prods_ok hV (b := b) (vC ν 4) (Nat.le_refl _)
  exact h1.ok (Nat.le_trans h2 (hW b hb))
theorem pAll_or {ν : nS} (hV : vOk ν) {a b : Nat} (h : lAll ν a + lAll ν b ≤ 9) : okSet ν (pAll ν a ||| pAll ν b) := by
  obtain ⟨h1, h2⟩ := prods_ok hV (b := a) (vC ν 4) (Nat.le_refl _)
  obtain ⟨h3, h4⟩ := prods_ok hV (b := b) (vC ν 4) (Nat.le_refl _)
  exact (h1.or h3).ok (Nat.le_trans (cntB_or 20) (Nat.le_trans (Nat.add_le_add h2 h4) h))
theorem lenN_le {ν : nS} {S : Nat} (hV : vOk ν) (hO : okSet ν S) : lenN ν S ≤ 50000 := by
  have h512 : 2 ^ cntN ν S ≤ 512 := Nat.pow_le_pow_right (by decide) hO.2.2
  have h1 := Nat.two_pow_pos (cntN ν S)
  have := dN_small hV hO _ (2 ^ cntN ν S - 1) 9 (Nat.le_refl _) (by omega) (Or.inl rfl)
  unfold lenN
  omega
/-- the best pair so far: what it saves, its two batches (0: none, b + 1) -/
def stepJ (ν : nS) (t : Nat × Nat × Nat) (a b : Nat) : Nat × Nat × Nat :=
  if lAll ν a + lAll ν b ≤ vC ν 3 ∧ lenN ν (pAll ν a ||| pAll ν b) + t.1 < lenN ν (pAll ν a) + lenN ν (pAll ν b) then (lenN ν (pAll ν a) + lenN ν (pAll ν b) - lenN ν (pAll ν a ||| pAll ν b), a + 1, b + 1) else t
def bestI (ν : nS) (t : Nat × Nat × Nat) (a : Nat) : Nat → Nat × Nat × Nat
  | 0 => t
  | n + 1 => stepJ ν (bestI ν t a n) a (a + 1 + n)
def bestO (ν : nS) : Nat → Nat × Nat × Nat
  | 0 => (0, 0, 0)
  | a + 1 => bestI ν (bestO ν a) a (vC ν 5 - (a + 1))
def bestOk (ν : nS) (t : Nat × Nat × Nat) : Prop := t.1 ≤ 100000 ∧ (t = (0, 0, 0) ∨ (0 < t.1 ∧ 0 < t.2.1 ∧ t.2.1 < t.2.2 ∧ t.2.2 ≤ vC ν 5 ∧ lAll ν (t.2.1 - 1) + lAll ν (t.2.2 - 1) ≤ 9))
theorem stepJ_ok {ν : nS} (hV : vOk ν) (hW : wvOk ν) {t : Nat × Nat × Nat} {a b : Nat} (h : bestOk ν t) (hab : a < b) (hb : b < vC ν 5) : bestOk ν (stepJ ν t a b) := by
  unfold stepJ
  split
  · next hc =>
    have h1 := lenN_le hV (pAll_ok hV hW (b := a) (by omega))
    have h2 := lenN_le hV (pAll_ok hV hW hb)
    have h3 := hV.2.2.2.1.2
    exact ⟨by show _ - _ ≤ _; omega, Or.inr ⟨by show 0 < _ - _; omega, by show 0 < a + 1; omega, by show a + 1 < b + 1; omega, by show b + 1 ≤ _; omega, by show lAll ν a + lAll ν b ≤ 9; omega⟩⟩
  · exact h
theorem bestI_ok {ν : nS} (hV : vOk ν) (hW : wvOk ν) {t : Nat × Nat × Nat} {a : Nat} (h : bestOk ν t) : ∀ n, a + 1 + n ≤ vC ν 5 → bestOk ν (bestI ν t a n)
  | 0, _ => h
  | n + 1, hn => stepJ_ok hV hW (bestI_ok hV hW h n (by omega)) (by omega) (by omega)
theorem bestO_ok {ν : nS} (hV : vOk ν) (hW : wvOk ν) : ∀ a, a ≤ vC ν 5 → bestOk ν (bestO ν a)
  | 0, _ => ⟨Nat.zero_le _, Or.inl rfl⟩
  | a + 1, ha => bestI_ok hV hW (bestO_ok hV hW a (by omega)) _ (by omega)
/-- the batch numbers when the batch s becomes f, of the first n orders (0: none, b + 1) -/
def relN (ν : nS) (f s n : Nat) : Nat → Nat := fun o => if o < n ∧ vBt ν o = s then f else vBt ν o
/-- the state when the two batches t.2.1, t.2.2 have come together -/
def joinS (ν : nS) (t : Nat × Nat × Nat) : nS := vSetB ν (vC ν 5 - 1) (closeN (vSetB ν (vC ν 5) (relN ν t.2.1 t.2.2 (vC ν 4))) (t.2.2 - 1) (vC ν 4))
def joinsN (ν : nS) : Option nS := if (bestO ν (vC ν 5)).1 = 0 then none else some (joinS ν (bestO ν (vC ν 5)))
