/-! PLAIN FUNCTIONS (2): routes: the stops of a set by rising places, the least ways on -/
def insPos (pl : Nat → Nat) (s : Nat → Nat) (q : Nat) : Nat → Nat
  | 0 => 0
  | k + 1 => if pl q < pl (s k) then insPos pl s q k else k + 1
def insF (s : Nat → Nat) (q j : Nat) : Nat → Nat := fun i => if i < j then s i else if i = j then q else s (i - 1)
/-- the stops of the set S, of the first q products: how many, and which -/
def laysF (pl : Nat → Nat) (S : Nat) : Nat → Nat × (Nat → Nat)
  | 0 => (0, fun _ => 0)
  | q + 1 => if S.testBit q = true then ((laysF pl S q).1 + 1, insF (laysF pl S q).2 q (insPos pl (laysF pl S q).2 q (laysF pl S q).1)) else laysF pl S q
theorem insPos_le {pl s : Nat → Nat} {q : Nat} : ∀ k, insPos pl s q k ≤ k
  | 0 => Nat.le_refl _
  | k + 1 => by
    unfold insPos
    split
    · have := insPos_le (pl := pl) (s := s) (q := q) k
      omega
    · exact Nat.le_refl _
theorem laysF_in {pl : Nat → Nat} {S : Nat} : ∀ q k, k < (laysF pl S q).1 → (laysF pl S q).2 k < q ∧ S.testBit ((laysF pl S q).2 k) = true
  | 0, k, h => by simp [laysF] at h
  | q + 1, k, h => by
    by_cases hb : S.testBit q = true
    · simp only [laysF, if_pos hb] at h ⊢
      have hl := insPos_le (pl := pl) (s := (laysF pl S q).2) (q := q) (laysF pl S q).1
      unfold insF
      by_cases h1 : k < insPos pl (laysF pl S q).2 q (laysF pl S q).1
      · rw [if_pos h1]
        have := laysF_in (pl := pl) (S := S) q k (by omega)
        exact ⟨by omega, this.2⟩
      · rw [if_neg h1]
        by_cases h2 : k = insPos pl (laysF pl S q).2 q (laysF pl S q).1
        · rw [if_pos h2]
          exact ⟨by omega, hb⟩
        · rw [if_neg h2]
          have := laysF_in (pl := pl) (S := S) q (k - 1) (by omega)
          exact ⟨by omega, this.2⟩
    · simp only [laysF, if_neg hb] at h ⊢
      have := laysF_in (pl := pl) (S := S) q k h
      exact ⟨by omega, this.2⟩
theorem laysF_step {pl : Nat → Nat} {S q : Nat} : (laysF pl S q).1 ≤ (laysF pl S (q + 1)).1 := by
  simp only [laysF]
  split
  · exact Nat.le_succ _
  · exact Nat.le_refl _
theorem laysF_mono {pl : Nat → Nat} {S q : Nat} : ∀ n, (laysF pl S q).1 ≤ (laysF pl S (q + n)).1
  | 0 => Nat.le_refl _
  | n + 1 => Nat.le_trans (laysF_mono n) laysF_step
theorem laysF_lt {pl : Nat → Nat} {S q n : Nat} (hq : q < n) (hb : S.testBit q = true) : (laysF pl S q).1 < (laysF pl S n).1 := by
  have h1 : (laysF pl S (q + 1)).1 = (laysF pl S q).1 + 1 := by simp [laysF, hb]
  have h2 := laysF_mono (pl := pl) (S := S) (q := q + 1) (n - (q + 1))
  rw [show q + 1 + (n - (q + 1)) = n by omega] at h2
  omega
def minF (init S : Nat) (v : Nat → Nat) : Nat → Nat
  | 0 => init
  | k + 1 => if S.testBit k = true then (if v k < minF init S v k then v k else minF init S v k) else minF init S v k
theorem minF_congr {init S : Nat} {v w : Nat → Nat} : ∀ d, (∀ k, k < d → S.testBit k = true → v k = w k) → minF init S v d = minF init S w d
  | 0, _ => rfl
  | d + 1, h => by
    have ih := minF_congr (init := init) d (fun k hk => h k (by omega))
    unfold minF
    by_cases hb : S.testBit d = true
    · rw [if_pos hb, if_pos hb, h d (by omega) hb, ih]
    · rw [if_neg hb, if_neg hb, ih]
theorem minF_0 {init : Nat} {v : Nat → Nat} : ∀ d, minF init 0 v d = init
  | 0 => rfl
  | d + 1 => by
    unfold minF
    rw [if_neg (by simp), minF_0 d]
theorem minF_le {init S : Nat} {v : Nat → Nat} : ∀ d, minF init S v d ≤ init
  | 0 => Nat.le_refl _
  | d + 1 => by
    have ih := minF_le (init := init) (S := S) (v := v) d
    unfold minF
    split
    · split <;> omega
    · exact ih
def dpF (f : Nat → Nat → Nat) (d : Nat) : Nat → Nat → Nat → Nat
  | 0, _, last => f last 9
  | n + 1, S, last => if S = 0 then f last 9 else minF 1000000000 S (fun k => f last k + dpF f d n (S - 2 ^ k) k) d
theorem bit_le {S k : Nat} (h : S.testBit k = true) : 2 ^ k ≤ S := Nat.ge_two_pow_of_testBit h
theorem dpF_fuel {f : Nat → Nat → Nat} {d : Nat} : ∀ n S m last, S ≤ n → S ≤ m → dpF f d n S last = dpF f d m S last
  | 0, S, m, last, h1, h2 => by
    have e : S = 0 := by omega
    subst e
    cases m <;> simp [dpF]
  | n + 1, S, m, last, h1, h2 => by
    cases m with
    | zero =>
      have e : S = 0 := by omega
      subst e
      simp [dpF]
    | succ m =>
      unfold dpF
      by_cases h : S = 0
      · rw [if_pos h, if_pos h]
      · rw [if_neg h, if_neg h]
        refine minF_congr d (fun k hk hb => ?_)
        have h3 := bit_le hb
        have h4 : 0 < 2 ^ k := Nat.two_pow_pos k
        rw [dpF_fuel n (S - 2 ^ k) m k (by omega) (by omega)]
def dpN (f : Nat → Nat → Nat) (d S last : Nat) : Nat := dpF f d S S last
theorem dpN_eq {f : Nat → Nat → Nat} {d S last : Nat} : dpN f d S last = minF (if S = 0 then f last 9 else 1000000000) S (fun k => f last k + dpN f d (S - 2 ^ k) k) d := by
  by_cases h : S = 0
  · subst h
    rw [minF_0, if_pos rfl]
    rfl
  · rw [if_neg h]
    unfold dpN
    obtain ⟨n, rfl⟩ : ∃ n, S = n + 1 := ⟨S - 1, by omega⟩
    rw [dpF, if_neg h]
    refine minF_congr d (fun k hk hb => ?_)
    have h3 := bit_le hb
    have h4 : 0 < 2 ^ k := Nat.two_pow_pos k
    rw [dpF_fuel n (n + 1 - 2 ^ k) (n + 1 - 2 ^ k) k (by omega) (Nat.le_refl _)]
theorem dpN_le {f : Nat → Nat → Nat} {d S last : Nat} (h : f last 9 ≤ 1000000000) : dpN f d S last ≤ 1000000000 := by
  rw [dpN_eq]
  refine Nat.le_trans (minF_le d) ?_
  split <;> omega
/-- how many stops a set has, which, their places (9: the start), the steps between them -/
def cntN (ν : nS) (S : Nat) : Nat := (laysF (vPl ν) S 20).1
def stpN (ν : nS) (S : Nat) : Nat → Nat := (laysF (vPl ν) S 20).2
def ptN (ν : nS) (S k : Nat) : Nat := if k = 9 then 0 else vPl ν (stpN ν S k)
def stepN (ν : nS) (S a b : Nat) : Nat := wayN (vC ν 2) (vC ν 1) (ptN ν S a) (ptN ν S b)
def dN (ν : nS) (S left last : Nat) : Nat := dpN (stepN ν S) (cntN ν S) left last
def lenN (ν : nS) (S : Nat) : Nat := dN ν S (2 ^ cntN ν S - 1) 9
/-- a set that a route can have -/
def okSet (ν : nS) (S : Nat) : Prop := S < 2 ^ 20 ∧ (∀ q, q < 20 → S.testBit q = true → vPl ν q ≠ 0) ∧ cntN ν S ≤ 9
theorem okPl.lt2 {A P v : Nat} (h : okPl A P v) (hA : A ≤ 6) (hP : P ≤ 20) : v < 600 ∧ v % 100 ≤ P := ⟨(h.lt hA hP).1, (h.lt hA hP).2.2⟩
theorem ptN_ok {ν : nS} {S k : Nat} (hV : vOk ν) (hS : okSet ν S) (hk : k = 9 ∨ k < cntN ν S) : ptN ν S k < 600 ∧ ptN ν S k % 100 ≤ vC ν 1 := by
  obtain ⟨⟨-, a2⟩, ⟨-, b2⟩, -, -, -, -, hp, -⟩ := hV
  unfold ptN
  by_cases h : k = 9
  · rw [if_pos h]
    exact ⟨by omega, by omega⟩
  · rw [if_neg h]
    rcases hk with hk | hk
    · exact absurd hk h
    · obtain ⟨h1, h2⟩ := laysF_in (pl := vPl ν) (S := S) 20 k hk
      have h3 := hS.2.1 _ h1 h2
      rcases hp _ h1 with h4 | h4
      · exact absurd h4 h3
      · exact h4.lt2 a2 b2
theorem wayN_le {G P a b : Nat} (hG : G ≤ 9) (ha : a < 600) (hb : b < 600) (hP : P ≤ 20) (hap : a % 100 ≤ P) (hbp : b % 100 ≤ P) : wayN G P a b ≤ 85 := by
  unfold wayN
  split
  · split <;> omega
  · have h1 : (if b / 100 ≤ a / 100 then a / 100 - b / 100 else b / 100 - a / 100) * G ≤ 5 * 9 := by
      refine Nat.mul_le_mul ?_ hG
      split <;> omega
    have h2 : (if a % 100 + b % 100 < 2 * (P + 1) - (a % 100 + b % 100) then a % 100 + b % 100 else 2 * (P + 1) - (a % 100 + b % 100)) ≤ 40 := by
      split <;> omega
    omega
theorem stepN_le {ν : nS} {S a b : Nat} (hV : vOk ν) (hS : okSet ν S) (ha : a = 9 ∨ a < cntN ν S) (hb : b = 9 ∨ b < cntN ν S) : stepN ν S a b ≤ 85 := by
  obtain ⟨h1, h2⟩ := ptN_ok hV hS ha
  obtain ⟨h3, h4⟩ := ptN_ok hV hS hb
  exact wayN_le hV.2.2.1.2 h1 h3 hV.2.1.2 h2 h4
theorem sub_bit_split {s k : Nat} (h : s.testBit k = true) : s = 2 ^ (k + 1) * (s / 2 ^ (k + 1)) + (2 ^ k + s % 2 ^ k) ∧ s - 2 ^ k = 2 ^ (k + 1) * (s / 2 ^ (k + 1)) + s % 2 ^ k := by
  have h1 := Nat.div_add_mod s (2 ^ (k + 1))
  have h2 : s % 2 ^ (k + 1) = s % 2 ^ k + 2 ^ k * (s / 2 ^ k % 2) := by rw [Nat.pow_succ]; exact Nat.mod_mul
  rw [Nat.testBit_eq_decide_div_mod_eq] at h
  have h3 := of_decide_eq_true h
  rw [h3, Nat.mul_one] at h2
  have h4 := Nat.two_pow_pos k
  omega
theorem sub_bit_ne {s k j : Nat} (h : s.testBit k = true) (hj : j ≠ k) : (s - 2 ^ k).testBit j = s.testBit j := by
  obtain ⟨h1, h2⟩ := sub_bit_split h
  have h3 : s % 2 ^ k < 2 ^ k := Nat.mod_lt _ (Nat.two_pow_pos k)
  have h4 : 2 ^ (k + 1) = 2 ^ k * 2 := rfl
  rw [h2, Nat.testBit_two_pow_mul_add _ (by omega)]
  conv => rhs; rw [h1, Nat.testBit_two_pow_mul_add _ (by omega)]
  by_cases e : j < k + 1
  · rw [if_pos e, if_pos e, Nat.testBit_two_pow_add_gt (by omega)]
  · rw [if_neg e, if_neg e]
theorem sub_bit {s k : Nat} (h : s.testBit k = true) : (s - 2 ^ k).testBit k = false := by
  have h1 := bit_le h
  have h2 := Nat.two_pow_pos k
  have h3 : s / 2 ^ k = (s - 2 ^ k) / 2 ^ k + 1 := by
    rw [← Nat.add_div_right _ h2]
    congr 1
    omega
  rw [Nat.testBit_eq_decide_div_mod_eq] at h ⊢
  have h4 := of_decide_eq_true h
  exact decide_eq_false (by omega)
/-- how many of the first d are in the set -/
def cntB (S : Nat) : Nat → Nat
  | 0 => 0
  | k + 1 => if S.testBit k = true then cntB S k + 1 else cntB S k
theorem cntB_congr {S T : Nat} : ∀ d, (∀ k, k < d → S.testBit k = T.testBit k) → cntB S d = cntB T d
  | 0, _ => rfl
  | d + 1, h => by
    unfold cntB
    rw [h d (by omega), cntB_congr d (fun k hk => h k (by omega))]
theorem cntB_sub {S k : Nat} (h : S.testBit k = true) : ∀ d, k < d → cntB (S - 2 ^ k) d + 1 = cntB S d
  | 0, hd => by omega
  | d + 1, hd => by
    unfold cntB
    by_cases e : k = d
    · subst e
      rw [sub_bit h, h, if_pos rfl, if_neg (by simp), cntB_congr k (fun j hj => sub_bit_ne h (by omega))]
    · rw [sub_bit_ne h (Ne.symm e)]
      have ih := cntB_sub h d (by omega)
      split <;> omega
theorem cntB_0 : ∀ d, cntB 0 d = 0
  | 0 => rfl
  | d + 1 => by
    unfold cntB
    rw [if_neg (by simp), cntB_0 d]
theorem cntB_full : ∀ d n, n ≤ d → cntB (2 ^ d - 1) n = n
  | d, 0, _ => rfl
  | d, n + 1, h => by
    unfold cntB
    rw [if_pos (by rw [Nat.testBit_two_pow_sub_one]; simp; omega), cntB_full d n (by omega)]
theorem has_bit {S d : Nat} (h : S < 2 ^ d) (h0 : S ≠ 0) : ∃ k, k < d ∧ S.testBit k = true := by
  obtain ⟨k, hk⟩ := Nat.exists_testBit_of_ne_zero h0
  refine ⟨k, ?_, hk⟩
  apply Classical.byContradiction
  intro q
  rw [Nat.testBit_lt_two_pow (Nat.lt_of_lt_of_le h (Nat.pow_le_pow_right (by decide) (by omega)))] at hk
  cases hk
theorem minF_le_v {init S k : Nat} {v : Nat → Nat} : ∀ d, k < d → S.testBit k = true → minF init S v d ≤ v k
  | 0, hd, _ => by omega
  | d + 1, hd, h => by
    unfold minF
    by_cases e : k = d
    · subst e
      rw [if_pos h]
      split <;> omega
    · have ih := minF_le_v (init := init) (v := v) d (by omega) h
      split
      · split <;> omega
      · exact ih
theorem minF_att {init S : Nat} {v : Nat → Nat} : ∀ d, minF init S v d = init ∨ ∃ k, k < d ∧ S.testBit k = true ∧ minF init S v d = v k
  | 0 => Or.inl rfl
  | d + 1 => by
    have ih := minF_att (init := init) (S := S) (v := v) d
    unfold minF
    by_cases hb : S.testBit d = true
    · rw [if_pos hb]
      by_cases h : v d < minF init S v d
      · rw [if_pos h]
        exact Or.inr ⟨d, by omega, hb, rfl⟩
      · rw [if_neg h]
        rcases ih with q | ⟨k, h1, h2, h3⟩
        · exact Or.inl q
        · exact Or.inr ⟨k, by omega, h2, h3⟩
    · rw [if_neg hb]
      rcases ih with q | ⟨k, h1, h2, h3⟩
      · exact Or.inl q
      · exact Or.inr ⟨k, by omega, h2, h3⟩
theorem sub_lt2 {S d k : Nat} (h : S < 2 ^ d) : S - 2 ^ k < 2 ^ d := Nat.lt_of_le_of_lt (Nat.sub_le _ _) h
theorem dN_small {ν : nS} {S : Nat} (hV : vOk ν) (hO : okSet ν S) : ∀ n left last, left ≤ n → left < 2 ^ cntN ν S → (last = 9 ∨ last < cntN ν S) → dN ν S left last ≤ 85 * (left + 1)
  | n, left, last, hn, hl, ha => by
    unfold dN
    rw [dpN_eq]
    by_cases h : left = 0
    · subst h
      rw [minF_0, if_pos rfl]
      have := stepN_le hV hO ha (Or.inl (rfl : 9 = 9))
      omega
    · obtain ⟨k, hk, hb⟩ := has_bit hl h
      refine Nat.le_trans (minF_le_v _ hk hb) ?_
      have h1 := bit_le hb
      have h2 := Nat.two_pow_pos k
      have h3 := stepN_le hV hO ha (Or.inr hk)
      match n, hn with
      | 0, hn => omega
      | n + 1, hn =>
        have h4 : dN ν S (left - 2 ^ k) k ≤ 85 * (left - 2 ^ k + 1) := dN_small hV hO n (left - 2 ^ k) k (by omega) (sub_lt2 hl) (Or.inr hk)
        unfold dN at h4
        show stepN ν S last k + dpN (stepN ν S) (cntN ν S) (left - 2 ^ k) k ≤ _
        omega
/-- the best way on is by one of the stops that are left -/
theorem dN_att {ν : nS} {S left last : Nat} (hV : vOk ν) (hO : okSet ν S) (hl : left < 2 ^ cntN ν S) (ha : last = 9 ∨ last < cntN ν S) (h0 : left ≠ 0) : ∃ k, k < cntN ν S ∧ left.testBit k = true ∧ stepN ν S last k + dN ν S (left - 2 ^ k) k = dN ν S left last := by
  have h512 : 2 ^ cntN ν S ≤ 512 := Nat.pow_le_pow_right (by decide) hO.2.2
  have h1 := dN_small hV hO left left last (Nat.le_refl _) hl ha
  have h2 : dN ν S left last = minF (if left = 0 then stepN ν S last 9 else 1000000000) left (fun k => stepN ν S last k + dN ν S (left - 2 ^ k) k) (cntN ν S) := dpN_eq
  rcases minF_att (init := if left = 0 then stepN ν S last 9 else 1000000000) (S := left) (v := fun k => stepN ν S last k + dN ν S (left - 2 ^ k) k) (cntN ν S) with q | ⟨k, a, b, e⟩
  · rw [← h2, if_neg h0] at q
    omega
  · exact ⟨k, a, b, by rw [h2, e]⟩
/-- the next stop by numbers, seen from the last one down: the first m of d -/
def scanF (p : Nat → Bool) (d : Nat) : Nat → Option Nat
  | 0 => none
  | n + 1 => if p (d - 1 - n) = true then some (d - 1 - n) else scanF p d n
theorem scanF_some {p : Nat → Bool} {d : Nat} : ∀ n, n ≤ d → ∀ k, scanF p d n = some k → k < d ∧ d - n ≤ k ∧ p k = true ∧ ∀ j, d - n ≤ j → j < k → p j = false
  | 0, _, k, h => by cases h
  | n + 1, hn, k, h => by
    unfold scanF at h
    split at h
    · next hp =>
      cases h
      exact ⟨by omega, by omega, hp, fun j h1 h2 => by omega⟩
    · next hp =>
      obtain ⟨a, b, e, f⟩ := scanF_some n (by omega) k h
      refine ⟨a, by omega, e, fun j h1 h2 => ?_⟩
      by_cases q : j = d - 1 - n
      · rw [q]
        simpa using hp
      · exact f j (by omega) h2
theorem scanF_none {p : Nat → Bool} {d : Nat} : ∀ n, n ≤ d → scanF p d n = none → ∀ j, d - n ≤ j → j < d → p j = false
  | 0, _, _, j, h1, h2 => by omega
  | n + 1, hn, h, j, h1, h2 => by
    unfold scanF at h
    split at h
    · cases h
    · next hp =>
      by_cases q : j = d - 1 - n
      · rw [q]
        simpa using hp
      · exact scanF_none n (by omega) h j (by omega) h2
/-- which of the stops that are left is best behind the last one -/
def isNext (ν : nS) (S left last k : Nat) : Bool := left.testBit k && decide (stepN ν S last k + dN ν S (left - 2 ^ k) k = dN ν S left last)
def nextN (ν : nS) (S left last : Nat) : Nat := (scanF (isNext ν S left last) (cntN ν S) (cntN ν S)).getD 0
theorem nextN_ok {ν : nS} {S left last : Nat} (hV : vOk ν) (hO : okSet ν S) (hl : left < 2 ^ cntN ν S) (ha : last = 9 ∨ last < cntN ν S) (h0 : left ≠ 0) :
    scanF (isNext ν S left last) (cntN ν S) (cntN ν S) = some (nextN ν S left last) ∧ nextN ν S left last < cntN ν S ∧ isNext ν S left last (nextN ν S left last) = true ∧ ∀ j, j < nextN ν S left last → isNext ν S left last j = false := by
  obtain ⟨k, h1, h2, h3⟩ := dN_att hV hO hl ha h0
  have hk : isNext ν S left last k = true := by simp [isNext, h2, h3]
  unfold nextN
  cases h : scanF (isNext ν S left last) (cntN ν S) (cntN ν S) with
  | none =>
    have := scanF_none _ (Nat.le_refl _) h k (by omega) h1
    rw [hk] at this
    cases this
  | some j =>
    obtain ⟨a, b, e, f⟩ := scanF_some _ (Nat.le_refl _) j h
    exact ⟨rfl, a, e, fun i hi => f i (by omega) hi⟩
/-- the best route: what is left and the last one, behind n stops -/
def pathN (ν : nS) (S : Nat) : Nat → Nat × Nat
  | 0 => (2 ^ cntN ν S - 1, 9)
  | n + 1 => ((pathN ν S n).1 - 2 ^ nextN ν S (pathN ν S n).1 (pathN ν S n).2, nextN ν S (pathN ν S n).1 (pathN ν S n).2)
theorem pathN_ok {ν : nS} {S : Nat} (hV : vOk ν) (hO : okSet ν S) : ∀ n, n ≤ cntN ν S → (pathN ν S n).1 < 2 ^ cntN ν S ∧ ((pathN ν S n).2 = 9 ∨ (pathN ν S n).2 < cntN ν S) ∧ cntB (pathN ν S n).1 (cntN ν S) + n = cntN ν S
  | 0, _ => ⟨by have := Nat.two_pow_pos (cntN ν S); show 2 ^ cntN ν S - 1 < _; omega, Or.inl rfl, cntB_full _ _ (Nat.le_refl _)⟩
  | n + 1, h => by
    obtain ⟨a, b, e⟩ := pathN_ok hV hO n (by omega)
    have h0 : (pathN ν S n).1 ≠ 0 := by
      intro q
      rw [q, cntB_0] at e
      omega
    obtain ⟨-, h1, h2, -⟩ := nextN_ok hV hO a b h0
    have hb : (pathN ν S n).1.testBit (nextN ν S (pathN ν S n).1 (pathN ν S n).2) = true := by
      unfold isNext at h2
      simp only [Bool.and_eq_true] at h2
      exact h2.1
    refine ⟨sub_lt2 a, Or.inr h1, ?_⟩
    have := cntB_sub hb _ h1
    show cntB ((pathN ν S n).1 - 2 ^ nextN ν S (pathN ν S n).1 (pathN ν S n).2) _ + (n + 1) = _
    omega
theorem pathN_left {ν : nS} {S : Nat} (hV : vOk ν) (hO : okSet ν S) {n : Nat} (h : n < cntN ν S) : (pathN ν S n).1 ≠ 0 := by
  intro q
  have := (pathN_ok hV hO n (by omega)).2.2
  rw [q, cntB_0] at this
  omega
theorem pathN_last {ν : nS} {S : Nat} (hV : vOk ν) (hO : okSet ν S) : ∀ n, n ≤ cntN ν S → (pathN ν S n).2 = 9 ∨ ((pathN ν S n).2 < cntN ν S ∧ (pathN ν S n).1.testBit (pathN ν S n).2 = false)
  | 0, _ => Or.inl rfl
  | n + 1, h => by
    obtain ⟨a, b, -⟩ := pathN_ok hV hO n (by omega)
    obtain ⟨-, h1, h2, -⟩ := nextN_ok hV hO a b (pathN_left hV hO (by omega))
    refine Or.inr ⟨h1, ?_⟩
    unfold isNext at h2
    simp only [Bool.and_eq_true] at h2
    exact sub_bit h2.1
