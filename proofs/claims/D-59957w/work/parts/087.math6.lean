/-! PLAIN FUNCTIONS (8): the stops by rising places; through the aisles -/
theorem insPos_lt {pl s : Nat → Nat} {q : Nat} : ∀ k j, insPos pl s q k ≤ j → j < k → pl q < pl (s j)
  | 0, j, _, h => absurd h (Nat.not_lt_zero j)
  | k + 1, j, h1, h2 => by
    unfold insPos at h1
    split at h1
    · next h3 =>
      by_cases e : j = k
      · rw [e]; exact h3
      · exact insPos_lt k j h1 (by omega)
    · omega
theorem insPos_ge {pl s : Nat → Nat} {q : Nat} : ∀ k, 0 < insPos pl s q k → pl (s (insPos pl s q k - 1)) ≤ pl q
  | 0, h => by simp [insPos] at h
  | k + 1, h => by
    unfold insPos at h ⊢
    split at h
    · next h3 =>
      rw [if_pos h3]
      exact insPos_ge k h
    · next h3 =>
      rw [if_neg h3]
      show pl (s k) ≤ pl q
      omega
theorem laysF_sorted {pl : Nat → Nat} {S : Nat} : ∀ q i j, i ≤ j → j < (laysF pl S q).1 → pl ((laysF pl S q).2 i) ≤ pl ((laysF pl S q).2 j)
  | 0, i, j, _, h => by simp [laysF] at h
  | q + 1, i, j, hij, h => by
    by_cases hb : S.testBit q = true
    · simp only [laysF, if_pos hb] at h ⊢
      have hl := insPos_le (pl := pl) (s := (laysF pl S q).2) (q := q) (laysF pl S q).1
      have g1 := insPos_lt (pl := pl) (s := (laysF pl S q).2) (q := q) (laysF pl S q).1
      have g2 := insPos_ge (pl := pl) (s := (laysF pl S q).2) (q := q) (laysF pl S q).1
      have ih := laysF_sorted (pl := pl) (S := S) q
      generalize insPos pl (laysF pl S q).2 q (laysF pl S q).1 = z at *
      unfold insF
      by_cases h1 : i < z
      · rw [if_pos h1]
        by_cases h2 : j < z
        · rw [if_pos h2]
          exact ih i j hij (by omega)
        · rw [if_neg h2]
          by_cases h3 : j = z
          · rw [if_pos h3]
            exact Nat.le_trans (ih i (z - 1) (by omega) (by omega)) (g2 (by omega))
          · rw [if_neg h3]
            exact ih i (j - 1) (by omega) (by omega)
      · rw [if_neg h1, if_neg (show ¬ j < z by omega)]
        by_cases h3 : j = z
        · rw [if_pos h3, if_pos (by omega)]
          exact Nat.le_refl _
        · rw [if_neg h3]
          by_cases h4 : i = z
          · rw [if_pos h4]
            exact Nat.le_of_lt (g1 (j - 1) (by omega) (by omega))
          · rw [if_neg h4]
            exact ih (i - 1) (j - 1) (by omega) (by omega)
    · simp only [laysF, if_neg hb] at h ⊢
      exact laysF_sorted q i j hij h
theorem laysF_on {pl : Nat → Nat} {S : Nat} : ∀ n q, q < n → S.testBit q = true → ∃ k, k < (laysF pl S n).1 ∧ (laysF pl S n).2 k = q
  | 0, q, h, _ => absurd h (Nat.not_lt_zero q)
  | n + 1, q, h, hq => by
    by_cases hb : S.testBit n = true
    · simp only [laysF, if_pos hb]
      have hl := insPos_le (pl := pl) (s := (laysF pl S n).2) (q := n) (laysF pl S n).1
      generalize insPos pl (laysF pl S n).2 n (laysF pl S n).1 = z at *
      by_cases e : q = n
      · exact ⟨z, by omega, by unfold insF; rw [if_neg (by omega), if_pos rfl, e]⟩
      · obtain ⟨k, h1, h2⟩ := laysF_on (pl := pl) n q (by omega) hq
        by_cases h3 : k < z
        · exact ⟨k, by omega, by unfold insF; rw [if_pos h3, h2]⟩
        · refine ⟨k + 1, by omega, ?_⟩
          unfold insF
          rw [if_neg (by omega), if_neg (by omega)]
          exact h2
    · simp only [laysF, if_neg hb]
      refine laysF_on n q ?_ hq
      rcases Nat.lt_or_ge q n with z | z
      · exact z
      · have : q = n := by omega
        rw [this] at hq
        exact absurd hq hb
/-- the last one in its aisle, of d -/
def isLst (P : Nat → Nat) (d k : Nat) : Bool := decide (k + 1 = d) || decide (P (k + 1) / 100 ≠ P k / 100)
def thC (P : Nat → Nat) (d : Nat) : Nat → Nat
  | 0 => 0
  | k + 1 => if isLst P d k = true then thC P d k + 1 else thC P d k
def thA (P : Nat → Nat) (d : Nat) : Nat → Nat
  | 0 => 0
  | k + 1 => if isLst P d k = true then P k / 100 else thA P d k
def thM (P : Nat → Nat) (d m : Nat) : Nat → Nat
  | 0 => 0
  | k + 1 => if isLst P d k = true ∧ P k / 100 < m then thM P d m k + 1 else thM P d m k
def thE (P : Nat → Nat) (d m : Nat) : Nat → Nat
  | 0 => 0
  | k + 1 => if isLst P d k = true ∧ P k / 100 = m then thE P d m k + 1 else thE P d m k
theorem thM_succ {P : Nat → Nat} {d m : Nat} : ∀ k, thM P d (m + 1) k = thM P d m k + thE P d m k
  | 0 => rfl
  | k + 1 => by
    have ih := thM_succ (P := P) (d := d) (m := m) k
    unfold thM thE
    by_cases h1 : isLst P d k = true
    · by_cases h2 : P k / 100 = m
      · rw [if_pos ⟨h1, by omega⟩, if_neg (by omega), if_pos ⟨h1, h2⟩]
        omega
      · by_cases h3 : P k / 100 < m
        · rw [if_pos ⟨h1, by omega⟩, if_pos ⟨h1, h3⟩, if_neg (fun z => h2 z.2)]
          omega
        · rw [if_neg (fun z => by have := z.2; omega), if_neg (fun z => h3 z.2), if_neg (fun z => h2 z.2)]
          exact ih
    · rw [if_neg (fun z => h1 z.1), if_neg (fun z => h1 z.1), if_neg (fun z => h1 z.1)]
      exact ih
theorem thM_all {P : Nat → Nat} {d m : Nat} : ∀ k, (∀ j, j < k → P j / 100 < m) → thM P d m k = thC P d k
  | 0, _ => rfl
  | k + 1, h => by
    have ih := thM_all (P := P) (d := d) (m := m) k (fun j hj => h j (by omega))
    unfold thM thC
    by_cases h1 : isLst P d k = true
    · rw [if_pos ⟨h1, h k (by omega)⟩, if_pos h1, ih]
    · rw [if_neg (fun z => h1 z.1), if_neg h1, ih]
theorem thM_0 {P : Nat → Nat} {d : Nat} : ∀ k, thM P d 0 k = 0
  | 0 => rfl
  | k + 1 => by
    unfold thM
    rw [if_neg (fun z => absurd z.2 (Nat.not_lt_zero _))]
    exact thM_0 k
theorem thE_val {P : Nat → Nat} {d m : Nat} (hs : ∀ i j, i ≤ j → j < d → P i ≤ P j) : ∀ k, k ≤ d → ((∃ j, j < k ∧ P j / 100 = m) ∧ (k = d ∨ P k / 100 ≠ m) → thE P d m k = 1) ∧ (¬ ((∃ j, j < k ∧ P j / 100 = m) ∧ (k = d ∨ P k / 100 ≠ m)) → thE P d m k = 0)
  | 0, _ => ⟨fun h => by obtain ⟨⟨j, hj, -⟩, -⟩ := h; exact absurd hj (Nat.not_lt_zero j), fun _ => rfl⟩
  | k + 1, hk => by
    obtain ⟨i1, i2⟩ := thE_val (P := P) (d := d) (m := m) hs k (by omega)
    have hkd : ¬ k = d := by omega
    unfold thE
    by_cases h1 : P k / 100 = m
    · have h0 : thE P d m k = 0 := i2 (fun z => z.2.elim (fun e => hkd e) (fun e => e h1))
      rw [h0]
      by_cases h2 : k + 1 = d ∨ P (k + 1) / 100 ≠ m
      · have h3 : isLst P d k = true := by
          unfold isLst
          rcases h2 with h2 | h2
          · simp [h2]
          · have : P (k + 1) / 100 ≠ P k / 100 := by omega
            simp [this]
        rw [if_pos ⟨h3, h1⟩]
        exact ⟨fun _ => rfl, fun z => absurd ⟨⟨k, by omega, h1⟩, h2⟩ z⟩
      · have h3 : ¬ isLst P d k = true := by
          unfold isLst
          simp only [Bool.or_eq_true, decide_eq_true_eq]
          omega
        rw [if_neg (fun z => h3 z.1)]
        exact ⟨fun z => absurd z.2 h2, fun _ => rfl⟩
    · rw [if_neg (fun z => h1 z.2)]
      by_cases h2 : ∃ j, j < k ∧ P j / 100 = m
      · have h4 := i1 ⟨h2, Or.inr h1⟩
        obtain ⟨j, hj, hjm⟩ := h2
        have h3 : k + 1 = d ∨ P (k + 1) / 100 ≠ m := by
          by_cases e : k + 1 = d
          · exact Or.inl e
          · have a1 := hs j k (by omega) (by omega)
            have a2 := hs k (k + 1) (by omega) (by omega)
            have b1 : P j / 100 ≤ P k / 100 := Nat.div_le_div_right a1
            have b2 : P k / 100 ≤ P (k + 1) / 100 := Nat.div_le_div_right a2
            exact Or.inr (by omega)
        exact ⟨fun _ => h4, fun z => absurd ⟨⟨j, by omega, hjm⟩, h3⟩ z⟩
      · have h4 := i2 (fun z => h2 z.1)
        refine ⟨fun z => ?_, fun _ => h4⟩
        obtain ⟨⟨j, hj, hjm⟩, -⟩ := z
        by_cases e : j = k
        · rw [e] at hjm
          exact absurd hjm h1
        · exact absurd ⟨j, by omega, hjm⟩ h2
theorem thA_le {P : Nat → Nat} {d : Nat} (hs : ∀ i j, i ≤ j → j < d → P i ≤ P j) : ∀ k, k < d → thA P d k ≤ P k / 100
  | 0, _ => Nat.zero_le _
  | k + 1, hk => by
    have ih := thA_le hs k (by omega)
    have h1 : P k / 100 ≤ P (k + 1) / 100 := Nat.div_le_div_right (hs k (k + 1) (by omega) hk)
    unfold thA
    split <;> omega
/-! the farthest of an aisle -/
theorem farN_ge {ν : nS} {S a : Nat} : ∀ n q, q < n → S.testBit q = true → vPl ν q / 100 = a → vPl ν q % 100 ≤ farN ν S a n
  | 0, q, h, _, _ => absurd h (Nat.not_lt_zero q)
  | n + 1, q, h, hb, ha => by
    unfold farN
    by_cases e : q = n
    · subst e
      split
      · exact Nat.le_refl _
      · next h1 =>
        rcases Nat.lt_or_ge (farN ν S a q) (vPl ν q % 100) with z | z
        · exact absurd ⟨⟨hb, ha⟩, z⟩ h1
        · exact z
    · have ih := farN_ge (ν := ν) (S := S) (a := a) n q (by omega) hb ha
      split <;> omega
theorem farN_at {ν : nS} {S a : Nat} : ∀ n, farN ν S a n = 0 ∨ ∃ q, q < n ∧ S.testBit q = true ∧ vPl ν q / 100 = a ∧ vPl ν q % 100 = farN ν S a n
  | 0 => Or.inl rfl
  | n + 1 => by
    unfold farN
    split
    · next h1 => exact Or.inr ⟨n, by omega, h1.1.1, h1.1.2, rfl⟩
    · rcases farN_at (ν := ν) (S := S) (a := a) n with h | ⟨q, h1, h2, h3, h4⟩
      · exact Or.inl h
      · exact Or.inr ⟨q, by omega, h2, h3, h4⟩
theorem lastN_at {ν : nS} {S a : Nat} (h : 0 < farN ν S a 20) : ∀ m, a < m → (∀ b, a < b → b < m → farN ν S b 20 = 0) → lastN ν S m = a
  | 0, h1, _ => absurd h1 (Nat.not_lt_zero a)
  | m + 1, h1, h2 => by
    unfold lastN
    by_cases e : a = m
    · subst e
      rw [if_pos h]
    · rw [if_neg (by have := h2 m (by omega) (by omega); omega)]
      exact lastN_at h m (by omega) (fun b h3 h4 => h2 b h3 (by omega))
theorem lastN_0 {ν : nS} {S : Nat} : ∀ m, (∀ b, b < m → farN ν S b 20 = 0) → lastN ν S m = 0
  | 0, _ => rfl
  | m + 1, h => by
    unfold lastN
    rw [if_neg (by have := h m (by omega); omega)]
    exact lastN_0 m (fun b hb => h b (by omega))
section TH
variable {ν : nS} {S : Nat}
abbrev plP (ν : nS) (S : Nat) : Nat → Nat := fun k => vPl ν (stpN ν S k)
theorem plP_sorted : ∀ i j, i ≤ j → j < cntN ν S → plP ν S i ≤ plP ν S j := fun i j h1 h2 => laysF_sorted (pl := vPl ν) (S := S) 20 i j h1 h2
theorem far_iff (hp : ∀ q, q < 20 → S.testBit q = true → 1 ≤ vPl ν q % 100) (a : Nat) : 0 < farN ν S a 20 ↔ ∃ j, j < cntN ν S ∧ plP ν S j / 100 = a := by
  constructor
  · intro h
    rcases farN_at (ν := ν) (S := S) (a := a) 20 with e | ⟨q, h1, h2, h3, h4⟩
    · omega
    · obtain ⟨k, k1, k2⟩ := laysF_on (pl := vPl ν) 20 q h1 h2
      refine ⟨k, k1, ?_⟩
      show vPl ν (stpN ν S k) / 100 = a
      unfold stpN
      rw [k2]
      exact h3
  · rintro ⟨j, h1, h2⟩
    obtain ⟨a1, a2⟩ := laysF_in (pl := vPl ν) (S := S) 20 j h1
    have h3 := farN_ge (ν := ν) (S := S) (a := a) 20 _ a1 a2 h2
    have h4 := hp _ a1 a2
    omega
theorem with_eq (hp : ∀ q, q < 20 → S.testBit q = true → 1 ≤ vPl ν q % 100) : ∀ m, withN ν S m = thM (plP ν S) (cntN ν S) m (cntN ν S)
  | 0 => by rw [thM_0]; rfl
  | m + 1 => by
    have ih := with_eq hp m
    have hv := thE_val (P := plP ν S) (d := cntN ν S) (m := m) plP_sorted (cntN ν S) (Nat.le_refl _)
    rw [thM_succ, ← ih]
    conv => lhs; unfold withN
    by_cases h : 0 < farN ν S m 20
    · rw [if_pos h, hv.1 ⟨(far_iff hp m).mp h, Or.inl rfl⟩]
    · rw [if_neg h, hv.2 (fun z => h ((far_iff hp m).mpr z.1))]
      rfl
theorem with_C (hp : ∀ q, q < 20 → S.testBit q = true → 1 ≤ vPl ν q % 100) {A : Nat} (hA : ∀ j, j < cntN ν S → plP ν S j / 100 < A) : withN ν S A = thC (plP ν S) (cntN ν S) (cntN ν S) := by
  rw [with_eq hp A, thM_all _ hA]
theorem last_C (hp : ∀ q, q < 20 → S.testBit q = true → 1 ≤ vPl ν q % 100) {A : Nat} (hA : ∀ j, j < cntN ν S → plP ν S j / 100 < A) (h0 : 0 < cntN ν S) : lastN ν S A = plP ν S (cntN ν S - 1) / 100 := by
  refine lastN_at ((far_iff hp _).mpr ⟨cntN ν S - 1, by omega, rfl⟩) A (hA _ (by omega)) (fun b h1 h2 => ?_)
  rcases Nat.eq_zero_or_pos (farN ν S b 20) with h | h
  · exact h
  · obtain ⟨j, j1, j2⟩ := (far_iff hp b).mp h
    have h3 := plP_sorted (ν := ν) (S := S) j (cntN ν S - 1) (by omega) (by omega)
    have h4 : plP ν S j / 100 ≤ plP ν S (cntN ν S - 1) / 100 := Nat.div_le_div_right h3
    omega
theorem far_C (h0 : 0 < cntN ν S) : farN ν S (plP ν S (cntN ν S - 1) / 100) 20 = plP ν S (cntN ν S - 1) % 100 := by
  obtain ⟨a1, a2⟩ := laysF_in (pl := vPl ν) (S := S) 20 (cntN ν S - 1) (by show _ < cntN ν S; omega)
  have h1 : plP ν S (cntN ν S - 1) % 100 ≤ farN ν S (plP ν S (cntN ν S - 1) / 100) 20 := farN_ge 20 _ a1 a2 rfl
  rcases farN_at (ν := ν) (S := S) (a := plP ν S (cntN ν S - 1) / 100) 20 with e | ⟨q, q1, q2, q3, q4⟩
  · omega
  · obtain ⟨k, k1, k2⟩ := laysF_on (pl := vPl ν) 20 q q1 q2
    have h3 := plP_sorted (ν := ν) (S := S) k (cntN ν S - 1) (by have : k < cntN ν S := k1; omega) (by omega)
    have h4 : plP ν S k = vPl ν q := by
      show vPl ν (stpN ν S k) = _
      unfold stpN
      rw [k2]
    rw [h4] at h3
    omega
theorem no_C (hp : ∀ q, q < 20 → S.testBit q = true → 1 ≤ vPl ν q % 100) (h0 : cntN ν S = 0) : ∀ m, withN ν S m = 0 ∧ lastN ν S m = 0 := by
  have hz : ∀ b, farN ν S b 20 = 0 := by
    intro b
    rcases Nat.eq_zero_or_pos (farN ν S b 20) with h | h
    · exact h
    · obtain ⟨j, j1, -⟩ := (far_iff hp b).mp h
      omega
  intro m
  refine ⟨?_, lastN_0 m (fun b _ => hz b)⟩
  rw [with_eq hp m, h0]
  rfl
end TH
