/-! THE SYSTEM's STATE AS NUMBERS, and how the reference holds it -/
/-- c: 0 aisles, 1 positions, 2 gap, 3 capacity, 4 orders, 5 batches, 6 walked, 7 alone; then place (0: none), due, state, batch (0: none, b+1), many; product and quantity by order and line -/
abbrev nS : Type := (Nat → Nat) × (Nat → Nat) × (Nat → Nat) × (Nat → Nat) × (Nat → Nat) × (Nat → Nat) × (Nat → Nat → Nat) × (Nat → Nat → Nat)
abbrev vC (ν : nS) : Nat → Nat := ν.1
abbrev vPl (ν : nS) : Nat → Nat := ν.2.1
abbrev vDue (ν : nS) : Nat → Nat := ν.2.2.1
abbrev vSt (ν : nS) : Nat → Nat := ν.2.2.2.1
abbrev vBt (ν : nS) : Nat → Nat := ν.2.2.2.2.1
abbrev vMn (ν : nS) : Nat → Nat := ν.2.2.2.2.2.1
abbrev vPr (ν : nS) : Nat → Nat → Nat := ν.2.2.2.2.2.2.1
abbrev vQt (ν : nS) : Nat → Nat → Nat := ν.2.2.2.2.2.2.2
def eP (v : Nat) : Int32 := if v = 0 then -1 else nI v
def eB (v : Nat) : Int32 := if v = 0 then -1 else nI (v - 1)
/-- a place that can be: aisle and position within -/
def okPl (A P v : Nat) : Prop := v / 100 < A ∧ 1 ≤ v % 100 ∧ v % 100 ≤ P
def vOk (ν : nS) : Prop := (1 ≤ vC ν 0 ∧ vC ν 0 ≤ 6) ∧ (1 ≤ vC ν 1 ∧ vC ν 1 ≤ 20) ∧ (1 ≤ vC ν 2 ∧ vC ν 2 ≤ 9) ∧ (1 ≤ vC ν 3 ∧ vC ν 3 ≤ 9) ∧ vC ν 4 ≤ 40 ∧ vC ν 5 ≤ 40 ∧
  (∀ p, p < 20 → vPl ν p = 0 ∨ okPl (vC ν 0) (vC ν 1) (vPl ν p)) ∧
  (∀ o, o < vC ν 4 → vDue ν o ≤ 999 ∧ vSt ν o ≤ 2 ∧ vBt ν o ≤ vC ν 5 ∧ vMn ν o ≤ 5 ∧ ∀ k, k < vMn ν o → vPr ν o k < 20 ∧ 1 ≤ vQt ν o k ∧ vQt ν o k ≤ 99 ∧ vPl ν (vPr ν o k) ≠ 0)
def mRc (ν : nS) (μ : mS) : Prop := μ.1 1 = nI (vC ν 0) ∧ μ.1 2 = nI (vC ν 1) ∧ μ.1 3 = nI (vC ν 2) ∧ μ.1 4 = nI (vC ν 3) ∧ μ.1 6 = nI (vC ν 4) ∧ μ.1 13 = nI (vC ν 5) ∧ μ.1 14 = nI (vC ν 6) ∧ μ.2.2 = lN (vC ν 7)
def mRa (ν : nS) (μ : mS) : Prop := (∀ p, p < 20 → μ.2.1 5 p = eP (vPl ν p)) ∧
  (∀ o, o < vC ν 4 → μ.2.1 7 o = nI (vDue ν o) ∧ μ.2.1 8 o = nI (vSt ν o) ∧ μ.2.1 9 o = eB (vBt ν o) ∧ μ.2.1 10 o = nI (vMn ν o)) ∧
  (∀ o, o < vC ν 4 → ∀ k, k < vMn ν o → μ.2.1 11 (5 * o + k) = nI (vPr ν o k) ∧ μ.2.1 12 (5 * o + k) = nI (vQt ν o k))
/-- the reference's cells hold the state -/
def mR (ν : nS) (μ : mS) : Prop := vOk ν ∧ mRc ν μ ∧ mRa ν μ
section MR
variable {ν : nS} {μ : mS}
theorem mR.A (h : mR ν μ) : μ.1 1 = nI (vC ν 0) ∧ 1 ≤ vC ν 0 ∧ vC ν 0 ≤ 6 := ⟨h.2.1.1, h.1.1⟩
theorem mR.P (h : mR ν μ) : μ.1 2 = nI (vC ν 1) ∧ 1 ≤ vC ν 1 ∧ vC ν 1 ≤ 20 := ⟨h.2.1.2.1, h.1.2.1⟩
theorem mR.G (h : mR ν μ) : μ.1 3 = nI (vC ν 2) ∧ 1 ≤ vC ν 2 ∧ vC ν 2 ≤ 9 := ⟨h.2.1.2.2.1, h.1.2.2.1⟩
theorem mR.cap (h : mR ν μ) : μ.1 4 = nI (vC ν 3) ∧ 1 ≤ vC ν 3 ∧ vC ν 3 ≤ 9 := ⟨h.2.1.2.2.2.1, h.1.2.2.2.1⟩
theorem mR.N (h : mR ν μ) : μ.1 6 = nI (vC ν 4) ∧ vC ν 4 ≤ 40 := ⟨h.2.1.2.2.2.2.1, h.1.2.2.2.2.1⟩
theorem mR.B (h : mR ν μ) : μ.1 13 = nI (vC ν 5) ∧ vC ν 5 ≤ 40 := ⟨h.2.1.2.2.2.2.2.1, h.1.2.2.2.2.2.1⟩
theorem mR.wk (h : mR ν μ) : μ.1 14 = nI (vC ν 6) := h.2.1.2.2.2.2.2.2.1
theorem mR.al (h : mR ν μ) : μ.2.2 = lN (vC ν 7) := h.2.1.2.2.2.2.2.2.2
theorem mR.pl (h : mR ν μ) {q : Nat} (hq : q < 20) : μ.2.1 5 q = eP (vPl ν q) := h.2.2.1 q hq
theorem mR.plOk (h : mR ν μ) {q : Nat} (hq : q < 20) : vPl ν q = 0 ∨ okPl (vC ν 0) (vC ν 1) (vPl ν q) := h.1.2.2.2.2.2.2.1 q hq
theorem mR.ord (h : mR ν μ) {o : Nat} (ho : o < vC ν 4) : μ.2.1 7 o = nI (vDue ν o) ∧ μ.2.1 8 o = nI (vSt ν o) ∧ μ.2.1 9 o = eB (vBt ν o) ∧ μ.2.1 10 o = nI (vMn ν o) := h.2.2.2.1 o ho
theorem mR.due (h : mR ν μ) {o : Nat} (ho : o < vC ν 4) : μ.2.1 7 o = nI (vDue ν o) ∧ vDue ν o ≤ 999 := ⟨(h.ord ho).1, (h.1.2.2.2.2.2.2.2 o ho).1⟩
theorem mR.st (h : mR ν μ) {o : Nat} (ho : o < vC ν 4) : μ.2.1 8 o = nI (vSt ν o) ∧ vSt ν o ≤ 2 := ⟨(h.ord ho).2.1, (h.1.2.2.2.2.2.2.2 o ho).2.1⟩
theorem mR.bt (h : mR ν μ) {o : Nat} (ho : o < vC ν 4) : μ.2.1 9 o = eB (vBt ν o) ∧ vBt ν o ≤ vC ν 5 := ⟨(h.ord ho).2.2.1, (h.1.2.2.2.2.2.2.2 o ho).2.2.1⟩
theorem mR.mn (h : mR ν μ) {o : Nat} (ho : o < vC ν 4) : μ.2.1 10 o = nI (vMn ν o) ∧ vMn ν o ≤ 5 := ⟨(h.ord ho).2.2.2, (h.1.2.2.2.2.2.2.2 o ho).2.2.2.1⟩
theorem mR.pr (h : mR ν μ) {o k : Nat} (ho : o < vC ν 4) (hk : k < vMn ν o) : μ.2.1 11 (5 * o + k) = nI (vPr ν o k) ∧ vPr ν o k < 20 := ⟨(h.2.2.2.2 o ho k hk).1, ((h.1.2.2.2.2.2.2.2 o ho).2.2.2.2 k hk).1⟩
theorem mR.qt (h : mR ν μ) {o k : Nat} (ho : o < vC ν 4) (hk : k < vMn ν o) : μ.2.1 12 (5 * o + k) = nI (vQt ν o k) ∧ 1 ≤ vQt ν o k ∧ vQt ν o k ≤ 99 := ⟨(h.2.2.2.2 o ho k hk).2, ((h.1.2.2.2.2.2.2.2 o ho).2.2.2.2 k hk).2.1, ((h.1.2.2.2.2.2.2.2 o ho).2.2.2.2 k hk).2.2.1⟩
theorem mR.prPl (h : mR ν μ) {o k : Nat} (ho : o < vC ν 4) (hk : k < vMn ν o) : vPl ν (vPr ν o k) ≠ 0 := ((h.1.2.2.2.2.2.2.2 o ho).2.2.2.2 k hk).2.2.2
end MR
theorem okPl.lt {A P v : Nat} (h : okPl A P v) (hA : A ≤ 6) (hP : P ≤ 20) : v < 600 ∧ v ≠ 0 ∧ v % 100 ≤ P := by
  obtain ⟨h1, h2, h3⟩ := h
  omega
theorem eP_pos {v : Nat} (h : v ≠ 0) : eP v = nI v := by simp [eP, h]
theorem eP_0 : eP 0 = -1 := rfl
theorem nI_m1 {n : Nat} (h : n < 2 ^ 31) : nI n ≠ -1 := by
  intro e
  have h1 := nI_toInt h
  rw [e] at h1
  have h2 : (-1 : Int32).toInt = -1 := by decide
  omega
theorem eP_eq {a b : Nat} (ha : a < 2 ^ 31) (hb : b < 2 ^ 31) : eP a = eP b ↔ a = b := by
  unfold eP
  by_cases h1 : a = 0 <;> by_cases h2 : b = 0
  · simp [h1, h2]
  · simp only [if_pos h1, if_neg h2]
    exact ⟨fun e => absurd e.symm (nI_m1 hb), fun e => absurd (e ▸ h1) h2⟩
  · simp only [if_neg h1, if_pos h2]
    exact ⟨fun e => absurd e (nI_m1 ha), fun e => absurd (e ▸ h2) h1⟩
  · simp only [if_neg h1, if_neg h2]
    exact nI_eq ha hb
theorem eB_eq {a b : Nat} (ha : a < 2 ^ 31) (hb : b < 2 ^ 31) : eB a = eB b ↔ a = b := by
  unfold eB
  by_cases h1 : a = 0 <;> by_cases h2 : b = 0
  · simp [h1, h2]
  · simp only [if_pos h1, if_neg h2]
    exact ⟨fun e => absurd e.symm (nI_m1 (by omega)), fun e => absurd (e ▸ h1) h2⟩
  · simp only [if_neg h1, if_pos h2]
    exact ⟨fun e => absurd e (nI_m1 (by omega)), fun e => absurd (e ▸ h2) h1⟩
  · simp only [if_neg h1, if_neg h2]
    rw [nI_eq (by omega) (by omega)]
    omega
