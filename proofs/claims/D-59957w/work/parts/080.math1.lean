/-! PLAIN FUNCTIONS: what both programs compute (1): ranges, sets, sums -/
/-- an int as an index below n -/
def xr (p : Int32) (n : Nat) : Option Nat := if 0 ≤ p.toInt ∧ p.toInt < (n : Int) then some p.toInt.toNat else none
theorem xr_some {p : Int32} {n i : Nat} (hn : n < 2 ^ 31) (h : xr p n = some i) : i < n ∧ p = nI i := by
  unfold xr at h
  split at h
  · next h1 =>
    cases h
    refine ⟨by omega, ?_⟩
    apply Int32.toInt_inj.mp
    rw [nI_toInt (by omega)]
    omega
  · cases h
theorem xr_none {p : Int32} {n : Nat} (h : xr p n = none) : p.toInt < 0 ∨ (n : Int) ≤ p.toInt := by
  unfold xr at h
  split at h
  · cases h
  · omega
theorem xr_nI {n i : Nat} (hn : n < 2 ^ 31) (h : i < n) : xr (nI i) n = some i := by
  unfold xr
  rw [nI_toInt (by omega), if_pos (by omega)]
  simp
/-- the set of f 0 .. f (n - 1) -/
def orM (f : Nat → Nat) : Nat → Nat
  | 0 => 0
  | k + 1 => orM f k ||| (1 <<< f k)
def wantN (ν : nS) (o : Nat) : Nat := orM (vPr ν o) (vMn ν o)
/-- the products of a batch, out of the first n orders -/
def prodsN (ν : nS) (b : Nat) : Nat → Nat
  | 0 => 0
  | o + 1 => if vBt ν o = b + 1 then prodsN ν b o ||| wantN ν o else prodsN ν b o
def linesN (ν : nS) (b : Nat) : Nat → Nat
  | 0 => 0
  | o + 1 => if vBt ν o = b + 1 then linesN ν b o + vMn ν o else linesN ν b o
/-- what one order has of a product, by its first n lines -/
def hasN (ν : nS) (o q : Nat) : Nat → Nat
  | 0 => 0
  | k + 1 => if vPr ν o k = q then hasN ν o q k + vQt ν o k else hasN ν o q k
/-- how often a product was asked, by the first n orders that are done -/
def turnN (ν : nS) (q : Nat) : Nat → Nat
  | 0 => 0
  | o + 1 => if vSt ν o = 2 then turnN ν q o + hasN ν o q (vMn ν o) else turnN ν q o
theorem shl_lt {a : Nat} (h : a < 20) : 1 <<< a < 2 ^ 20 := by
  rw [Nat.shiftLeft_eq, Nat.one_mul]
  exact Nat.pow_lt_pow_right (by decide) h
theorem orM_lt {f : Nat → Nat} : ∀ n, (∀ k, k < n → f k < 20) → orM f n < 2 ^ 20
  | 0, _ => by simp [orM]
  | n + 1, h => Nat.or_lt_two_pow (orM_lt n (fun k hk => h k (by omega))) (shl_lt (h n (by omega)))
theorem hasN_le {ν : nS} {o q : Nat} : ∀ n, (∀ k, k < n → vQt ν o k ≤ 99) → hasN ν o q n ≤ 99 * n
  | 0, _ => by simp [hasN]
  | n + 1, h => by
    have h1 := hasN_le (q := q) n (fun k hk => h k (by omega))
    have h2 := h n (by omega)
    unfold hasN
    split <;> omega
def mAg (μ u : mS) : Prop := (∀ k, k ≠ 16 → u.1 k = μ.1 k) ∧ (∀ k, k < 17 → u.2.1 k = μ.2.1 k) ∧ u.2.2 = μ.2.2
theorem mAg.rf {μ : mS} : mAg μ μ := ⟨fun _ _ => rfl, fun _ _ => rfl, rfl⟩
theorem mAg.tr {μ u v : mS} (h : mAg μ u) (h2 : mAg u v) : mAg μ v := ⟨fun k hk => (h2.1 k hk).trans (h.1 k hk), fun k hk => (h2.2.1 k hk).trans (h.2.1 k hk), h2.2.2.trans h.2.2⟩
theorem mAg.i16 {μ u : mS} {v : Int32} (h : mAg μ u) : mAg μ (m_setI u 16 v) := ⟨fun k hk => by rw [← h.1 k hk]; exact va_up_n hk, h.2.1, h.2.2⟩
theorem mAg.a {μ u : mS} {k : Nat} {f : Nat → Int32} (hk : 17 ≤ k) (h : mAg μ u) : mAg μ (m_setA u k f) := ⟨h.1, fun j hj => by rw [← h.2.1 j hj]; exact va_up_n (by omega), h.2.2⟩
theorem mAg.R {ν : nS} {μ u : mS} (h : mAg μ u) (hR : mR ν μ) : mR ν u := by
  obtain ⟨h1, h2, h3⟩ := h
  obtain ⟨r1, r2, r3⟩ := hR
  refine ⟨r1, ?_, ?_⟩
  · unfold mRc at *
    rw [h1 1 (by decide), h1 2 (by decide), h1 3 (by decide), h1 4 (by decide), h1 6 (by decide), h1 13 (by decide), h1 14 (by decide), h3]
    exact r2
  · unfold mRa at *
    rw [h2 5 (by decide), h2 7 (by decide), h2 8 (by decide), h2 9 (by decide), h2 10 (by decide), h2 11 (by decide), h2 12 (by decide)]
    exact r3
/-- only 'thrown' changes -/
theorem mR_thrown {ν : nS} {μ : mS} {v : Int32} (hR : mR ν μ) : mR ν (m_setI μ 0 v) := hR
theorem pw32 {y : Nat} (h : y < 31) : 1 * 2 ^ y < 2 ^ 32 := by
  rw [Nat.one_mul]
  exact Nat.pow_lt_pow_right (by decide) (by omega)
theorem eB_nI {v b : Nat} (hv : v < 2 ^ 31) (hb : b < 2 ^ 31) : eB v = nI b ↔ v = b + 1 := by
  unfold eB
  by_cases h : v = 0
  · rw [if_pos h]
    exact ⟨fun e => absurd e.symm (nI_m1 hb), fun e => by omega⟩
  · rw [if_neg h, nI_eq (by omega) hb]
    omega
/-- the way between two places (0: the start) -/
def wayN (G P a b : Nat) : Nat :=
  if a / 100 = b / 100 then (if a % 100 < b % 100 then b % 100 - a % 100 else a % 100 - b % 100)
  else (if b / 100 ≤ a / 100 then a / 100 - b / 100 else b / 100 - a / 100) * G + (if a % 100 + b % 100 < 2 * (P + 1) - (a % 100 + b % 100) then a % 100 + b % 100 else 2 * (P + 1) - (a % 100 + b % 100))
/-- the batch numbers when all behind b move up, of the first n orders -/
def closeN (ν : nS) (b n : Nat) : Nat → Nat := fun o => if o < n ∧ b + 1 < vBt ν o then vBt ν o - 1 else vBt ν o
/-- the state with other batches -/
def vSetB (ν : nS) (nb : Nat) (bt : Nat → Nat) : nS := (va_up ν.1 5 nb, ν.2.1, ν.2.2.1, ν.2.2.2.1, bt, ν.2.2.2.2.2)
theorem vSetB_self (ν : nS) : vSetB ν (vC ν 5) (vBt ν) = ν := by
  unfold vSetB
  have : va_up ν.1 5 (vC ν 5) = ν.1 := by
    funext k
    by_cases h : k = 5
    · subst h; rw [va_up_s]
    · rw [va_up_n h]
  rw [this]
