/-! PLAIN FUNCTIONS (7): laying the products out anew -/
def posG (f : Nat → Bool) : Nat → Nat
  | 0 => 0
  | k + 1 => if f k = true then posG f k else k + 1
theorem posG_le {f : Nat → Bool} : ∀ k, posG f k ≤ k
  | 0 => Nat.le_refl _
  | k + 1 => by
    unfold posG
    split
    · have := posG_le (f := f) k
      omega
    · exact Nat.le_refl _
abbrev tvN (ν : nS) (q : Nat) : Nat := turnN ν q (vC ν 4)
abbrev w0N (ν : nS) (v : Nat) : Nat := wayN (vC ν 2) (vC ν 1) 0 v
/-- the one that comes later makes room for x -/
def rankB (ν : nS) (q r : Nat) : Bool := decide (tvN ν r < tvN ν q)
def spotB (ν : nS) (x y : Nat) : Bool := decide (w0N ν x < w0N ν y) || (decide (w0N ν x = w0N ν y) && decide (x < y))
/-- how many products have a place, the products by what is asked most, the places by what is nearest, of the first q -/
def layF (ν : nS) : Nat → Nat × (Nat → Nat) × (Nat → Nat)
  | 0 => (0, (fun _ => 0), (fun _ => 0))
  | q + 1 => if vPl ν q = 0 then layF ν q else
    ((layF ν q).1 + 1, insF (layF ν q).2.1 q (posG (fun k => rankB ν q ((layF ν q).2.1 k)) (layF ν q).1), insF (layF ν q).2.2 (vPl ν q) (posG (fun k => spotB ν (vPl ν q) ((layF ν q).2.2 k)) (layF ν q).1))
def applyF (ν : nS) : Nat → Nat × (Nat → Nat)
  | 0 => (0, vPl ν)
  | k + 1 => ((applyF ν k).1 + (if (applyF ν k).2 ((layF ν 20).2.1 k) = (layF ν 20).2.2 k then 0 else 1), va_up (applyF ν k).2 ((layF ν 20).2.1 k) ((layF ν 20).2.2 k))
def vSetPl (ν : nS) (f : Nat → Nat) : nS := (ν.1, f, ν.2.2)
def opLayOut (ν : nS) : opT := if 0 < vC ν 5 then (1, 0, ν) else (0, nI (applyF ν (layF ν 20).1).1, vSetPl ν (applyF ν (layF ν 20).1).2)
theorem turnN_le {ν : nS} (hV : vOk ν) {q : Nat} : ∀ n, n ≤ vC ν 4 → turnN ν q n ≤ 495 * n
  | 0, _ => Nat.le_refl _
  | n + 1, h => by
    have ih := turnN_le hV (q := q) n (by omega)
    have h1 := hV.2.2.2.2.2.2.2 n (by omega)
    have h2 := hasN_le (q := q) (vMn ν n) (fun k hk => (h1.2.2.2.2 k hk).2.2.1)
    have h3 := h1.2.2.2.1
    unfold turnN
    split <;> omega
theorem layF_in {ν : nS} : ∀ q, (layF ν q).1 ≤ q ∧ ∀ k, k < (layF ν q).1 → ((layF ν q).2.1 k < q ∧ ∃ x, x < q ∧ (layF ν q).2.2 k = vPl ν x ∧ vPl ν x ≠ 0)
  | 0 => ⟨Nat.le_refl _, fun k hk => absurd hk (Nat.not_lt_zero k)⟩
  | q + 1 => by
    obtain ⟨h1, h2⟩ := layF_in (ν := ν) q
    unfold layF
    split
    · exact ⟨by omega, fun k hk => by
        obtain ⟨a, x, b, e⟩ := h2 k hk
        exact ⟨by omega, x, by omega, e⟩⟩
    · next hp =>
      refine ⟨by show (layF ν q).1 + 1 ≤ q + 1; omega, fun k hk => ?_⟩
      have hk : k < (layF ν q).1 + 1 := hk
      show insF (layF ν q).2.1 q (posG (fun k => rankB ν q ((layF ν q).2.1 k)) (layF ν q).1) k < q + 1 ∧ ∃ x, x < q + 1 ∧ insF (layF ν q).2.2 (vPl ν q) (posG (fun k => spotB ν (vPl ν q) ((layF ν q).2.2 k)) (layF ν q).1) k = vPl ν x ∧ vPl ν x ≠ 0
      have l1 := posG_le (f := fun k => rankB ν q ((layF ν q).2.1 k)) (layF ν q).1
      have l2 := posG_le (f := fun k => spotB ν (vPl ν q) ((layF ν q).2.2 k)) (layF ν q).1
      refine ⟨?_, ?_⟩
      · unfold insF
        split
        · have := (h2 k (by omega)).1
          omega
        · split
          · omega
          · have := (h2 (k - 1) (by omega)).1
            omega
      · unfold insF
        split
        · obtain ⟨a, x, b, e⟩ := h2 k (by omega)
          exact ⟨x, by omega, e⟩
        · split
          · exact ⟨q, by omega, rfl, hp⟩
          · obtain ⟨a, x, b, e⟩ := h2 (k - 1) (by omega)
            exact ⟨x, by omega, e⟩
