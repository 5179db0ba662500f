/-! PLAIN FUNCTIONS (5): the operations that change the state -/
def vSetC (ν : nS) (i v : Nat) : nS := (va_up ν.1 i v, ν.2)
def vSetP (ν : nS) (i v : Nat) : nS := (ν.1, va_up ν.2.1 i v, ν.2.2)
def takenN (ν : nS) (i to : Nat) : Nat → Bool
  | 0 => false
  | o + 1 => takenN ν i to o || (decide (o ≠ i) && decide (vPl ν o = to))
def opPut (ν : nS) (p a q : Int32) : opT := match xr p 20 with
  | some i => match xr a (vC ν 0) with
    | some j => match xr (q - 1) (vC ν 1) with
      | some k => if takenN ν i (100 * j + (k + 1)) 20 = true ∨ 0 < vC ν 5 then (2, 0, ν) else (0, eP (vPl ν i), vSetP ν i (100 * j + (k + 1)))
      | none => (1, 0, ν)
    | none => (1, 0, ν)
  | none => (1, 0, ν)
def vAdd (ν : nS) (d : Nat) : nS := (va_up ν.1 4 (vC ν 4 + 1), ν.2.1, va_up (vDue ν) (vC ν 4) d, va_up (vSt ν) (vC ν 4) 0, va_up (vBt ν) (vC ν 4) 0, va_up (vMn ν) (vC ν 4) 0, ν.2.2.2.2.2.2)
def opOrder (ν : nS) (p : Int32) : opT := match xr p 1000 with
  | some d => if vC ν 4 = 40 then (2, 0, ν) else (0, nI (vC ν 4), vAdd ν d)
  | none => (1, 0, ν)
def vLine (ν : nS) (o p c : Nat) : nS := (ν.1, ν.2.1, ν.2.2.1, ν.2.2.2.1, ν.2.2.2.2.1, va_up (vMn ν) o (vMn ν o + 1), fun a k => if a = o ∧ k = vMn ν o then p else vPr ν a k, fun a k => if a = o ∧ k = vMn ν o then c else vQt ν a k)
def opLine (ν : nS) (o p c : Int32) : opT := match xr o (vC ν 4) with
  | some i => match xr p 20 with
    | some q => match xr (c - 1) 99 with
      | some k => if vSt ν i ≠ 0 ∨ vMn ν i = 5 ∨ vC ν 3 ≤ vMn ν i ∨ (wantN ν i).testBit q = true ∨ vPl ν q = 0 then (3, 0, ν) else (0, nI (vMn ν i + 1), vLine ν i q (k + 1))
      | none => (2, 0, ν)
    | none => (1, 0, ν)
  | none => (1, 0, ν)
def canN (ν : nS) (n : Nat) : Nat → Bool
  | 0 => decide (vC ν 5 = 0)
  | o + 1 => canN ν n o && (decide (vSt ν o = 2) || decide (vMn ν o ≤ n))
def opSetCap (ν : nS) (p : Int32) : opT := match xr (p - 1) 9 with
  | some k => if canN ν (k + 1) (vC ν 4) = true then (0, nI (vC ν 3), vSetC ν 3 (k + 1)) else (2, 0, ν)
  | none => (1, 0, ν)
/-- whether an order goes into the wave, how many of the first n do, and the state behind -/
def takeB (ν : nS) (t o : Nat) : Bool := decide (vSt ν o = 0) && (decide (0 < vMn ν o) && decide (vDue ν o ≤ t))
def cntP (ν : nS) (t : Nat) : Nat → Nat
  | 0 => 0
  | o + 1 => if takeB ν t o = true then cntP ν t o + 1 else cntP ν t o
def waveN (ν : nS) (t n : Nat) : nS := (va_up ν.1 5 (cntP ν t n), ν.2.1, ν.2.2.1, (fun o => if o < n ∧ takeB ν t o = true then 1 else vSt ν o), (fun o => if o < n ∧ takeB ν t o = true then cntP ν t o + 1 else vBt ν o), ν.2.2.2.2.2)
def joinAll (ν : nS) : Nat → nS
  | 0 => ν
  | n + 1 => match joinsN ν with
    | none => ν
    | some ν' => joinAll ν' n
def planS (ν : nS) (t : Nat) : nS := joinAll (waveN ν t (vC ν 4)) 40
def opPlan (ν : nS) (p : Int32) : opT := match xr p 1000 with
  | some t => if 0 < vC ν 5 ∨ cntP ν t (vC ν 4) = 0 then (2, 0, ν) else (0, nI (vC (planS ν t) 5), planS ν t)
  | none => (1, 0, ν)
/-- what the orders of a batch cost alone, of the first n -/
def aloneN (ν : nS) (b : Nat) : Nat → Nat
  | 0 => 0
  | o + 1 => if vBt ν o = b + 1 then aloneN ν b o + lenN ν (wantN ν o) else aloneN ν b o
def pickN (ν : nS) (b n : Nat) : nS := (va_up ν.1 7 (vC ν 7 + aloneN ν b n), ν.2.1, ν.2.2.1, (fun o => if o < n ∧ vBt ν o = b + 1 then 2 else vSt ν o), (fun o => if o < n ∧ vBt ν o = b + 1 then 0 else vBt ν o), ν.2.2.2.2.2)
def pickS (ν : nS) (b : Nat) : nS :=
  let ν1 := vSetC (pickN ν b (vC ν 4)) 6 (vC ν 6 + lenN ν (pAll ν b))
  vSetB ν1 (vC ν 5 - 1) (closeN ν1 b (vC ν 4))
def opPick (ν : nS) (p : Int32) : opT := match xr p (vC ν 5) with
  | some b => (0, nI (lenN ν (pAll ν b)), pickS ν b)
  | none => (1, 0, ν)
/-- an int less one, as an index -/
theorem xr_pred {v : Int32} {n : Nat} (hn : n < 2 ^ 31) : (if (1 : Int32) ≤ v ∧ v ≤ nI n then (1 : Int32) else 0) = if (xr (v - 1) n).isSome = true then 1 else 0 := by
  have h1 := Int32.le_toInt v
  have h2 := Int32.toInt_lt v
  have h3 : (v - 1).toInt = (v.toInt - 1).bmod (2 ^ 32) := Int32.toInt_sub v 1
  have h4 : (1 : Int32).toInt = 1 := by decide
  rw [Int.bmod_def] at h3
  unfold xr
  have h5 : ((1 : Int32) ≤ v ∧ v ≤ nI n) ↔ (1 ≤ v.toInt ∧ v.toInt ≤ (n : Int)) := by
    rw [Int32.le_iff_toInt_le, Int32.le_iff_toInt_le, nI_toInt hn, h4]
  by_cases h : 0 ≤ (v - 1).toInt ∧ (v - 1).toInt < (n : Int)
  · rw [if_pos h, if_pos]
    · rfl
    · rw [h5]
      split at h3 <;> omega
  · rw [if_neg h, if_neg]
    · rfl
    · rw [h5]
      split at h3 <;> omega
theorem xr_pred_some {v : Int32} {n i : Nat} (hn : n < 2 ^ 31) (h : xr (v - 1) n = some i) : i < n ∧ v = nI (i + 1) := by
  obtain ⟨h1, h2⟩ := xr_some hn h
  refine ⟨h1, ?_⟩
  have : v = (v - 1) + 1 := (Int32.sub_add_cancel v 1).symm
  rw [this, h2]
  exact nI_1 i
