/-! PLAIN FUNCTIONS (4): the operations: (code of what is thrown, answer, state behind) -/
abbrev opT : Type := Nat × Int32 × nS
def mOp (t : opT) (r : Int32) (u : mS) : Prop := u.1 0 = nI t.1 ∧ r = t.2.1 ∧ mR t.2.2 u
def opPlaceOf (ν : nS) (p : Int32) : opT := match xr p 20 with
  | some q => (0, eP (vPl ν q), ν)
  | none => (1, 0, ν)
def opTurnover (ν : nS) (p : Int32) : opT := match xr p 20 with
  | some q => (0, nI (turnN ν q (vC ν 4)), ν)
  | none => (1, 0, ν)
def opDistance (ν : nS) (p p2 : Int32) : opT := match xr p 20 with
  | some a => match xr p2 20 with
    | some b => if vPl ν a = 0 ∨ vPl ν b = 0 then (2, 0, ν) else (0, nI (wayN (vC ν 2) (vC ν 1) (vPl ν a) (vPl ν b)), ν)
    | none => (1, 0, ν)
  | none => (1, 0, ν)
def opStateOf (ν : nS) (p : Int32) : opT := match xr p (vC ν 4) with
  | some o => (0, nI (vSt ν o), ν)
  | none => (1, 0, ν)
def opLengthAlone (ν : nS) (p : Int32) : opT := match xr p (vC ν 4) with
  | some o => (0, nI (lenN ν (wantN ν o)), ν)
  | none => (1, 0, ν)
def opBatchOf (ν : nS) (p : Int32) : opT := match xr p (vC ν 4) with
  | some o => (0, eB (vBt ν o), ν)
  | none => (1, 0, ν)
def opLinesOf (ν : nS) (p : Int32) : opT := match xr p (vC ν 5) with
  | some b => (0, nI (lAll ν b), ν)
  | none => (1, 0, ν)
def opLengthOf (ν : nS) (p : Int32) : opT := match xr p (vC ν 5) with
  | some b => (0, nI (lenN ν (pAll ν b)), ν)
  | none => (1, 0, ν)
def opByTrying (ν : nS) (p : Int32) : opT := match xr p (vC ν 5) with
  | some b => if 7 < cntN ν (pAll ν b) then (2, 0, ν) else (0, nI (lenN ν (pAll ν b)), ν)
  | none => (1, 0, ν)
def opStops (ν : nS) (p : Int32) : opT := match xr p (vC ν 5) with
  | some b => (0, nI (cntN ν (pAll ν b)), ν)
  | none => (1, 0, ν)
def opStopAt (ν : nS) (p k : Int32) : opT := match xr p (vC ν 5) with
  | some b => match xr k (cntN ν (pAll ν b)) with
    | some i => (0, nI (ptN ν (pAll ν b) (pathN ν (pAll ν b) (i + 1)).2), ν)
    | none => (1, 0, ν)
  | none => (1, 0, ν)
/-- the farthest position of a set in an aisle, of the first n products; 0: none there -/
def farN (ν : nS) (S a : Nat) : Nat → Nat
  | 0 => 0
  | q + 1 => if (S.testBit q = true ∧ vPl ν q / 100 = a) ∧ farN ν S a q < vPl ν q % 100 then vPl ν q % 100 else farN ν S a q
def inAN (ν : nS) (a : Nat) : Nat → Nat
  | 0 => 0
  | b + 1 => if 0 < farN ν (pAll ν b) a 20 then inAN ν a b + 1 else inAN ν a b
def opInAisle (ν : nS) (p : Int32) : opT := match xr p (vC ν 0) with
  | some a => (0, nI (inAN ν a (vC ν 5)), ν)
  | none => (1, 0, ν)
/-- the last aisle where a set has something, and in how many, of the first n -/
def lastN (ν : nS) (S : Nat) : Nat → Nat
  | 0 => 0
  | a + 1 => if 0 < farN ν S a 20 then a else lastN ν S a
def withN (ν : nS) (S : Nat) : Nat → Nat
  | 0 => 0
  | a + 1 => if 0 < farN ν S a 20 then withN ν S a + 1 else withN ν S a
def thruI (ν : nS) (S : Nat) : Int32 := nI (2 * lastN ν S (vC ν 0) * vC ν 2) + (nI (withN ν S (vC ν 0)) - nI 1) * nI (vC ν 1 + 1) + nI (if withN ν S (vC ν 0) % 2 = 1 then 2 * farN ν S (lastN ν S (vC ν 0)) 20 else vC ν 1 + 1)
def opThrough (ν : nS) (p : Int32) : opT := match xr p (vC ν 5) with
  | some b => (0, thruI ν (pAll ν b), ν)
  | none => (1, 0, ν)
theorem farN_le {ν : nS} {S a : Nat} : ∀ n, farN ν S a n ≤ 99
  | 0 => Nat.zero_le _
  | n + 1 => by
    have ih := farN_le (ν := ν) (S := S) (a := a) n
    unfold farN
    split
    · have := Nat.mod_lt (vPl ν n) (show 0 < 100 by decide)
      omega
    · exact ih
theorem lastN_lt {ν : nS} {S : Nat} : ∀ n, lastN ν S n ≤ n
  | 0 => Nat.le_refl _
  | n + 1 => by
    have ih := lastN_lt (ν := ν) (S := S) n
    unfold lastN
    split <;> omega
theorem withN_le {ν : nS} {S : Nat} : ∀ n, withN ν S n ≤ n
  | 0 => Nat.le_refl _
  | n + 1 => by
    have ih := withN_le (ν := ν) (S := S) n
    unfold withN
    split <;> omega
