/-! picking: sums over a batch's orders, the state behind -/
set_option maxRecDepth 100000
def suL (f : Nat → Nat) : List Nat → Nat
  | [] => 0
  | y :: t => f y + suL f t
theorem suL_snoc (f : Nat → Nat) (y : Nat) : ∀ l : List Nat, suL f (l ++ [y]) = suL f l + f y
  | [] => by show f y + 0 = 0 + f y; omega
  | x :: t => by show f x + suL f (t ++ [y]) = (f x + suL f t) + f y; rw [suL_snoc f y t]; omega
theorem suL_perm {f : Nat → Nat} {l l' : List Nat} (h : List.Perm l l') : suL f l = suL f l' := by
  induction h with
  | nil => rfl
  | cons x _ ih => show f x + suL f _ = f x + suL f _; rw [ih]
  | swap x y l => show f y + (f x + suL f l) = f x + (f y + suL f l); omega
  | trans _ _ i1 i2 => exact i1.trans i2
theorem suL_le {f : Nat → Nat} {c : Nat} : ∀ {l : List Nat}, (∀ y ∈ l, f y ≤ c) → suL f l ≤ c * l.length
  | [], _ => Nat.zero_le _
  | x :: t, h => by
    have ih := suL_le (f := f) (c := c) (l := t) (fun y hy => h y (List.mem_cons_of_mem _ hy))
    have h1 := h x List.mem_cons_self
    show f x + suL f t ≤ c * (t.length + 1)
    rw [Nat.mul_succ]
    omega
theorem perm_of {es : List Nat} {N : Nat} {P : Nat → Bool} (hn : es.Nodup) (hm : ∀ o, o ∈ es ↔ (o < N ∧ P o = true)) : List.Perm es ((List.range N).filter P) := by
  refine (List.perm_ext_iff_of_nodup hn (List.nodup_range.filter _)).mpr (fun o => ?_)
  rw [hm o, List.mem_filter, List.mem_range]
theorem suL_range {f : Nat → Nat} {P : Nat → Bool} {n : Nat} : suL f ((List.range (n + 1)).filter P) = suL f ((List.range n).filter P) + (if P n = true then f n else 0) := by
  rw [List.range_succ, List.filter_append]
  by_cases h : P n = true
  · rw [List.filter_cons_of_pos h, List.filter_nil, suL_snoc, if_pos h]
  · rw [List.filter_cons_of_neg h, List.filter_nil, List.append_nil, if_neg h]
    omega
abbrev bP (ν : nS) (b : Nat) : Nat → Bool := fun o => decide (vBt ν o = b + 1)
theorem aloneN_su {ν : nS} {b : Nat} : ∀ n, aloneN ν b n = suL (fun o => lenN ν (wantN ν o)) ((List.range n).filter (bP ν b))
  | 0 => rfl
  | n + 1 => by
    have ih := aloneN_su (ν := ν) (b := b) n
    rw [suL_range, ← ih]
    conv => lhs; unfold aloneN
    by_cases e : vBt ν n = b + 1
    · rw [if_pos e, if_pos (decide_eq_true e)]
    · rw [if_neg e, if_neg (by simpa using e)]
      rfl
section PK
variable {ν : nS} {b : Nat}
theorem pickS_4 : vC (pickS ν b) 4 = vC ν 4 := rfl
theorem pickS_bt {o : Nat} (ho : o < vC ν 4) : vBt (pickS ν b) o = if vBt ν o = b + 1 then 0 else if b + 1 < vBt ν o then vBt ν o - 1 else vBt ν o := by
  show closeN (vSetC (pickN ν b (vC ν 4)) 6 (vC ν 6 + lenN ν (pAll ν b))) b (vC ν 4) o = _
  unfold closeN
  show (if o < vC ν 4 ∧ b + 1 < (if o < vC ν 4 ∧ vBt ν o = b + 1 then 0 else vBt ν o) then (if o < vC ν 4 ∧ vBt ν o = b + 1 then 0 else vBt ν o) - 1 else (if o < vC ν 4 ∧ vBt ν o = b + 1 then 0 else vBt ν o)) = _
  by_cases e : vBt ν o = b + 1
  · rw [if_pos (show o < vC ν 4 ∧ vBt ν o = b + 1 from ⟨ho, e⟩), if_neg (by omega), if_pos e]
  · rw [if_neg (show ¬ (o < vC ν 4 ∧ vBt ν o = b + 1) from fun z => e z.2), if_neg e]
    by_cases e2 : b + 1 < vBt ν o
    · rw [if_pos ⟨ho, e2⟩, if_pos e2]
    · rw [if_neg (fun z => e2 z.2), if_neg e2]
theorem pickS_st {o : Nat} (ho : o < vC ν 4) : vSt (pickS ν b) o = if vBt ν o = b + 1 then 2 else vSt ν o := by
  show (if o < vC ν 4 ∧ vBt ν o = b + 1 then 2 else vSt ν o) = _
  by_cases e : vBt ν o = b + 1
  · rw [if_pos ⟨ho, e⟩, if_pos e]
  · rw [if_neg (fun z => e z.2), if_neg e]
theorem pickS_5 : vC (pickS ν b) 5 = vC ν 5 - 1 := rfl
theorem pickS_6 : vC (pickS ν b) 6 = vC ν 6 + lenN ν (pAll ν b) := rfl
theorem pickS_7 : vC (pickS ν b) 7 = vC ν 7 + aloneN ν b (vC ν 4) := rfl
/-- batches behind move up -/
theorem pickS_is {o c : Nat} (ho : o < vC ν 4) : vBt (pickS ν b) o = c + 1 ↔ vBt ν o = (if c < b then c else c + 1) + 1 := by
  rw [pickS_bt ho]
  by_cases e : vBt ν o = b + 1
  · rw [if_pos e]
    split <;> omega
  · rw [if_neg e]
    split <;> split <;> omega
theorem pickS_p {c : Nat} : pAll (pickS ν b) c = pAll ν (if c < b then c else c + 1) := prodsN_congr (vC ν 4) (fun o ho => ⟨pickS_is ho, fun _ => rfl⟩)
theorem pickS_l {c : Nat} : lAll (pickS ν b) c = lAll ν (if c < b then c else c + 1) := linesN_congr (vC ν 4) (fun o ho => ⟨pickS_is ho, fun _ => rfl⟩)
theorem pickS_turn {q : Nat} (hst : ∀ o, o < vC ν 4 → vBt ν o = b + 1 → vSt ν o ≠ 2) : ∀ n, n ≤ vC ν 4 → turnN (pickS ν b) q n = turnN ν q n + suL (fun o => hasN ν o q (vMn ν o)) ((List.range n).filter (bP ν b))
  | 0, _ => rfl
  | n + 1, h => by
    have ih := pickS_turn (q := q) hst n (by omega)
    have hh : hasN (pickS ν b) n q (vMn (pickS ν b) n) = hasN ν n q (vMn ν n) := hasN_congr _ (fun _ _ => ⟨rfl, rfl⟩)
    rw [suL_range]
    unfold turnN
    rw [hh, pickS_st (by omega)]
    by_cases e : vBt ν n = b + 1
    · rw [if_pos (by rw [if_pos e]), if_neg (hst n (by omega) e), if_pos (decide_eq_true e), ih]
      omega
    · rw [if_neg e, if_neg (show ¬ bP ν b n = true by simpa using e)]
      by_cases e2 : vSt ν n = 2
      · rw [if_pos e2, if_pos e2, ih]
        omega
      · rw [if_neg e2, if_neg e2, ih]
        omega
theorem pickS_dn (hst : ∀ o, o < vC ν 4 → vBt ν o = b + 1 → vSt ν o ≠ 2) : ∀ n, n ≤ vC ν 4 → dnN (pickS ν b) n = dnN ν n + ((List.range n).filter (bP ν b)).length
  | 0, _ => rfl
  | n + 1, h => by
    have ih := pickS_dn hst n (by omega)
    rw [List.range_succ, List.filter_append, List.length_append]
    unfold dnN
    rw [pickS_st (by omega)]
    by_cases e : vBt ν n = b + 1
    · rw [if_pos (by rw [if_pos e]), if_neg (hst n (by omega) e), List.filter_cons_of_pos (show bP ν b n = true from decide_eq_true e), ih]
      show _ = dnN ν n + (_ + 1)
      omega
    · rw [if_neg e, List.filter_cons_of_neg (show ¬ bP ν b n = true by simpa using e), ih]
      show _ = (if vSt ν n = 2 then dnN ν n + 1 else dnN ν n) + (_ + 0)
      split <;> omega
/-- the batches' orders behind -/
def pickB (β : Nat → List Nat) (b : Nat) : Nat → List Nat := fun c => β (if c < b then c else c + 1)
theorem bOk.pick {β : Nat → List Nat} (h : bOk ν β) (hb : b < vC ν 5) : bOk (pickS ν b) (pickB β b) := by
  intro c hc
  rw [pickS_5] at hc
  obtain ⟨h1, h2, h3⟩ := h (if c < b then c else c + 1) (by split <;> omega)
  refine ⟨h1, h2, fun o => ?_⟩
  rw [pickS_4]
  show o ∈ β _ ↔ _
  rw [h3 o]
  constructor
  · rintro ⟨a, e⟩
    exact ⟨a, (pickS_is a).mpr e⟩
  · rintro ⟨a, e⟩
    exact ⟨a, (pickS_is a).mp e⟩
theorem xOk.pick {β : Nat → List Nat} (h : xOk ν) (hβ : bOk ν β) (hb : b < vC ν 5) (hV : vOk (pickS ν b)) : xOk (pickS ν b) := by
  have hst : ∀ o, o < vC ν 4 → vBt ν o = b + 1 → vSt ν o ≠ 2 := fun o ho e => by
    have := (h.o ho).1.mpr (by omega)
    omega
  obtain ⟨h1, h2, h3⟩ := hβ b hb
  have hp : List.Perm (β b) ((List.range (vC ν 4)).filter (bP ν b)) := perm_of h1 (fun o => by rw [h3 o]; simp)
  have hlen : 1 ≤ ((List.range (vC ν 4)).filter (bP ν b)).length := by
    rw [← hp.length_eq]
    exact List.length_pos_iff.mpr h2
  have hdn := pickS_dn hst (vC ν 4) (Nat.le_refl _)
  have hlb := lenN_le h.V (h.pset hb)
  refine ⟨hV, fun c hc => ?_, fun o ho => ?_, ?_, ?_⟩
  · rw [pickS_5] at hc
    rw [pickS_l]
    exact h.W _ (by split <;> omega)
  · have ho : o < vC ν 4 := ho
    obtain ⟨k1, k2, k3⟩ := h.o ho
    rw [pickS_st ho, pickS_bt ho]
    refine ⟨?_, ?_, k3⟩
    · by_cases e : vBt ν o = b + 1
      · rw [if_pos e, if_pos e]
        omega
      · rw [if_neg e, if_neg e]
        split <;> omega
    · intro z
      refine k2 (fun e => ?_)
      rw [e] at z
      rw [if_neg (by omega), if_neg (by omega)] at z
      exact z rfl
  · rw [pickS_6, pickS_4, hdn]
    have := h.2.2.2.1
    omega
  · rw [pickS_7, pickS_4, hdn, aloneN_su]
    have h5 := suL_le (f := fun o => lenN ν (wantN ν o)) (c := 50000) (l := (List.range (vC ν 4)).filter (bP ν b)) (fun o ho => lenN_le h.V (want_okSet h.V (List.mem_range.mp (List.mem_filter.mp ho).1)))
    have := h.2.2.2.2
    rw [Nat.mul_add]
    omega
end PK
