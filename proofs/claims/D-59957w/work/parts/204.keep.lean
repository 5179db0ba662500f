/-! THE SYSTEM's PICTURE under changes -/
set_option maxRecDepth 100000
theorem hasN_congr {ν ν' : nS} {o o' q : Nat} : ∀ n, (∀ k, k < n → vPr ν' o' k = vPr ν o k ∧ vQt ν' o' k = vQt ν o k) → hasN ν' o' q n = hasN ν o q n
  | 0, _ => rfl
  | n + 1, h => by
    have ih := hasN_congr (ν := ν) (ν' := ν') (o := o) (o' := o') (q := q) n (fun k hk => h k (by omega))
    unfold hasN
    rw [(h n (by omega)).1, (h n (by omega)).2, ih]
theorem orM_congr {f f' : Nat → Nat} : ∀ n, (∀ k, k < n → f' k = f k) → orM f' n = orM f n
  | 0, _ => rfl
  | n + 1, h => by
    have ih := orM_congr (f := f) (f' := f') n (fun k hk => h k (by omega))
    unfold orM
    rw [h n (by omega), ih]
theorem turnN_congr {ν ν' : nS} {q : Nat} : ∀ n, (∀ o, o < n → (vSt ν' o = 2 ↔ vSt ν o = 2) ∧ (vSt ν o = 2 → hasN ν' o q (vMn ν' o) = hasN ν o q (vMn ν o))) → turnN ν' q n = turnN ν q n
  | 0, _ => rfl
  | n + 1, h => by
    have ih := turnN_congr (ν := ν) (ν' := ν') (q := q) n (fun o ho => h o (by omega))
    obtain ⟨h1, h2⟩ := h n (by omega)
    unfold turnN
    by_cases e : vSt ν n = 2
    · rw [if_pos (h1.mpr e), if_pos e, ih, h2 e]
    · rw [if_neg (fun z => e (h1.mp z)), if_neg e, ih]
theorem prodsN_congr {ν ν' : nS} {b b' : Nat} : ∀ n, (∀ o, o < n → (vBt ν' o = b' + 1 ↔ vBt ν o = b + 1) ∧ (vBt ν o = b + 1 → wantN ν' o = wantN ν o)) → prodsN ν' b' n = prodsN ν b n
  | 0, _ => rfl
  | n + 1, h => by
    have ih := prodsN_congr (ν := ν) (ν' := ν') (b := b) (b' := b') n (fun o ho => h o (by omega))
    obtain ⟨h1, h2⟩ := h n (by omega)
    unfold prodsN
    by_cases e : vBt ν n = b + 1
    · rw [if_pos (h1.mpr e), if_pos e, ih, h2 e]
    · rw [if_neg (fun z => e (h1.mp z)), if_neg e, ih]
theorem linesN_congr {ν ν' : nS} {b b' : Nat} : ∀ n, (∀ o, o < n → (vBt ν' o = b' + 1 ↔ vBt ν o = b + 1) ∧ (vBt ν o = b + 1 → vMn ν' o = vMn ν o)) → linesN ν' b' n = linesN ν b n
  | 0, _ => rfl
  | n + 1, h => by
    have ih := linesN_congr (ν := ν) (ν' := ν') (b := b) (b' := b') n (fun o ho => h o (by omega))
    obtain ⟨h1, h2⟩ := h n (by omega)
    unfold linesN
    by_cases e : vBt ν n = b + 1
    · rw [if_pos (h1.mpr e), if_pos e, ih, h2 e]
    · rw [if_neg (fun z => e (h1.mp z)), if_neg e, ih]
theorem dnN_congr {ν ν' : nS} : ∀ n, (∀ o, o < n → (vSt ν' o = 2 ↔ vSt ν o = 2)) → dnN ν' n = dnN ν n
  | 0, _ => rfl
  | n + 1, h => by
    have ih := dnN_congr (ν := ν) (ν' := ν') n (fun o ho => h o (by omega))
    unfold dnN
    by_cases e : vSt ν n = 2
    · rw [if_pos ((h n (by omega)).mpr e), if_pos e, ih]
    · rw [if_neg (fun z => e ((h n (by omega)).mp z)), if_neg e, ih]
section XLF
variable {g : xg} {ν ν' : nS} {ad ad' : Nat → Nat} {β β' : Nat → List Nat} {w w' : xw_W}
/-- the router's clauses from its cells -/
theorem rou_of {g : xg} {ad : Nat → Nat} {w : xw_W} (h8 : ∃ z, w 8 = some (ad 8, .inr (1, [.ref (ad 9), .ref (ad 10), .int z, .ref (ad 0)]))) (h9 : ∃ f, w 9 = some (ad 9, .inl (g.2 0, 9, .inl f))) (hr : ∀ k, k < 512 → ∃ f, w (1000 + k) = some (ad (1000 + k), .inl (g.2 0, 9, .inl f))) : ∃ σ, ∀ n, rW g w ad σ n = w n := by
  classical
  obtain ⟨z, h8⟩ := h8
  obtain ⟨f, h9⟩ := h9
  have hc : ∃ F : Nat → Nat → Int32, ∀ k, k < 512 → w (1000 + k) = some (ad (1000 + k), .inl (g.2 0, 9, .inl (F k))) := by
    refine ⟨fun k => if hk : k < 512 then (hr k hk).choose else fun _ => 0, fun k hk => ?_⟩
    simp only [hk, dif_pos]
    exact (hr k hk).choose_spec
  obtain ⟨F, hF⟩ := hc
  refine ⟨(z, f, F), fun n => ?_⟩
  unfold rW
  by_cases n8 : n = 8
  · rw [if_pos n8, n8, h8]
  · rw [if_neg n8]
    by_cases n9 : n = 9
    · rw [if_pos n9, n9, h9]
    · rw [if_neg n9]
      by_cases nr : 1000 ≤ n ∧ n < 1512
      · rw [if_pos nr]
        have := hF (n - 1000) (by omega)
        rw [show 1000 + (n - 1000) = n by omega] at this
        exact this.symm
      · rw [if_neg nr]
/-- the names of the router and the temporary ones stay -/
theorem XR.lift (h : XR g ν ad β w) (had : ∀ n, n < 100 ∨ (1000 ≤ n ∧ n < 1512) → ad' n = ad n) (hk : ∀ n, (8 ≤ n ∧ n < 100) ∨ (1000 ≤ n ∧ n < 1512) → w' n = w n)
    (hobj : w' 0 = some (ad 0, .inr (0, fX ad ν' (nI (vC ν' 6)) (nI (vC ν' 7))))) (hpl : ∃ f, w' 1 = some (ad 1, .inl (g.2 0, 20, .inl f)) ∧ ∀ q, q < 20 → f q = eP (vPl ν' q)) (htu : ∃ f, w' 2 = some (ad 2, .inl (g.2 0, 20, .inl f)) ∧ ∀ q, q < 20 → f q = nI (turnN ν' q (vC ν' 4)))
    (hord : ∃ mc, xLs g w' 3 4 (ad 3) mc 4 (oL ad' (vC ν' 4))) (hwav : ∃ mc, xLs g w' 5 6 (ad 5) mc 5 (bL ad' β' (vC ν' 5))) (hsav : ∃ so, w' 7 = some (ad 7, .inl (g.2 2, aQ 40 so)) ∧ ∀ k, k < 40 → so k = some (ad' (100 + k)) ∧ ∃ f, w' (100 + k) = some (ad' (100 + k), .inl (g.2 0, 40, .inl f)))
    (hos : ∀ o, o < vC ν' 4 → w' (2000 + 2 * o) = some (ad' (2000 + 2 * o), .inr (4, oFs ν' ad' o)) ∧ ∃ f, w' (2001 + 2 * o) = some (ad' (2001 + 2 * o), .inl (g.2 0, 20, .inl f)) ∧ ∀ q, q < 20 → f q = nI (hasN ν' o q (vMn ν' o)))
    (hbs : ∀ b, b < vC ν' 5 → w' (bN β' b) = some (ad' (bN β' b), .inr (5, bFs ν' ad' β' b)) ∧ ∃ mc, xLs g w' (bN β' b + 1) (bN β' b + 2) (ad' (bN β' b + 1)) mc 4 (bE ad' (β' b)))
    (hdat : ∀ n, n = 4 ∨ n = 6 → ∀ b c fs, w' n = some (b, .inr (c, fs)) → False) (hono : ∀ n, 2000 + 2 * vC ν' 4 ≤ n → n < 3000 → w' n = none) (hbno : ∀ n, 3000 ≤ n → (∀ b, b < vC ν' 5 → n ≠ bN β' b ∧ n ≠ bN β' b + 1 ∧ n ≠ bN β' b + 2) → w' n = none) : XR g ν' ad' β' w' := by
  have a : ∀ n, n < 100 → ad' n = ad n := fun n hn => had n (Or.inl hn)
  have ef : fX ad' ν' (nI (vC ν' 6)) (nI (vC ν' 7)) = fX ad ν' (nI (vC ν' 6)) (nI (vC ν' 7)) := by
    unfold fX
    rw [a 1 (by omega), a 2 (by omega), a 3 (by omega), a 5 (by omega), a 7 (by omega), a 8 (by omega)]
  refine ⟨?_, ?_, ?_, ?_, ?_, ?_, rou_of ?_ ?_ ?_, ?_, hos, hbs, fun n h1 h2 => ?_, hdat, hono, hbno⟩
  · rw [ef, a 0 (by omega)]
    exact hobj
  · rw [a 1 (by omega)]
    exact hpl
  · rw [a 2 (by omega)]
    exact htu
  · rw [a 3 (by omega)]
    exact hord
  · rw [a 5 (by omega)]
    exact hwav
  · rw [a 7 (by omega)]
    exact hsav
  · rw [hk 8 (by omega), a 8 (by omega), a 9 (by omega), a 10 (by omega), a 0 (by omega)]
    exact h.w8
  · rw [hk 9 (by omega), a 9 (by omega)]
    exact h.w9
  · intro k hk2
    rw [hk (1000 + k) (by omega), had (1000 + k) (by omega)]
    exact h.wr hk2
  · obtain ⟨ro, r1, r2⟩ := h.rst
    rw [hk 10 (by omega), a 10 (by omega)]
    exact ⟨ro, r1, fun k hk2 => by rw [had (1000 + k) (by omega)]; exact r2 k hk2⟩
  · rw [hk n (by omega)]
    exact h.tmp h1 h2
/-- one name's cell is another: the lists that aren't there stay -/
theorem xLs.up {nL nD a ci n : Nat} {mc : Int32} {es : List Nat} {e : Option (Nat × va_E)} (h : xLs g w nL nD a mc ci es) (h1 : nL ≠ n) (h2 : nD ≠ n) (hc : ∀ y fs, w n = some (y, .inr (ci, fs)) → ∃ fs', e = some (y, .inr (ci, fs'))) : xLs g (va_up w n e) nL nD a mc ci es := by
  refine h.keep2 (va_up_n h1) (va_up_n h2) (fun y hy k fs hk => ?_)
  by_cases hkn : k = n
  · rw [hkn] at hk
    obtain ⟨fs', hf⟩ := hc y fs hk
    exact ⟨n, fs', by rw [va_up_s]; exact hf⟩
  · exact ⟨k, fs, (va_up_n hkn).trans hk⟩
theorem bN_ge {b : Nat} : 3000 ≤ bN β b := by unfold bN; omega
end XLF
/-! numbers out of ranges -/
theorem isW_some {v : Int32} {n : Nat} (hn : n < 2 ^ 31) (h : nI 1 ≤ v ∧ v ≤ nI n) : ∃ k, xr (v - 1) n = some k := by
  have h1 := xr_pred (v := v) hn
  have h2 : (1 : Int32) ≤ v ∧ v ≤ nI n := h
  rw [if_pos h2] at h1
  cases hx : xr (v - 1) n with
  | some k => exact ⟨k, rfl⟩
  | none =>
    rw [hx] at h1
    exact absurd h1 (by decide)
theorem isW_none {v : Int32} {n : Nat} (hn : n < 2 ^ 31) (h : ¬ (nI 1 ≤ v ∧ v ≤ nI n)) : xr (v - 1) n = none := by
  have h1 := xr_pred (v := v) hn
  have h2 : ¬ ((1 : Int32) ≤ v ∧ v ≤ nI n) := h
  rw [if_neg h2] at h1
  cases hx : xr (v - 1) n with
  | some k =>
    rw [hx] at h1
    have h3 : (0 : Int32) = 1 := h1
    exact absurd h3 (by decide)
  | none => rfl
theorem isW0 {v : Int32} {n : Nat} (hn : n < 2 ^ 31) (h0 : 0 < n) : (nI 0 ≤ v ∧ v ≤ nI (n - 1)) ↔ ∃ k, xr v n = some k := by
  rw [Int32.le_iff_toInt_le, Int32.le_iff_toInt_le, nI_toInt (by omega), nI_toInt (by omega)]
  unfold xr
  constructor
  · intro h
    exact ⟨v.toInt.toNat, by rw [if_pos (by omega)]⟩
  · rintro ⟨k, h⟩
    split at h
    · omega
    · cases h
theorem isW0_none {v : Int32} {n : Nat} (hn : n < 2 ^ 31) (h0 : 0 < n) (h : ¬ (nI 0 ≤ v ∧ v ≤ nI (n - 1))) : xr v n = none := by
  cases hx : xr v n with
  | none => rfl
  | some k => exact absurd ((isW0 hn h0).mpr ⟨k, hx⟩) h
theorem eP_nI {a b : Nat} (ha : a < 2 ^ 31) (hb : b < 2 ^ 31) (h0 : b ≠ 0) : eP a = nI b ↔ a = b := by
  rw [← eP_pos h0]
  exact eP_eq ha hb
theorem xOb4 : xOb 4 := ⟨_, rfl, q1585⟩
theorem xOb5 : xOb 5 := ⟨_, rfl, q1587⟩
theorem vPl_lt {ν : nS} (hV : vOk ν) {q : Nat} (hq : q < 20) : vPl ν q < 600 :=
  (hV.2.2.2.2.2.2.1 q hq).elim (fun z => by omega) (fun z => (z.lt hV.1.2 hV.2.1.2).1)
theorem b2i {P : Prop} [Decidable P] : (if P then (1 : Int32) else 0) = nI (if P then 1 else 0) := by
  split <;> rfl
