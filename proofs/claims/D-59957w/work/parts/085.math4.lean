/-! PLAIN FUNCTIONS (6): batches that come together keep their lines small -/
def relab (f s x : Nat) : Nat := if x = s then f else if s < x then x - 1 else x
theorem joinS_bt {ν : nS} {t : Nat × Nat × Nat} (h1 : 0 < t.2.1) (h2 : t.2.1 < t.2.2) {o : Nat} (ho : o < vC ν 4) : vBt (joinS ν t) o = relab t.2.1 t.2.2 (vBt ν o) := by
  show closeN (vSetB ν (vC ν 5) (relN ν t.2.1 t.2.2 (vC ν 4))) (t.2.2 - 1) (vC ν 4) o = _
  unfold closeN relab
  show (if o < vC ν 4 ∧ t.2.2 - 1 + 1 < relN ν t.2.1 t.2.2 (vC ν 4) o then relN ν t.2.1 t.2.2 (vC ν 4) o - 1 else relN ν t.2.1 t.2.2 (vC ν 4) o) = _
  unfold relN
  by_cases e : vBt ν o = t.2.2
  · rw [if_pos (show o < vC ν 4 ∧ vBt ν o = t.2.2 from ⟨ho, e⟩), if_neg (by omega), if_pos e]
  · rw [if_neg (show ¬ (o < vC ν 4 ∧ vBt ν o = t.2.2) from fun z => e z.2), if_neg e]
    by_cases q : t.2.2 < vBt ν o
    · rw [if_pos ⟨ho, by omega⟩, if_pos q]
    · rw [if_neg (by omega), if_neg q]
theorem joinS_mn {ν : nS} {t : Nat × Nat × Nat} {o : Nat} : vMn (joinS ν t) o = vMn ν o := rfl
/-- lines of the batches behind: the two together, or one of the others -/
theorem joinS_lines {ν : nS} {t : Nat × Nat × Nat} (h1 : 0 < t.2.1) (h2 : t.2.1 < t.2.2) {b : Nat} : ∀ n, n ≤ vC ν 4 → linesN (joinS ν t) b n = if b + 1 = t.2.1 then linesN ν (t.2.1 - 1) n + linesN ν (t.2.2 - 1) n else if b + 1 < t.2.2 then linesN ν b n else linesN ν (b + 1) n
  | 0, _ => by simp [linesN]
  | n + 1, hn => by
    have ih := joinS_lines (ν := ν) h1 h2 (b := b) n (by omega)
    have hb := joinS_bt (ν := ν) (t := t) h1 h2 (o := n) (by omega)
    simp only [linesN, hb, joinS_mn]
    rw [ih]
    unfold relab
    by_cases c1 : b + 1 = t.2.1
    · simp only [if_pos c1]
      by_cases e1 : vBt ν n = t.2.2
      · simp only [if_pos e1]
        rw [if_pos c1.symm, if_neg (by omega), if_pos (by omega)]
        omega
      · simp only [if_neg e1]
        by_cases e2 : t.2.2 < vBt ν n
        · simp only [if_pos e2]
          rw [if_neg (by omega), if_neg (by omega), if_neg (by omega)]
        · simp only [if_neg e2]
          by_cases e3 : vBt ν n = b + 1
          · rw [if_pos e3, if_pos (by omega), if_neg (by omega)]
            omega
          · rw [if_neg e3, if_neg (by omega), if_neg (by omega)]
    · simp only [if_neg c1]
      by_cases c2 : b + 1 < t.2.2
      · simp only [if_pos c2]
        by_cases e1 : vBt ν n = t.2.2
        · simp only [if_pos e1]
          rw [if_neg (by omega), if_neg (by omega)]
        · simp only [if_neg e1]
          by_cases e2 : t.2.2 < vBt ν n
          · simp only [if_pos e2]
            rw [if_neg (by omega), if_neg (by omega)]
          · simp only [if_neg e2]
      · simp only [if_neg c2]
        by_cases e1 : vBt ν n = t.2.2
        · simp only [if_pos e1]
          rw [if_neg (by omega), if_neg (by omega)]
        · simp only [if_neg e1]
          by_cases e2 : t.2.2 < vBt ν n
          · simp only [if_pos e2]
            by_cases e3 : vBt ν n = b + 1 + 1
            · rw [if_pos e3, if_pos (by omega)]
            · rw [if_neg e3, if_neg (by omega)]
          · simp only [if_neg e2]
            rw [if_neg (by omega), if_neg (by omega)]
theorem joinsN_some {ν ν' : nS} (hV : vOk ν) (hW : wvOk ν) (h : joinsN ν = some ν') : ∃ t : Nat × Nat × Nat, t = bestO ν (vC ν 5) ∧ ν' = joinS ν t ∧ 0 < t.1 ∧ 0 < t.2.1 ∧ t.2.1 < t.2.2 ∧ t.2.2 ≤ vC ν 5 ∧ lAll ν (t.2.1 - 1) + lAll ν (t.2.2 - 1) ≤ 9 := by
  unfold joinsN at h
  split at h
  · cases h
  · next h0 =>
    cases h
    rcases (bestO_ok hV hW (vC ν 5) (Nat.le_refl _)).2 with e | ⟨b1, b2, b3, b4, b5⟩
    · rw [e] at h0
      exact absurd rfl h0
    · exact ⟨_, rfl, rfl, b1, b2, b3, b4, b5⟩
theorem joinsN_wv {ν ν' : nS} (hV : vOk ν) (hW : wvOk ν) (h : joinsN ν = some ν') : wvOk ν' ∧ vC ν' 5 + 1 = vC ν 5 := by
  obtain ⟨t, -, rfl, h0, h1, h2, h3, h4⟩ := joinsN_some hV hW h
  refine ⟨fun b hb => ?_, by show vC ν 5 - 1 + 1 = _; omega⟩
  have hb : b < vC ν 5 - 1 := hb
  show linesN (joinS ν t) b (vC ν 4) ≤ 9
  rw [joinS_lines h1 h2 _ (Nat.le_refl _)]
  split
  · exact h4
  · split
    · exact hW b (by omega)
    · exact hW (b + 1) (by omega)
