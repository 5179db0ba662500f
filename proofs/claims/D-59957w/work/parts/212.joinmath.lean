/-! two batches come together: the state, the picture's parts -/
set_option maxRecDepth 100000
theorem joinS_prods {ν : nS} {t : Nat × Nat × Nat} (h1 : 0 < t.2.1) (h2 : t.2.1 < t.2.2) {b : Nat} : ∀ n, n ≤ vC ν 4 → prodsN (joinS ν t) b n = if b + 1 = t.2.1 then prodsN ν (t.2.1 - 1) n ||| prodsN ν (t.2.2 - 1) n else if b + 1 < t.2.2 then prodsN ν b n else prodsN ν (b + 1) n
  | 0, _ => by simp [prodsN]
  | n + 1, hn => by
    have ih := joinS_prods (ν := ν) h1 h2 (b := b) n (by omega)
    have hb := joinS_bt (ν := ν) (t := t) h1 h2 (o := n) (by omega)
    have hw : wantN (joinS ν t) n = wantN ν n := rfl
    simp only [prodsN, hb, hw]
    rw [ih]
    unfold relab
    by_cases c1 : b + 1 = t.2.1
    · simp only [if_pos c1]
      by_cases e1 : vBt ν n = t.2.2
      · simp only [if_pos e1]
        rw [if_pos c1.symm, if_neg (by omega), if_pos (by omega), Nat.or_assoc]
      · simp only [if_neg e1]
        by_cases e2 : t.2.2 < vBt ν n
        · simp only [if_pos e2]
          rw [if_neg (by omega), if_neg (by omega), if_neg (by omega)]
        · simp only [if_neg e2]
          by_cases e3 : vBt ν n = b + 1
          · rw [if_pos e3, if_pos (by omega), if_neg (by omega), Nat.or_assoc, Nat.or_assoc, Nat.or_comm (wantN ν n)]
          · rw [if_neg e3, if_neg (by omega), if_neg (by omega)]
    · simp only [if_neg c1]
      by_cases c2 : b + 1 < t.2.2
      · simp only [if_pos c2]
        by_cases e1 : vBt ν n = t.2.2
        · simp only [if_pos e1]
          rw [if_neg (by omega), if_neg (by omega)]
        · simp only [if_neg e1]
          by_cases e2 : t.2.2 < vBt ν n
          · simp only [if_pos e2]
            rw [if_neg (by omega), if_neg (by omega)]
          · simp only [if_neg e2]
      · simp only [if_neg c2]
        by_cases e1 : vBt ν n = t.2.2
        · simp only [if_pos e1]
          rw [if_neg (by omega), if_neg (by omega)]
        · simp only [if_neg e1]
          by_cases e2 : t.2.2 < vBt ν n
          · simp only [if_pos e2]
            by_cases e3 : vBt ν n = b + 1 + 1
            · rw [if_pos e3, if_pos (by omega)]
            · rw [if_neg e3, if_neg (by omega)]
          · simp only [if_neg e2]
            rw [if_neg (by omega), if_neg (by omega)]
/-- the batch that stands at i behind -/
def shB (c i : Nat) : Nat := if i < c then i else i + 1
def joinB (β : Nat → List Nat) (a c : Nat) : Nat → List Nat := fun i => if i = a then β a ++ β c else β (shB c i)
section JM
variable {ν : nS} {m a c : Nat}
theorem join_pa (hac : a < c) : pAll (joinS ν (m, a + 1, c + 1)) a = pAll ν a ||| pAll ν c := by
  show prodsN (joinS ν (m, a + 1, c + 1)) a (vC ν 4) = _
  rw [joinS_prods (by show 0 < a + 1; omega) (by show a + 1 < c + 1; omega) _ (Nat.le_refl _), if_pos rfl]
  rfl
theorem join_la (hac : a < c) : lAll (joinS ν (m, a + 1, c + 1)) a = lAll ν a + lAll ν c := by
  show linesN (joinS ν (m, a + 1, c + 1)) a (vC ν 4) = _
  rw [joinS_lines (by show 0 < a + 1; omega) (by show a + 1 < c + 1; omega) _ (Nat.le_refl _), if_pos rfl]
  rfl
theorem join_p (hac : a < c) {i : Nat} (hi : i ≠ a) : pAll (joinS ν (m, a + 1, c + 1)) i = pAll ν (shB c i) := by
  show prodsN (joinS ν (m, a + 1, c + 1)) i (vC ν 4) = _
  rw [joinS_prods (by show 0 < a + 1; omega) (by show a + 1 < c + 1; omega) _ (Nat.le_refl _), if_neg (by show ¬ i + 1 = a + 1; omega)]
  unfold shB
  by_cases h : i < c
  · rw [if_pos (by show i + 1 < c + 1; omega), if_pos h]
  · rw [if_neg (by show ¬ i + 1 < c + 1; omega), if_neg h]
theorem join_l (hac : a < c) {i : Nat} (hi : i ≠ a) : lAll (joinS ν (m, a + 1, c + 1)) i = lAll ν (shB c i) := by
  show linesN (joinS ν (m, a + 1, c + 1)) i (vC ν 4) = _
  rw [joinS_lines (by show 0 < a + 1; omega) (by show a + 1 < c + 1; omega) _ (Nat.le_refl _), if_neg (by show ¬ i + 1 = a + 1; omega)]
  unfold shB
  by_cases h : i < c
  · rw [if_pos (by show i + 1 < c + 1; omega), if_pos h]
  · rw [if_neg (by show ¬ i + 1 < c + 1; omega), if_neg h]
theorem join_bt (hac : a < c) {o : Nat} (ho : o < vC ν 4) : vBt (joinS ν (m, a + 1, c + 1)) o = relab (a + 1) (c + 1) (vBt ν o) := joinS_bt (by show 0 < a + 1; omega) (by show a + 1 < c + 1; omega) ho
theorem join_V (hV : vOk ν) (hac : a < c) (hc : c < vC ν 5) : vOk (joinS ν (m, a + 1, c + 1)) := by
  obtain ⟨a1, a2, a3, a4, a5, a6, a7, a8⟩ := hV
  refine ⟨a1, a2, a3, a4, a5, by show vC ν 5 - 1 ≤ 40; omega, a7, fun o ho => ?_⟩
  have ho : o < vC ν 4 := ho
  obtain ⟨b1, b2, b3, b4, b5⟩ := a8 o ho
  refine ⟨b1, b2, ?_, b4, b5⟩
  rw [join_bt hac ho]
  show relab (a + 1) (c + 1) (vBt ν o) ≤ vC ν 5 - 1
  unfold relab
  split
  · omega
  · split <;> omega
theorem join_wv (hW : wvOk ν) (hac : a < c) (hl : lAll ν a + lAll ν c ≤ 9) : wvOk (joinS ν (m, a + 1, c + 1)) := by
  intro i hi
  have hi : i < vC ν 5 - 1 := hi
  by_cases e : i = a
  · rw [e, join_la hac]
    exact hl
  · rw [join_l hac e]
    exact hW _ (by unfold shB; split <;> omega)
theorem xOk.join (h : xOk ν) (hac : a < c) (hc : c < vC ν 5) (hl : lAll ν a + lAll ν c ≤ 9) : xOk (joinS ν (m, a + 1, c + 1)) := by
  refine ⟨join_V h.V hac hc, join_wv h.W hac hl, fun o ho => ?_, ?_, ?_⟩
  · have ho : o < vC ν 4 := ho
    obtain ⟨h1, h2, h3⟩ := h.o ho
    have hz : vBt (joinS ν (m, a + 1, c + 1)) o ≠ 0 ↔ vBt ν o ≠ 0 := by
      rw [join_bt hac ho]
      unfold relab
      split
      · omega
      · split <;> omega
    exact ⟨h1.trans hz.symm, fun z => h2 (hz.mp z), h3⟩
  · show vC ν 6 ≤ 50000 * dnN (joinS ν (m, a + 1, c + 1)) (vC ν 4)
    rw [dnN_congr (ν := ν) (ν' := joinS ν (m, a + 1, c + 1)) _ (fun _ _ => Iff.rfl)]
    exact h.2.2.2.1
  · show vC ν 7 ≤ 50000 * dnN (joinS ν (m, a + 1, c + 1)) (vC ν 4)
    rw [dnN_congr (ν := ν) (ν' := joinS ν (m, a + 1, c + 1)) _ (fun _ _ => Iff.rfl)]
    exact h.2.2.2.2
theorem bOk.join {β : Nat → List Nat} (h : bOk ν β) (hac : a < c) (hc : c < vC ν 5) : bOk (joinS ν (m, a + 1, c + 1)) (joinB β a c) := by
  intro i hi
  have hi : i < vC ν 5 - 1 := hi
  obtain ⟨p1, p2, p3⟩ := h a (by omega)
  obtain ⟨q1, q2, q3⟩ := h c hc
  have rl : ∀ x, relab (a + 1) (c + 1) x = i + 1 ↔ (if i = a then x = a + 1 ∨ x = c + 1 else x = shB c i + 1) := by
    intro x
    unfold relab shB
    by_cases e : i = a
    · rw [if_pos e]
      split
      · omega
      · split <;> omega
    · rw [if_neg e]
      split
      · split <;> omega
      · split <;> split <;> omega
  by_cases e : i = a
  · subst e
    unfold joinB
    rw [if_pos rfl]
    refine ⟨List.nodup_append.mpr ⟨p1, q1, fun x hx y hy e2 => ?_⟩, fun z => p2 (List.append_eq_nil_iff.mp z).1, fun o => ?_⟩
    · have z1 := ((p3 x).mp hx).2
      have z2 := ((q3 y).mp hy).2
      rw [e2] at z1
      omega
    · rw [List.mem_append, p3 o, q3 o]
      show _ ↔ o < vC ν 4 ∧ _
      constructor
      · rintro (⟨z1, z2⟩ | ⟨z1, z2⟩)
        · refine ⟨z1, ?_⟩
          rw [join_bt hac z1, rl, if_pos rfl]
          exact Or.inl z2
        · refine ⟨z1, ?_⟩
          rw [join_bt hac z1, rl, if_pos rfl]
          exact Or.inr z2
      · rintro ⟨z1, z2⟩
        rw [join_bt hac z1, rl, if_pos rfl] at z2
        exact z2.imp (fun z => ⟨z1, z⟩) (fun z => ⟨z1, z⟩)
  · obtain ⟨r1, r2, r3⟩ := h (shB c i) (by unfold shB; split <;> omega)
    unfold joinB
    rw [if_neg e]
    refine ⟨r1, r2, fun o => ?_⟩
    rw [r3 o]
    show _ ↔ o < vC ν 4 ∧ _
    constructor
    · rintro ⟨z1, z2⟩
      refine ⟨z1, ?_⟩
      rw [join_bt hac z1, rl, if_neg e]
      exact z2
    · rintro ⟨z1, z2⟩
      rw [join_bt hac z1, rl, if_neg e] at z2
      exact ⟨z1, z2⟩
theorem shB_lt {i : Nat} (hi : i < vC ν 5 - 1) (hc : c < vC ν 5) : shB c i < vC ν 5 ∧ shB c i ≠ c := by
  unfold shB
  split <;> omega
theorem joinB_hd {β : Nat → List Nat} (h : bOk ν β) (hac : a < c) (hc : c < vC ν 5) {i : Nat} : bN (joinB β a c) i = bN β (if i = a then a else shB c i) := by
  unfold bN joinB
  by_cases e : i = a
  · rw [if_pos e, if_pos e]
    obtain ⟨-, p2, -⟩ := h a (by omega)
    obtain ⟨y, l, hy⟩ := List.exists_cons_of_ne_nil p2
    rw [hy]
    rfl
  · rw [if_neg e, if_neg e]
theorem sh_a (hac : a < c) {i : Nat} : (if i = a then a else shB c i) = shB c i := by
  unfold shB
  by_cases e : i = a
  · rw [if_pos e, e, if_pos hac]
  · rw [if_neg e]
end JM
/-- the savings' rows hold what the pairs save -/
def sOk (ν : nS) (F : Nat → Nat → Int32) : Prop := ∀ i j, i < vC ν 5 → j < vC ν 5 → i ≠ j → F i j = savI ν i j
theorem savI_gt {ν : nS} (hO : xOk ν) {i j m : Nat} (hi : i < vC ν 5) (hj : j < vC ν 5) (hm : m ≤ 100000) : (¬ savI ν i j ≤ nI m ↔ (lAll ν i + lAll ν j ≤ vC ν 3 ∧ lenN ν (pAll ν i ||| pAll ν j) + m < lenN ν (pAll ν i) + lenN ν (pAll ν j))) ∧ ((lAll ν i + lAll ν j ≤ vC ν 3 ∧ lenN ν (pAll ν i ||| pAll ν j) + m < lenN ν (pAll ν i) + lenN ν (pAll ν j)) → savI ν i j = nI (lenN ν (pAll ν i) + lenN ν (pAll ν j) - lenN ν (pAll ν i ||| pAll ν j))) := by
  have l1 := lenN_le hO.V (hO.pset hi)
  have l2 := lenN_le hO.V (hO.pset hj)
  have hcap := hO.V.2.2.2.1.2
  unfold savI
  by_cases c1 : lAll ν i + lAll ν j ≤ vC ν 3
  · have l3 := lenN_le hO.V (pAll_or (a := i) (b := j) hO.V (by omega))
    rw [if_pos c1]
    constructor
    · rw [Int32.le_iff_toInt_le, nI_sub_toInt (by omega) (by omega), nI_toInt (by omega)]
      constructor
      · intro z
        exact ⟨c1, by omega⟩
      · rintro ⟨-, z⟩
        omega
    · rintro ⟨-, z⟩
      exact pk_sub (by omega)
  · rw [if_neg c1]
    constructor
    · constructor
      · intro z
        exact absurd (nI_pos' (by omega)) z
      · rintro ⟨z, -⟩
        exact absurd z c1
    · rintro ⟨z, -⟩
      exact absurd z c1
/-- products and lines of a batch's orders, by their objects' addresses -/
noncomputable def ppA (ν : nS) (ad : Nat → Nat) (y : Nat) : Nat := by
  classical
  exact if h : ∃ o, o < vC ν 4 ∧ ad (2000 + 2 * o) = y then wantN ν h.choose else 0
theorem ppA_eq {ν : nS} {ad : Nat → Nat} (hi : ∀ o o', o < vC ν 4 → o' < vC ν 4 → ad (2000 + 2 * o) = ad (2000 + 2 * o') → o = o') {o : Nat} (ho : o < vC ν 4) : ppA ν ad (ad (2000 + 2 * o)) = wantN ν o := by
  have hex : ∃ o', o' < vC ν 4 ∧ ad (2000 + 2 * o') = ad (2000 + 2 * o) := ⟨o, ho, rfl⟩
  unfold ppA
  rw [dif_pos hex]
  rw [hi _ _ hex.choose_spec.1 ho hex.choose_spec.2]
def orW (ν : nS) : List Nat → Nat
  | [] => 0
  | o :: t => wantN ν o ||| orW ν t
theorem orL_W {ν : nS} {ad : Nat → Nat} (hi : ∀ o o', o < vC ν 4 → o' < vC ν 4 → ad (2000 + 2 * o) = ad (2000 + 2 * o') → o = o') : ∀ {es : List Nat}, (∀ o ∈ es, o < vC ν 4) → orL (ppA ν ad) (bE ad es) = orW ν es
  | [], _ => rfl
  | o :: t, h => by
    show ppA ν ad (ad (2000 + 2 * o)) ||| orL (ppA ν ad) (bE ad t) = wantN ν o ||| orW ν t
    rw [ppA_eq hi (h o List.mem_cons_self), orL_W hi (fun o' ho' => h o' (List.mem_cons_of_mem _ ho'))]
theorem smL_W {ν : nS} (hO : xOk ν) {ad : Nat → Nat} (hi : ∀ o o', o < vC ν 4 → o' < vC ν 4 → ad (2000 + 2 * o) = ad (2000 + 2 * o') → o = o') : ∀ {es : List Nat}, (∀ o ∈ es, o < vC ν 4) → smL (ppA ν ad) (bE ad es) = suL (vMn ν) es
  | [], _ => rfl
  | o :: t, h => by
    show cntB (ppA ν ad (ad (2000 + 2 * o))) 20 + smL (ppA ν ad) (bE ad t) = vMn ν o + suL (vMn ν) t
    rw [ppA_eq hi (h o List.mem_cons_self), smL_W hO hi (fun o' ho' => h o' (List.mem_cons_of_mem _ ho')), hO.lines (h o List.mem_cons_self)]
theorem orW_bit {ν : nS} {q : Nat} : ∀ {es : List Nat}, (orW ν es).testBit q = true ↔ ∃ o ∈ es, (wantN ν o).testBit q = true
  | [] => by simp [orW]
  | o :: t => by
    show (wantN ν o ||| orW ν t).testBit q = true ↔ _
    rw [Nat.testBit_or, Bool.or_eq_true, orW_bit]
    simp
theorem orW_p {ν : nS} {b : Nat} {es : List Nat} (hm : ∀ o, o ∈ es ↔ (o < vC ν 4 ∧ vBt ν o = b + 1)) : orW ν es = pAll ν b := by
  refine Nat.eq_of_testBit_eq (fun q => ?_)
  rw [Bool.eq_iff_iff, orW_bit]
  constructor
  · rintro ⟨o, h1, h2⟩
    obtain ⟨h3, h4⟩ := (hm o).mp h1
    exact prodsN_has _ o h3 h4 h2
  · intro h
    obtain ⟨o, h1, h2, h3⟩ := prodsN_in _ h
    exact ⟨o, (hm o).mpr ⟨h1, h2⟩, h3⟩
theorem linesN_su {ν : nS} {b : Nat} : ∀ n, linesN ν b n = suL (vMn ν) ((List.range n).filter (bP ν b))
  | 0 => rfl
  | n + 1 => by
    have ih := linesN_su (ν := ν) (b := b) n
    rw [suL_range, ← ih]
    conv => lhs; unfold linesN
    by_cases e : vBt ν n = b + 1
    · rw [if_pos e, if_pos (decide_eq_true e)]
    · rw [if_neg e, if_neg (by simpa using e)]
      rfl
theorem suM_l {ν : nS} {b : Nat} {es : List Nat} (hn : es.Nodup) (hm : ∀ o, o ∈ es ↔ (o < vC ν 4 ∧ vBt ν o = b + 1)) : suL (vMn ν) es = lAll ν b := by
  show _ = linesN ν b (vC ν 4)
  rw [linesN_su]
  exact suL_perm (perm_of hn (fun o => by rw [hm o]; simp))
