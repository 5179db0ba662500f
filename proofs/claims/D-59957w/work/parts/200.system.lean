/-! THE SYSTEM's PICTURE -/
set_option maxRecDepth 100000
/-- the orders' objects, a batch's name, the batches' objects, a batch's orders -/
def oL (ad : Nat → Nat) (n : Nat) : List Nat := (List.range n).map (fun o => ad (2000 + 2 * o))
def bN (β : Nat → List Nat) (b : Nat) : Nat := 3000 + 3 * (β b).headD 0
def bL (ad : Nat → Nat) (β : Nat → List Nat) (n : Nat) : List Nat := (List.range n).map (fun b => ad (bN β b))
def bE (ad : Nat → Nat) (es : List Nat) : List Nat := es.map (fun o => ad (2000 + 2 * o))
theorem oL_at {ad : Nat → Nat} {n o : Nat} (h : o < n) : (oL ad n)[o]? = some (ad (2000 + 2 * o)) := by
  unfold oL
  rw [List.getElem?_map, List.getElem?_range h]
  rfl
theorem bL_at {ad : Nat → Nat} {β : Nat → List Nat} {n b : Nat} (h : b < n) : (bL ad β n)[b]? = some (ad (bN β b)) := by
  unfold bL
  rw [List.getElem?_map, List.getElem?_range h]
  rfl
theorem oL_len {ad : Nat → Nat} {n : Nat} : (oL ad n).length = n := by simp [oL]
theorem bL_len {ad : Nat → Nat} {β : Nat → List Nat} {n : Nat} : (bL ad β n).length = n := by simp [bL]
def dnN (ν : nS) : Nat → Nat
  | 0 => 0
  | o + 1 => if vSt ν o = 2 then dnN ν o + 1 else dnN ν o
/-- what holds of the state all through a run, but the batches' orders -/
def xOk (ν : nS) : Prop := vOk ν ∧ wvOk ν ∧ (∀ o, o < vC ν 4 → (vSt ν o = 1 ↔ vBt ν o ≠ 0) ∧ (vBt ν o ≠ 0 → vMn ν o ≠ 0) ∧ ∀ k k', k < vMn ν o → k' < vMn ν o → vPr ν o k = vPr ν o k' → k = k') ∧ vC ν 6 ≤ 50000 * dnN ν (vC ν 4) ∧ vC ν 7 ≤ 50000 * dnN ν (vC ν 4)
/-- the batches' orders -/
def bOk (ν : nS) (β : Nat → List Nat) : Prop := ∀ b, b < vC ν 5 → (β b).Nodup ∧ β b ≠ [] ∧ ∀ o, o ∈ β b ↔ (o < vC ν 4 ∧ vBt ν o = b + 1)
def oFs (ν : nS) (ad : Nat → Nat) (o : Nat) : List Value := [.int (nI (vDue ν o)), .ref (ad (2001 + 2 * o)), .int (nI (wantN ν o)), .int (nI (vSt ν o))]
def bFs (ν : nS) (ad : Nat → Nat) (β : Nat → List Nat) (b : Nat) : List Value := [.ref (ad (bN β b + 1)), .int (nI (pAll ν b)), .int (nI (lAll ν b))]
def XR (g : xg) (ν : nS) (ad : Nat → Nat) (β : Nat → List Nat) (w : xw_W) : Prop :=
  w 0 = some (ad 0, .inr (0, fX ad ν (nI (vC ν 6)) (nI (vC ν 7)))) ∧
  (∃ f, w 1 = some (ad 1, .inl (g.2 0, 20, .inl f)) ∧ ∀ q, q < 20 → f q = eP (vPl ν q)) ∧
  (∃ f, w 2 = some (ad 2, .inl (g.2 0, 20, .inl f)) ∧ ∀ q, q < 20 → f q = nI (turnN ν q (vC ν 4))) ∧
  (∃ mc, xLs g w 3 4 (ad 3) mc 4 (oL ad (vC ν 4))) ∧
  (∃ mc, xLs g w 5 6 (ad 5) mc 5 (bL ad β (vC ν 5))) ∧
  (∃ so, w 7 = some (ad 7, .inl (g.2 2, aQ 40 so)) ∧ ∀ k, k < 40 → so k = some (ad (100 + k)) ∧ ∃ f, w (100 + k) = some (ad (100 + k), .inl (g.2 0, 40, .inl f))) ∧
  (∃ σ, ∀ n, rW g w ad σ n = w n) ∧
  (∃ ro, w 10 = some (ad 10, .inl (g.2 2, aQ 512 ro)) ∧ ∀ k, k < 512 → ro k = some (ad (1000 + k))) ∧
  (∀ o, o < vC ν 4 → w (2000 + 2 * o) = some (ad (2000 + 2 * o), .inr (4, oFs ν ad o)) ∧ ∃ f, w (2001 + 2 * o) = some (ad (2001 + 2 * o), .inl (g.2 0, 20, .inl f)) ∧ ∀ q, q < 20 → f q = nI (hasN ν o q (vMn ν o))) ∧
  (∀ b, b < vC ν 5 → w (bN β b) = some (ad (bN β b), .inr (5, bFs ν ad β b)) ∧ ∃ mc, xLs g w (bN β b + 1) (bN β b + 2) (ad (bN β b + 1)) mc 4 (bE ad (β b))) ∧
  (∀ n, 11 ≤ n → n < 100 → w n = none) ∧ (∀ n, n = 4 ∨ n = 6 → ∀ b c fs, w n = some (b, .inr (c, fs)) → False) ∧
  (∀ n, 2000 + 2 * vC ν 4 ≤ n → n < 3000 → w n = none) ∧ (∀ n, 3000 ≤ n → (∀ b, b < vC ν 5 → n ≠ bN β b ∧ n ≠ bN β b + 1 ∧ n ≠ bN β b + 2) → w n = none)
section XRA
variable {g : xg} {ν : nS} {ad : Nat → Nat} {β : Nat → List Nat} {w : xw_W}
theorem XR.obj (h : XR g ν ad β w) : w 0 = some (ad 0, .inr (0, fX ad ν (nI (vC ν 6)) (nI (vC ν 7)))) := h.1
theorem XR.pl (h : XR g ν ad β w) : ∃ f, w 1 = some (ad 1, .inl (g.2 0, 20, .inl f)) ∧ ∀ q, q < 20 → f q = eP (vPl ν q) := h.2.1
theorem XR.tu (h : XR g ν ad β w) : ∃ f, w 2 = some (ad 2, .inl (g.2 0, 20, .inl f)) ∧ ∀ q, q < 20 → f q = nI (turnN ν q (vC ν 4)) := h.2.2.1
theorem XR.ord (h : XR g ν ad β w) : ∃ mc, xLs g w 3 4 (ad 3) mc 4 (oL ad (vC ν 4)) := h.2.2.2.1
theorem XR.wav (h : XR g ν ad β w) : ∃ mc, xLs g w 5 6 (ad 5) mc 5 (bL ad β (vC ν 5)) := h.2.2.2.2.1
theorem XR.sav (h : XR g ν ad β w) : ∃ so, w 7 = some (ad 7, .inl (g.2 2, aQ 40 so)) ∧ ∀ k, k < 40 → so k = some (ad (100 + k)) ∧ ∃ f, w (100 + k) = some (ad (100 + k), .inl (g.2 0, 40, .inl f)) := h.2.2.2.2.2.1
theorem XR.rou (h : XR g ν ad β w) : ∃ σ, ∀ n, rW g w ad σ n = w n := h.2.2.2.2.2.2.1
theorem XR.rst (h : XR g ν ad β w) : ∃ ro, w 10 = some (ad 10, .inl (g.2 2, aQ 512 ro)) ∧ ∀ k, k < 512 → ro k = some (ad (1000 + k)) := h.2.2.2.2.2.2.2.1
theorem XR.os (h : XR g ν ad β w) {o : Nat} (ho : o < vC ν 4) : w (2000 + 2 * o) = some (ad (2000 + 2 * o), .inr (4, oFs ν ad o)) ∧ ∃ f, w (2001 + 2 * o) = some (ad (2001 + 2 * o), .inl (g.2 0, 20, .inl f)) ∧ ∀ q, q < 20 → f q = nI (hasN ν o q (vMn ν o)) := h.2.2.2.2.2.2.2.2.1 o ho
theorem XR.bs (h : XR g ν ad β w) {b : Nat} (hb : b < vC ν 5) : w (bN β b) = some (ad (bN β b), .inr (5, bFs ν ad β b)) ∧ ∃ mc, xLs g w (bN β b + 1) (bN β b + 2) (ad (bN β b + 1)) mc 4 (bE ad (β b)) := h.2.2.2.2.2.2.2.2.2.1 b hb
theorem XR.tmp (h : XR g ν ad β w) {n : Nat} (h1 : 11 ≤ n) (h2 : n < 100) : w n = none := h.2.2.2.2.2.2.2.2.2.2.1 n h1 h2
theorem XR.dat (h : XR g ν ad β w) {n : Nat} (h1 : n = 4 ∨ n = 6) : ∀ b c fs, w n = some (b, .inr (c, fs)) → False := h.2.2.2.2.2.2.2.2.2.2.2.1 n h1
theorem XR.ono (h : XR g ν ad β w) {n : Nat} (h1 : 2000 + 2 * vC ν 4 ≤ n) (h2 : n < 3000) : w n = none := h.2.2.2.2.2.2.2.2.2.2.2.2.1 n h1 h2
theorem XR.bno (h : XR g ν ad β w) {n : Nat} (h1 : 3000 ≤ n) (h2 : ∀ b, b < vC ν 5 → n ≠ bN β b ∧ n ≠ bN β b + 1 ∧ n ≠ bN β b + 2) : w n = none := h.2.2.2.2.2.2.2.2.2.2.2.2.2 n h1 h2
theorem XR.rB (h : XR g ν ad β w) : rB g w ad ν := ⟨⟨_, _, h.obj⟩, h.pl, h.rst⟩
theorem XR.w8 (h : XR g ν ad β w) : ∃ z, w 8 = some (ad 8, .inr (1, [.ref (ad 9), .ref (ad 10), .int z, .ref (ad 0)])) := by
  obtain ⟨σ, hσ⟩ := h.rou
  exact ⟨σ.1, (hσ 8).symm.trans rW_8⟩
theorem XR.w9 (h : XR g ν ad β w) : ∃ f, w 9 = some (ad 9, .inl (g.2 0, 9, .inl f)) := by
  obtain ⟨σ, hσ⟩ := h.rou
  exact ⟨σ.2.1, (hσ 9).symm.trans rW_9⟩
theorem XR.wr (h : XR g ν ad β w) {k : Nat} (hk : k < 512) : ∃ f, w (1000 + k) = some (ad (1000 + k), .inl (g.2 0, 9, .inl f)) := by
  obtain ⟨σ, hσ⟩ := h.rou
  exact ⟨σ.2.2 k, (hσ (1000 + k)).symm.trans (rW_r hk)⟩
/-- a list stays where its cells and its elements' classes do -/
theorem xLs.keep2 {u : xw_W} {nL nD a ci : Nat} {mc : Int32} {es : List Nat} (h : xLs g w nL nD a mc ci es) (h1 : u nL = w nL) (h2 : u nD = w nD) (hk : ∀ y ∈ es, ∀ k fs, w k = some (y, .inr (ci, fs)) → ∃ k' fs', u k' = some (y, .inr (ci, fs'))) : xLs g u nL nD a mc ci es := by
  obtain ⟨d, g1, g2, g3, g4⟩ := h
  refine ⟨d, h1.trans g1, g2, fun y hy => ?_, ?_⟩
  · obtain ⟨k, fs, e⟩ := g3 y hy
    exact hk y hy k fs e
  · rcases g4 with g4 | ⟨cap, f, g5, g6⟩
    · exact Or.inl g4
    · exact Or.inr ⟨cap, f, h2.trans g5, g6⟩
/-- other names stay: the names that the picture speaks of -/
def xNm (n : Nat) : Prop := n ≠ 8 ∧ n ≠ 9 ∧ (n < 1000 ∨ 1512 ≤ n)
theorem bN_nm {b : Nat} : xNm (bN β b) ∧ xNm (bN β b + 1) ∧ xNm (bN β b + 2) ∧ 3000 ≤ bN β b := by
  unfold xNm bN
  omega
/-- the router's world is another one -/
theorem XR.rput (h : XR g ν ad β w) (u : rS) : XR g ν ad β (rW g w ad u) := by
  have nm : ∀ n, xNm n → rW g w ad u n = w n := fun n hn => rW_n hn.1 hn.2.1 hn.2.2
  have s : ∀ n, n < 8 ∨ (10 ≤ n ∧ n < 1000) ∨ 1512 ≤ n → rW g w ad u n = w n := fun n hn => nm n (by unfold xNm; omega)
  obtain ⟨z8, h8⟩ := h.w8
  obtain ⟨f9, h9⟩ := h.w9
  have kl : ∀ {nL nD a ci : Nat} {mc : Int32} {es : List Nat}, (nL < 8 ∨ (10 ≤ nL ∧ nL < 1000) ∨ 1512 ≤ nL) → (nD < 8 ∨ (10 ≤ nD ∧ nD < 1000) ∨ 1512 ≤ nD) → ci ≠ 1 → xLs g w nL nD a mc ci es → xLs g (rW g w ad u) nL nD a mc ci es := by
    intro nL nD a ci mc es hL hD hci hx
    refine hx.keep2 (s nL hL) (s nD hD) (fun y hy k fs e => ⟨k, fs, ?_⟩)
    by_cases k8 : k = 8
    · rw [k8, h8] at e
      cases e
      exact absurd rfl hci
    · by_cases k9 : k = 9
      · rw [k9, h9] at e
        cases e
      · by_cases kr : k < 1000 ∨ 1512 ≤ k
        · rw [rW_n k8 k9 kr]
          exact e
        · obtain ⟨f, hf⟩ := h.wr (k := k - 1000) (by omega)
          rw [show 1000 + (k - 1000) = k by omega, e] at hf
          cases hf
  refine ⟨(s 0 (by omega)).trans h.obj, ?_, ?_, ?_, ?_, ?_, ⟨u, fun n => ?_⟩, ?_, fun o ho => ?_, fun b hb => ?_, fun n h1 h2 => (s n (by omega)).trans (h.tmp h1 h2), fun n hn b c fs e => h.dat hn b c fs (by rw [s n (by omega)] at e; exact e), fun n h1 h2 => (s n (by omega)).trans (h.ono h1 h2), fun n h1 h2 => (s n (by omega)).trans (h.bno h1 h2)⟩
  · rw [s 1 (by omega)]
    exact h.pl
  · rw [s 2 (by omega)]
    exact h.tu
  · obtain ⟨mc, hx⟩ := h.ord
    exact ⟨mc, kl (by omega) (by omega) (by decide) hx⟩
  · obtain ⟨mc, hx⟩ := h.wav
    exact ⟨mc, kl (by omega) (by omega) (by decide) hx⟩
  · obtain ⟨so, h1, h2⟩ := h.sav
    refine ⟨so, (s 7 (by omega)).trans h1, fun k hk => ⟨(h2 k hk).1, ?_⟩⟩
    rw [s (100 + k) (by omega)]
    exact (h2 k hk).2
  · unfold rW
    by_cases n8 : n = 8
    · rw [if_pos n8, if_pos n8]
    · rw [if_neg n8, if_neg n8]
      by_cases n9 : n = 9
      · rw [if_pos n9, if_pos n9]
      · rw [if_neg n9, if_neg n9]
        by_cases nr : 1000 ≤ n ∧ n < 1512
        · rw [if_pos nr, if_pos nr]
        · rw [if_neg nr, if_neg nr]
  · rw [s 10 (by omega)]
    exact h.rst
  · rw [s (2000 + 2 * o) (by omega), s (2001 + 2 * o) (by omega)]
    exact h.os ho
  · have hb3 : 3000 ≤ bN β b := by unfold bN; omega
    rw [s (bN β b) (by omega)]
    obtain ⟨h1, mc, h2⟩ := h.bs hb
    exact ⟨h1, mc, kl (by omega) (by omega) (by decide) h2⟩
theorem XR.rget {A : Nat → Prop} {H : Heap} (h : XR g ν ad β w) (hM : xw g A w H) : ∃ σ, xw g A (rW g w ad σ) H ∧ XR g ν ad β (rW g w ad σ) := by
  obtain ⟨σ, hσ⟩ := h.rou
  exact ⟨σ, hM.eq hσ, h.rput σ⟩
end XRA
/-- the whole: the object at x0 -/
def xI (g : xg) (ν : nS) (x0 : Nat) (w : xw_W) : Prop := xOk ν ∧ ∃ ad β, ad 0 = x0 ∧ bOk ν β ∧ XR g ν ad β w
/-- code k stands for the k-th class -/
def xCode (L : List String) (k : Nat) (E : String) : Prop := ∃ j, k = j + 1 ∧ L[j]? = some E
abbrev opQi (g : xg) (A : Nat → Prop) (x0 : Nat) (t : opT) : Array Value → State → Outcome → State → Prop := xQi (S := xw_W) (fun r u => t.1 = 0 ∧ r = t.2.1 ∧ (vOk t.2.2 → xI g t.2.2 x0 u)) (fun u => xw g A u) A
abbrev opQX (g : xg) (A : Nat → Prop) (w : xw_W) (L : List String) (t : opT) : String → State → State → Prop := xQX A (xw g A w) (fun E => xCode L t.1 E ∧ t.2.2 = t.2.2)
theorem xCode.at {L : List String} {k j : Nat} {E E' : String} (hk : k = j + 1) (hL : L[j]? = some E') (hE : E = E') : xCode L k E := ⟨j, hk, by rw [hE]; exact hL⟩
section OK
variable {ν : nS}
theorem xOk.V (h : xOk ν) : vOk ν := h.1
theorem xOk.W (h : xOk ν) : wvOk ν := h.2.1
theorem xOk.o (h : xOk ν) {o : Nat} (ho : o < vC ν 4) : (vSt ν o = 1 ↔ vBt ν o ≠ 0) ∧ (vBt ν o ≠ 0 → vMn ν o ≠ 0) ∧ ∀ k k', k < vMn ν o → k' < vMn ν o → vPr ν o k = vPr ν o k' → k = k' := h.2.2.1 o ho
theorem xOk.N (h : xOk ν) : vC ν 4 ≤ 40 := h.1.2.2.2.2.1
theorem xOk.B (h : xOk ν) : vC ν 5 ≤ 40 := h.1.2.2.2.2.2.1
theorem dnN_le {ν : nS} : ∀ n, dnN ν n ≤ n
  | 0 => Nat.le_refl _
  | n + 1 => by
    have := dnN_le (ν := ν) n
    unfold dnN
    split <;> omega
theorem xOk.wk (h : xOk ν) : vC ν 6 ≤ 2000000 := by
  have h1 := dnN_le (ν := ν) (vC ν 4)
  have h2 := h.N
  have h3 := h.2.2.2.1
  omega
theorem xOk.al (h : xOk ν) : vC ν 7 ≤ 2000000 := by
  have h1 := dnN_le (ν := ν) (vC ν 4)
  have h2 := h.N
  have h3 := h.2.2.2.2
  omega
theorem cntB_add {S a : Nat} (h : S.testBit a = false) : ∀ d, cntB (S ||| (1 <<< a)) d = cntB S d + (if a < d then 1 else 0)
  | 0 => by simp [cntB]
  | d + 1 => by
    have ih := cntB_add h d
    unfold cntB
    rw [Nat.testBit_or, Nat.shiftLeft_eq, Nat.one_mul, Nat.testBit_two_pow]
    rw [Nat.shiftLeft_eq, Nat.one_mul] at ih
    by_cases e : a = d
    · subst e
      rw [h, decide_eq_true rfl, ih, if_neg (Nat.lt_irrefl a), if_pos (show a < a + 1 by omega)]
      simp
    · rw [decide_eq_false e, Bool.or_false]
      by_cases e2 : a < d
      · rw [if_pos (show a < d + 1 by omega), ih, if_pos e2]
        split <;> omega
      · rw [if_neg (show ¬ a < d + 1 by omega), ih, if_neg e2]
        split <;> omega
theorem cntB_want {f : Nat → Nat} : ∀ n, (∀ k, k < n → f k < 20) → (∀ k k', k < n → k' < n → f k = f k' → k = k') → cntB (orM f n) 20 = n
  | 0, _, _ => cntB_0 20
  | n + 1, h1, h2 => by
    have ih := cntB_want n (fun k hk => h1 k (by omega)) (fun k k' a b => h2 k k' (by omega) (by omega))
    unfold orM
    rw [cntB_add, ih, if_pos (h1 n (by omega))]
    cases hb : (orM f n).testBit (f n) with
    | false => rfl
    | true =>
      obtain ⟨k, hk, he⟩ := orM_bit n hb
      have := h2 k n (by omega) (by omega) he
      omega
theorem xOk.lines (h : xOk ν) {o : Nat} (ho : o < vC ν 4) : cntB (wantN ν o) 20 = vMn ν o :=
  cntB_want _ (fun k hk => ((h.V.2.2.2.2.2.2.2 o ho).2.2.2.2 k hk).1) (h.o ho).2.2
theorem xOk.want (h : xOk ν) {o : Nat} (ho : o < vC ν 4) : wantN ν o < 2 ^ 20 := (want_ok h.V ho).1.1
theorem xOk.pset (h : xOk ν) {b : Nat} (hb : b < vC ν 5) : okSet ν (pAll ν b) := pAll_ok h.V h.W hb
end OK
