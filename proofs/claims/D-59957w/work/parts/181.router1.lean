/-! the router: rows over its world; step, lays -/
set_option maxRecDepth 100000
section RR
variable {p : Program} {l : Launch} {e : Env} {R : Room} {s : State} {m : MethodId} {args : Array Value} {below : List Frame} {meth : Method} {c : Code} {H : Heap} {locs : List Loc} {cells slots : Nat} {Q : State → Prop}
variable {cc : ByteArray} {pc nL index : Nat} {ls : Array Slot} {rest : List Value} {g : xg} {A : Nat → Prop} {w : xw_W} {ad : Nat → Nat} {σ : rS} {ν : nS}
theorem r_own (hF : xFix p m c cc nL s args RX2) (hE : xE g A s) (hM : xw g A (rW g w ad σ) H) (k : Nat) (hk : k < 4) (hl : Cond.fieldLink RX2 index RX2 (TX2 k).2.1 (TX2 k).2.2.1 ∈ lw_all) {v : Value} (hv : ([.ref (ad 9), .ref (ad 10), .int σ.1, .ref (ad 0)] : List Value)[k]? = some v) (hdg : decode cc pc = .ok (.getfield index, 3))
    (kk : W p l e R s m args below meth c H locs cells slots Q (F0 m (pc + 3) ls (v :: rest))) : W p l e R s m args below meth c H locs cells slots Q (F0 m pc ls (.ref (ad 8) :: rest)) :=
  xr_get (C := RX2) (T := TX2) (N := 4) (ci := 1) (n := 8) hF.1 hF.2.1 hF.2.2.2.2 in_X2 hF.2.2.2.1 hE hM rW_8 rfl k hk (hF.2.2.2.2 _ hl) (by
    have h1 : ∀ k, k < 4 → (TX2 k).1 = RX2 := by decide +kernel
    intro x hx
    rw [h1 k hk] at hx
    exact hx) hv hdg kk
theorem r_many (hF : xFix p m c cc nL s args RX2) (hE : xE g A s) (hM : xw g A (rW g w ad σ) H) (hl : Cond.fieldLink RX2 index RX2 (TX2 2).2.1 (TX2 2).2.2.1 ∈ lw_all) {z : Int32} (hz : σ.1 = z) (hdg : decode cc pc = .ok (.getfield index, 3))
    (kk : W p l e R s m args below meth c H locs cells slots Q (F0 m (pc + 3) ls (.int z :: rest))) : W p l e R s m args below meth c H locs cells slots Q (F0 m pc ls (.ref (ad 8) :: rest)) := by
  subst hz
  exact r_own hF hE hM 2 (by decide) hl rfl hdg kk
theorem r_putMany (hF : xFix p m c cc nL s args RX2) (hE : xE g A s) (hM : xw g A (rW g w ad σ) H) (hS : va_S A s.heap H locs) (hl : Cond.fieldLink RX2 index RX2 (TX2 2).2.1 (TX2 2).2.2.1 ∈ lw_all) {x : Int32} (hdg : decode cc pc = .ok (.putfield index, 3))
    (kk : ∀ (H : Heap) (locs : List Loc), xw g A (rW g w ad (x, σ.2)) H → va_S A s.heap H locs → W p l e R s m args below meth c H locs cells slots Q (F0 m (pc + 3) ls rest)) : W p l e R s m args below meth c H locs cells slots Q (F0 m pc ls (.int x :: .ref (ad 8) :: rest)) := by
  refine xr_put (C := RX2) (T := TX2) (N := 4) (ci := 1) (n := 8) hF.1 hF.2.1 hF.2.2.2.2 in_X2 tyX2 tyX2_ok nmX2 hF.2.2.2.1 hE hM hS rW_8 rfl 2 (by decide) (hF.2.2.2.2 _ hl) (fun _ h => h) rfl (tyX2_ok 2 (by decide)) rfl rfl (Nat.le_of_ble_eq_true rfl) hdg (fun H1 locs1 hM1 hS1 => kk H1 locs1 ?_ hS1)
  rw [← rW_setM (σ := σ)]
  exact hM1
theorem rB.x0 (hB : rB g w ad ν) : ∃ wk al, rW g w ad σ 0 = some (ad 0, .inr (0, fX ad ν wk al)) := by
  obtain ⟨⟨wk, al, h0⟩, -⟩ := hB
  exact ⟨wk, al, (rW_n (by omega) (by omega) (by omega)).trans h0⟩
theorem r_nest (hF : xFix p m c cc nL s args RX2) (hE : xE g A s) (hM : xw g A (rW g w ad σ) H) (hB : rB g w ad ν) (k : Nat) (hk : k < 9) {host : String} (hl : Cond.fieldLinkNest RX2 index RX1 (TX1 k).2.1 (TX1 k).2.2.1 host ∈ lw_tbl) {v : Value} (hv : ∀ wk al, (fX ad ν wk al)[k]? = some v) (hdg : decode cc pc = .ok (.getfield index, 3))
    (kk : W p l e R s m args below meth c H locs cells slots Q (F0 m (pc + 3) ls (v :: rest))) : W p l e R s m args below meth c H locs cells slots Q (F0 m pc ls (.ref (ad 0) :: rest)) := by
  obtain ⟨wk, al, h0⟩ := hB.x0 (σ := σ)
  exact xr_getN (C := RX1) (T := TX1) (N := 12) (ci := 0) (n := 0) hF.1 hF.2.1 hF.2.2.2.2 in_X1 hF.2.2.2.1 hE hM h0 rfl k (by omega) hl (by
    have h1 : ∀ k, k < 9 → (TX1 k).1 = RX1 := by decide +kernel
    intro x hx
    rw [h1 k hk] at hx
    exact hx) (hv wk al) hdg kk
theorem r_gap (hF : xFix p m c cc nL s args RX2) (hE : xE g A s) (hM : xw g A (rW g w ad σ) H) (hB : rB g w ad ν) {host : String} (hl : Cond.fieldLinkNest RX2 index RX1 (TX1 2).2.1 (TX1 2).2.2.1 host ∈ lw_tbl) (hdg : decode cc pc = .ok (.getfield index, 3))
    (kk : W p l e R s m args below meth c H locs cells slots Q (F0 m (pc + 3) ls (.int (nI (vC ν 2)) :: rest))) : W p l e R s m args below meth c H locs cells slots Q (F0 m pc ls (.ref (ad 0) :: rest)) := r_nest hF hE hM hB 2 (by decide) hl (fun _ _ => rfl) hdg kk
theorem r_positions (hF : xFix p m c cc nL s args RX2) (hE : xE g A s) (hM : xw g A (rW g w ad σ) H) (hB : rB g w ad ν) {host : String} (hl : Cond.fieldLinkNest RX2 index RX1 (TX1 1).2.1 (TX1 1).2.2.1 host ∈ lw_tbl) (hdg : decode cc pc = .ok (.getfield index, 3))
    (kk : W p l e R s m args below meth c H locs cells slots Q (F0 m (pc + 3) ls (.int (nI (vC ν 1)) :: rest))) : W p l e R s m args below meth c H locs cells slots Q (F0 m pc ls (.ref (ad 0) :: rest)) := r_nest hF hE hM hB 1 (by decide) hl (fun _ _ => rfl) hdg kk
theorem r_placeOfProduct (hF : xFix p m c cc nL s args RX2) (hE : xE g A s) (hM : xw g A (rW g w ad σ) H) (hB : rB g w ad ν) {host : String} (hl : Cond.fieldLinkNest RX2 index RX1 (TX1 3).2.1 (TX1 3).2.2.1 host ∈ lw_tbl) (hdg : decode cc pc = .ok (.getfield index, 3))
    (kk : W p l e R s m args below meth c H locs cells slots Q (F0 m (pc + 3) ls (.ref (ad 1) :: rest))) : W p l e R s m args below meth c H locs cells slots Q (F0 m pc ls (.ref (ad 0) :: rest)) := r_nest hF hE hM hB 3 (by decide) hl (fun _ _ => rfl) hdg kk
theorem r_qald (hF : xFix p m c cc nL s args RX2) (hE : xE g A s) (hM : xw g A (rW g w ad σ) H) (hB : rB g w ad ν) {q : Nat} (hq : q < 20 ∧ vPl ν q ≠ 0) (hdg : decode cc pc = .ok (.iaload, 1))
    (kk : W p l e R s m args below meth c H locs cells slots Q (F0 m (pc + 1) ls (.int (nI (vPl ν q)) :: rest))) : W p l e R s m args below meth c H locs cells slots Q (F0 m pc ls (.int (nI q) :: .ref (ad 1) :: rest)) := by
  obtain ⟨-, ⟨f, h1, h2⟩, -⟩ := hB
  exact xr_iald (n := 1) hF.1 hF.2.1 hE hM ((rW_n (by omega) (by omega) (by omega)).trans h1) hq.1 (by decide) ((h2 q hq.1).trans (eP_pos hq.2)) hdg kk
theorem r_pald (hF : xFix p m c cc nL s args RX2) (hE : xE g A s) (hM : xw g A (rW g w ad σ) H) {i : Nat} (hi : i < 9) {z : Int32} (hz : σ.2.1 i = z) (hdg : decode cc pc = .ok (.iaload, 1))
    (kk : W p l e R s m args below meth c H locs cells slots Q (F0 m (pc + 1) ls (.int z :: rest))) : W p l e R s m args below meth c H locs cells slots Q (F0 m pc ls (.int (nI i) :: .ref (ad 9) :: rest)) :=
  xr_iald hF.1 hF.2.1 hE hM rW_9 hi (by decide) hz hdg kk
theorem r_past (hF : xFix p m c cc nL s args RX2) (hE : xE g A s) (hM : xw g A (rW g w ad σ) H) (hS : va_S A s.heap H locs) {i : Nat} (hi : i < 9) {x : Int32} (hdg : decode cc pc = .ok (.iastore, 1))
    (kk : ∀ (H : Heap) (locs : List Loc), xw g A (rW g w ad (σ.1, upd σ.2.1 i x, σ.2.2)) H → va_S A s.heap H locs → W p l e R s m args below meth c H locs cells slots Q (F0 m (pc + 1) ls rest)) : W p l e R s m args below meth c H locs cells slots Q (F0 m pc ls (.int x :: .int (nI i) :: .ref (ad 9) :: rest)) := by
  refine xr_iast hF.1 hF.2.1 hE hM hS rW_9 hi (by decide) hdg (fun H1 locs1 hM1 hS1 => kk H1 locs1 ?_ hS1)
  rw [← rW_setP]
  exact hM1
theorem r_aald (hF : xFix p m c cc nL s args RX2) (hE : xE g A s) (hM : xw g A (rW g w ad σ) H) (hB : rB g w ad ν) {k : Nat} (hk : k < 512) (hdg : decode cc pc = .ok (.aaload, 1))
    (kk : W p l e R s m args below meth c H locs cells slots Q (F0 m (pc + 1) ls (.ref (ad (1000 + k)) :: rest))) : W p l e R s m args below meth c H locs cells slots Q (F0 m pc ls (.int (nI k) :: .ref (ad 10) :: rest)) := by
  obtain ⟨-, -, ro, h1, h2⟩ := hB
  exact xr_iiald (n := 10) hF.1 hF.2.1 hE hM ((rW_n (by omega) (by omega) (by omega)).trans h1) hk (by decide) (h2 k hk) hdg kk
theorem r_rald (hF : xFix p m c cc nL s args RX2) (hE : xE g A s) (hM : xw g A (rW g w ad σ) H) {k i : Nat} (hk : k < 512) (hi : i < 9) {z : Int32} (hz : σ.2.2 k i = z) (hdg : decode cc pc = .ok (.iaload, 1))
    (kk : W p l e R s m args below meth c H locs cells slots Q (F0 m (pc + 1) ls (.int z :: rest))) : W p l e R s m args below meth c H locs cells slots Q (F0 m pc ls (.int (nI i) :: .ref (ad (1000 + k)) :: rest)) :=
  xr_iald hF.1 hF.2.1 hE hM (rW_r hk) hi (by decide) hz hdg kk
theorem r_rast (hF : xFix p m c cc nL s args RX2) (hE : xE g A s) (hM : xw g A (rW g w ad σ) H) (hS : va_S A s.heap H locs) {k i : Nat} (hk : k < 512) (hi : i < 9) {x : Int32} (hdg : decode cc pc = .ok (.iastore, 1))
    (kk : ∀ (H : Heap) (locs : List Loc), xw g A (rW g w ad (σ.1, σ.2.1, va_up σ.2.2 k (upd (σ.2.2 k) i x))) H → va_S A s.heap H locs → W p l e R s m args below meth c H locs cells slots Q (F0 m (pc + 1) ls rest)) : W p l e R s m args below meth c H locs cells slots Q (F0 m pc ls (.int x :: .int (nI i) :: .ref (ad (1000 + k)) :: rest)) := by
  refine xr_iast hF.1 hF.2.1 hE hM hS (rW_r hk) hi (by decide) hdg (fun H1 locs1 hM1 hS1 => kk H1 locs1 ?_ hS1)
  rw [← rW_setR hk]
  exact hM1
end RR
abbrev rPc (g : xg) (A : Nat → Prop) (w : xw_W) (ad : Nat → Nat) (σ : rS) (As : List Value) : Array Value → State → Prop := xPc g A (.ref (ad 8) :: As) (xw g A (rW g w ad σ))
abbrev rQi (g : xg) (A : Nat → Prop) (w : xw_W) (ad : Nat → Nat) (post : Int32 → rS → Prop) : Array Value → State → Outcome → State → Prop := xQi (S := rS) post (fun u => xw g A (rW g w ad u)) A
abbrev rQv (g : xg) (A : Nat → Prop) (w : xw_W) (ad : Nat → Nat) (post : rS → Prop) : Array Value → State → Outcome → State → Prop := xQv (S := rS) post (fun u => xw g A (rW g w ad u)) A
/-- the places of the set S lie there -/
def rP (ν : nS) (S : Nat) (σ : rS) : Prop := σ.1 = nI (cntN ν S) ∧ ∀ k, k < cntN ν S → σ.2.1 k = nI (vPl ν (stpN ν S k))
theorem w0_eq {ν : nS} {v : Nat} (hv : okPl (vC ν 0) (vC ν 1) v) (hV : vOk ν) : vC ν 2 * (v / 100) + v % 100 = wayN (vC ν 2) (vC ν 1) 0 v := by
  obtain ⟨⟨a1, a2⟩, ⟨b1, b2⟩, -⟩ := hV
  obtain ⟨h1, h2, h3⟩ := hv
  unfold wayN
  by_cases h : v / 100 = 0
  · rw [if_pos (by omega), h]
    simp only [Nat.zero_mod, Nat.mul_zero, Nat.zero_add]
    rw [if_pos (by omega)]
    omega
  · rw [if_neg (by omega), if_neg (by omega)]
    simp only [Nat.zero_mod, Nat.zero_div, Nat.zero_add, Nat.sub_zero]
    rw [if_pos (by omega), Nat.mul_comm]
theorem pl_ok {ν : nS} {S k : Nat} (hV : vOk ν) (hO : okSet ν S) (hk : k < cntN ν S) : okPl (vC ν 0) (vC ν 1) (vPl ν (stpN ν S k)) := by
  obtain ⟨h1, h2⟩ := laysF_in (pl := vPl ν) (S := S) 20 k hk
  rcases hV.2.2.2.2.2.2.1 _ h1 with h | h
  · exact absurd h (hO.2.1 _ h1 h2)
  · exact h
theorem xk_step (l : Launch) (g : xg) (A : Nat → Prop) (w : xw_W) (ad : Nat → Nat) (σ : rS) (ν : nS) (S a b : Nat) (x : Int32) (hB : rB g w ad ν) (hV : vOk ν) (hO : okSet ν S) (hσ : rP ν S σ) (hb9 : b < cntN ν S) (ha : (a = 9 ∧ x = -1) ∨ (a < cntN ν S ∧ x = nI a)) :
    Met l yX2_step (ws_ yX2_step cX2_step 3 (some .int)) (xrm 2 0 0) (rPc g A w ad σ [.int x, .int (nI b)]) (rQi g A w ad (fun r u => r = nI (stepN ν S a b) ∧ u = σ)) 0 0 A := by
  have hD := hO.2.2
  have hpb := pl_ok hV hO hb9
  have hb6 := hpb.lt hV.1.2 hV.2.1.2
  obtain ⟨wk, al, h0⟩ := hB.x0 (σ := σ)
  refine x_start rfl (Nat.le_of_ble_eq_true rfl) ?_
  intro p e s m below meth c hx hb hr hlk hml hown hts hnm hE hM hS ls hl
  have hF : xFix p m c cX2_step 3 s _ RX2 := ⟨hx, hb, hml, hown, hts⟩
  generalize hargs : List.toArray _ = args at hts hF ⊢
  generalize hQ : MQ below _ _ s _ _ A = Q
  refine lv_iload_n hx hb dX2_step_0 rfl (lh_at hl rfl) ?_
  refine lv_iconst (v := -1) hx hb dX2_step_1 (by decide +kernel) ?_
  refine lv_icmp_ne (tgt := 21) hx hb dX2_step_2 (by decide) (fun c1 => ?_) (fun c1 => ?_)
  · have ha' : a < cntN ν S ∧ x = nI a := ha.resolve_left (fun z => c1 z.2)
    have hpa := pl_ok hV hO ha'.1
    have ha6 := hpa.lt hV.1.2 hV.2.1.2
    obtain ⟨ha1, rfl⟩ := ha'
    refine lv_aload_n hx hb dX2_step_21 rfl (lh_at hl rfl) ?_
    refine r_own hF hE hM 3 (by decide) q122 rfl dX2_step_22 ?_
    refine lv_aload_n hx hb dX2_step_25 rfl (lh_at hl rfl) ?_
    refine r_own hF hE hM 0 (by decide) q118 rfl dX2_step_26 ?_
    refine lv_iload_n hx hb dX2_step_29 rfl (lh_at hl rfl) ?_
    refine r_pald hF hE hM (by omega) (by exact hσ.2 a ha1) dX2_step_30 ?_
    refine lv_aload_n hx hb dX2_step_31 rfl (lh_at hl rfl) ?_
    refine r_own hF hE hM 0 (by decide) q118 rfl dX2_step_32 ?_
    refine lv_iload_n hx hb dX2_step_35 rfl (lh_at hl rfl) ?_
    refine r_pald hF hE hM (by omega) (by exact hσ.2 b hb9) dX2_step_36 ?_
    refine x_calli (x_runVN (As := [.int (nI (vPl ν (stpN ν S a))), .int (nI (vPl ν (stpN ν S b)))]) hF hE hS hM hl (xk_between l g A (rW g w ad σ) (ad 0) (vPl ν (stpN ν S a)) (vPl ν (stpN ν S b)) ν ad wk al h0 hV.2.2.1.2 hV.2.1.2 (by omega) (by omega) (by omega) (by omega)) (xw.recv hE hM (by first | assumption | exact va_up_s | rfl | (refine (va_up_n ?_).trans ?_; rotate_left; (first | assumption | exact va_up_s | rfl | (refine (va_up_n ?_).trans ?_; rotate_left; (first | assumption | exact va_up_s | rfl | (refine (va_up_n ?_).trans ?_; rotate_left; (first | assumption | exact va_up_s | rfl | (refine (va_up_n ?_).trans ?_; rotate_left; (first | assumption | exact va_up_s | rfl | (refine (va_up_n ?_).trans ?_; rotate_left; (assumption); omega)); omega)); omega)); omega)); omega)) rfl) q1035 q926 qs6 q38 q927 ⟨rfl, by decide +kernel, by decide +kernel, by show _ = some 2; decide +kernel⟩ rfl rfl ⟨Nat.le_of_ble_eq_true rfl, Nat.le_of_ble_eq_true rfl⟩ rfl (Nat.le_of_ble_eq_true rfl) dX2_step_37 ⟨Nat.le_of_ble_eq_true rfl, Nat.le_of_ble_eq_true rfl⟩) hS (fun r uu H locs hq hM hS => ?_)
    refine hQ ▸ x_iret hx hb hr hlk hS σ ⟨?_, rfl⟩ hM dX2_step_40
    rw [hq]
    unfold stepN ptN
    rw [if_neg (by omega), if_neg (by omega)]
  · have ha' : a = 9 := by
      rcases ha with z | ⟨z1, z2⟩
      · exact z.1
      · rw [c1] at z2
        exact absurd z2.symm (nI_m1 (by omega))
    subst ha'
    refine lv_aload_n hx hb dX2_step_5 rfl (lh_at hl rfl) ?_
    refine r_own hF hE hM 3 (by decide) q122 rfl dX2_step_6 ?_
    refine lv_aload_n hx hb dX2_step_9 rfl (lh_at hl rfl) ?_
    refine r_own hF hE hM 0 (by decide) q118 rfl dX2_step_10 ?_
    refine lv_iload_n hx hb dX2_step_13 rfl (lh_at hl rfl) ?_
    refine r_pald hF hE hM (by omega) (by exact hσ.2 b hb9) dX2_step_14 ?_
    refine x_calli (x_runVN (As := [.int (nI (vPl ν (stpN ν S b)))]) hF hE hS hM hl (xk_fromStart l g A (rW g w ad σ) (ad 0) (vPl ν (stpN ν S b)) ν ad wk al h0 (by omega)) (xw.recv hE hM (by first | assumption | exact va_up_s | rfl | (refine (va_up_n ?_).trans ?_; rotate_left; (first | assumption | exact va_up_s | rfl | (refine (va_up_n ?_).trans ?_; rotate_left; (first | assumption | exact va_up_s | rfl | (refine (va_up_n ?_).trans ?_; rotate_left; (first | assumption | exact va_up_s | rfl | (refine (va_up_n ?_).trans ?_; rotate_left; (first | assumption | exact va_up_s | rfl | (refine (va_up_n ?_).trans ?_; rotate_left; (assumption); omega)); omega)); omega)); omega)); omega)) rfl) q1029 q603 qs1 q38 q604 ⟨rfl, by decide +kernel, by decide +kernel, by show _ = some 1; decide +kernel⟩ rfl rfl ⟨Nat.le_of_ble_eq_true rfl, Nat.le_of_ble_eq_true rfl⟩ rfl (Nat.le_of_ble_eq_true rfl) dX2_step_15 ⟨Nat.le_of_ble_eq_true rfl, Nat.le_of_ble_eq_true rfl⟩) hS (fun r uu H locs hq hM hS => ?_)
    refine lv_goto (tgt := 40) hx hb dX2_step_18 (by decide) ?_
    refine hQ ▸ x_iret hx hb hr hlk hS σ ⟨?_, rfl⟩ hM dX2_step_40
    rw [hq, w0_eq hpb hV]
    unfold stepN ptN
    rw [if_pos rfl, if_neg (by omega)]
theorem xk_lays (l : Launch) (g : xg) (A : Nat → Prop) (w : xw_W) (ad : Nat → Nat) (σ : rS) (ν : nS) (S : Nat) (hB : rB g w ad ν) (hV : vOk ν) (hO : okSet ν S) :
    Met l yX2_lays (ws_ yX2_lays cX2_lays 4 none) (xrm 0 0 0) (rPc g A w ad σ [.int (nI S)]) (rQv g A w ad (fun u => rP ν S u ∧ u.2.2 = σ.2.2)) 0 0 A := by
  have hD := hO.2.2
  have hSl := hO.1
  have hS31 : S < 2 ^ 31 := by omega
  have hpl : ∀ q, q < 20 → vPl ν q ≠ 0 → vPl ν q < 600 := by
    intro q hq h
    rcases hV.2.2.2.2.2.2.1 q hq with z | z
    · exact absurd z h
    · exact (z.lt hV.1.2 hV.2.1.2).1
  refine x_start rfl (Nat.le_of_ble_eq_true rfl) ?_
  intro p e s m below meth c hx hb hr hlk hml hown hts hnm hE hM hS ls hl
  have hF : xFix p m c cX2_lays 4 s _ RX2 := ⟨hx, hb, hml, hown, hts⟩
  generalize hargs : List.toArray _ = args at hts hF ⊢
  generalize hQ : MQ below _ _ s _ _ A = Q
  have prods : ∀ (n i : Nat), i ≤ 20 → 20 < i + n → ∀ (u : rS) (H : Heap) (locs : List Loc) (ls : Array Slot), u.2.2 = σ.2.2 → u.1 = nI (laysF (vPl ν) S i).1 → (∀ k, k < (laysF (vPl ν) S i).1 → u.2.1 k = nI (vPl ν ((laysF (vPl ν) S i).2 k))) → xw g A (rW g w ad u) H → va_S A s.heap H locs → lh ls 4 (xl [(0, .ref (ad 8)), (1, .int (nI S)), (2, .int (nI i))]) → W p l e (xrm 0 0 0) s m args below meth c H locs 0 0 Q (F0 m 7 ls []) := by
    intro n
    induction n with
    | zero => intro i h1 h2; exact absurd h2 (by omega)
    | succ n ih =>
      intro i h1 h2 u H locs ls hG h16 h17 hM hS hl
      refine lv_iload_n hx hb dX2_lays_7 rfl (lh_at hl rfl) ?_
      refine n_bipush hx hb 20 dX2_lays_8 (by decide +kernel) ?_
      refine n_icmp_ge (tgt := 102) hx hb dX2_lays_10 (by decide) (by omega) (by omega) (fun c1 => ?_) (fun c1 => ?_)
      · have e : i = 20 := by omega
        subst e
        exact hQ ▸ x_vret hx hb hr hlk hS u ⟨⟨h16, h17⟩, hG⟩ hM dX2_lays_102
      · have hi : i < 20 := by omega
        refine lv_iload_n hx hb dX2_lays_13 rfl (lh_at hl rfl) ?_
        refine lv_iload_n hx hb dX2_lays_14 rfl (lh_at hl rfl) ?_
        refine n_ishr hx hb (by omega) (by omega) dX2_lays_15 ?_
        refine n_const hx hb 1 dX2_lays_16 (by decide +kernel) ?_
        refine n_iand hx hb dX2_lays_17 ?_
        refine n_const hx hb 1 dX2_lays_18 (by decide +kernel) ?_
        refine n_icmp_ne (tgt := 96) hx hb dX2_lays_19 (by decide) (by have := and1_lt S i; omega) (by omega) (fun c2 => ?_) (fun c2 => ?_)
        · have hb0 : ¬ S.testBit i = true := fun z => c2 (bit_and.mpr z)
          have e : laysF (vPl ν) S (i + 1) = laysF (vPl ν) S i := by simp only [laysF, if_neg hb0]
          refine n_iinc hx hb 1 dX2_lays_96 hl rfl (by decide +kernel) (by decide) (fun ls hl => ?_)
          refine lv_goto (tgt := 7) hx hb dX2_lays_99 (by decide) ?_
          exact ih (i + 1) (by omega) (by omega) _ _ _ _ hG (by rw [e]; exact h16) (by rw [e]; exact h17) hM hS (lh_sub hl _ ⟨rfl, rfl, rfl, trivial⟩)
        · have hb1 : S.testBit i = true := bit_and.mp c2
          have hlt : (laysF (vPl ν) S i).1 < cntN ν S := laysF_lt hi hb1
          have hpi : vPl ν i ≠ 0 := hO.2.1 i hi hb1
          have hpi2 := hpl i hi hpi
          generalize hr9 : laysF (vPl ν) S i = r at h16 h17 hlt
          have hnext : laysF (vPl ν) S (i + 1) = (r.1 + 1, insF r.2 i (insPos (vPl ν) r.2 i r.1)) := by simp only [laysF, if_pos hb1, hr9]
          have hin : ∀ k, k < r.1 → r.2 k < 20 ∧ vPl ν (r.2 k) ≠ 0 ∧ vPl ν (r.2 k) < 600 := by
            intro k hk
            have h3 := laysF_in (pl := vPl ν) (S := S) i k (by rw [hr9]; exact hk)
            rw [hr9] at h3
            have h4 : r.2 k < 20 := by omega
            have h5 := hO.2.1 _ h4 h3.2
            exact ⟨h4, h5, hpl _ h4 h5⟩
          have shift : ∀ (n2 k : Nat), k ≤ r.1 → k < n2 → ∀ (u : rS) (H : Heap) (locs : List Loc) (ls : Array Slot), u.2.2 = σ.2.2 → u.1 = nI r.1 → insPos (vPl ν) r.2 i k = insPos (vPl ν) r.2 i r.1 → (∀ x, x < k → u.2.1 x = nI (vPl ν (r.2 x))) → (∀ x, k < x → x ≤ r.1 → u.2.1 x = nI (vPl ν (r.2 (x - 1)))) → xw g A (rW g w ad u) H → va_S A s.heap H locs → lh ls 4 (xl [(0, .ref (ad 8)), (1, .int (nI S)), (2, .int (nI i)), (3, .int (nI k))]) → W p l e (xrm 0 0 0) s m args below meth c H locs 0 0 Q (F0 m 27 ls []) := by
            intro n2
            induction n2 with
            | zero => intro k h1 h2; exact absurd h2 (by omega)
            | succ n2 ih2 =>
              intro k hk hkn u H locs ls hG h16 hpos hlo hhi hM hS hl
              have stop : k = insPos (vPl ν) r.2 i r.1 → ∀ ls, lh ls 4 (xl [(0, .ref (ad 8)), (1, .int (nI S)), (2, .int (nI i)), (3, .int (nI k))]) → W p l e (xrm 0 0 0) s m args below meth c H locs 0 0 Q (F0 m 71 ls []) := by
                intro hkJ ls hl
                refine lv_aload_n hx hb dX2_lays_71 rfl (lh_at hl rfl) ?_
                refine r_own hF hE hM 0 (by decide) q118 rfl dX2_lays_72 ?_
                refine lv_iload_n hx hb dX2_lays_75 rfl (lh_at hl rfl) ?_
                refine lv_aload_n hx hb dX2_lays_76 rfl (lh_at hl rfl) ?_
                refine r_own hF hE hM 3 (by decide) q122 rfl dX2_lays_77 ?_
                refine r_placeOfProduct hF hE hM hB q144 dX2_lays_80 ?_
                refine lv_iload_n hx hb dX2_lays_83 rfl (lh_at hl rfl) ?_
                refine r_qald hF hE hM hB (by exact ⟨hi, hpi⟩) dX2_lays_84 ?_
                refine r_past hF hE hM hS (by omega) dX2_lays_85 (fun H locs hM hS => ?_)
                refine lv_aload_n hx hb dX2_lays_86 rfl (lh_at hl rfl) ?_
                refine lv_dup hx hb dX2_lays_87 rfl ?_
                refine r_many hF hE hM q120 (by exact h16) dX2_lays_88 ?_
                refine n_const hx hb 1 dX2_lays_91 (by decide +kernel) ?_
                refine n_iadd hx hb dX2_lays_92 ?_
                refine r_putMany hF hE hM hS q120 dX2_lays_93 (fun H locs hM hS => ?_)
                refine n_iinc hx hb 1 dX2_lays_96 hl rfl (by decide +kernel) (by decide) (fun ls hl => ?_)
                refine lv_goto (tgt := 7) hx hb dX2_lays_99 (by decide) ?_
                refine ih (i + 1) (by omega) (by omega) _ _ _ _ (by exact hG) ?_ ?_ hM hS (lh_sub hl _ ⟨rfl, rfl, rfl, trivial⟩)
                · rw [hnext]
                · rw [hnext]
                  intro x hx
                  show upd u.2.1 k (nI (vPl ν i)) x = nI (vPl ν (insF r.2 i (insPos (vPl ν) r.2 i r.1) x))
                  rw [← hkJ]
                  unfold insF
                  by_cases e1 : x = k
                  · subst e1
                    rw [pk_us, if_neg (by omega), if_pos rfl]
                  · rw [pk_un e1]
                    by_cases e2 : x < k
                    · rw [if_pos e2, hlo x e2]
                    · rw [if_neg e2, if_neg e1, hhi x (by omega) (by have : x < r.1 + 1 := hx; omega)]
              refine lv_iload_n hx hb dX2_lays_27 rfl (lh_at hl rfl) ?_
              refine n_if_le (tgt := 71) hx hb dX2_lays_28 (by decide) (by omega) (fun c3 => ?_) (fun c3 => ?_)
              · have e : k = 0 := by omega
                subst e
                exact stop (by rw [← hpos]; rfl) _ hl
              · have hk0 : k - 1 < r.1 := by omega
                have h4 := hin (k - 1) hk0
                refine lv_aload_n hx hb dX2_lays_31 rfl (lh_at hl rfl) ?_
                refine r_own hF hE hM 0 (by decide) q118 rfl dX2_lays_32 ?_
                refine lv_iload_n hx hb dX2_lays_35 rfl (lh_at hl rfl) ?_
                refine n_const hx hb 1 dX2_lays_36 (by decide +kernel) ?_
                refine n_isub hx hb (by omega) dX2_lays_37 ?_
                refine r_pald hF hE hM (by omega) (by exact hlo (k - 1) (by omega)) dX2_lays_38 ?_
                refine lv_aload_n hx hb dX2_lays_39 rfl (lh_at hl rfl) ?_
                refine r_own hF hE hM 3 (by decide) q122 rfl dX2_lays_40 ?_
                refine r_placeOfProduct hF hE hM hB q144 dX2_lays_43 ?_
                refine lv_iload_n hx hb dX2_lays_46 rfl (lh_at hl rfl) ?_
                refine r_qald hF hE hM hB (by exact ⟨hi, hpi⟩) dX2_lays_47 ?_
                have hk1 : k - 1 + 1 = k := by omega
                have hpk : insPos (vPl ν) r.2 i k = if vPl ν i < vPl ν (r.2 (k - 1)) then insPos (vPl ν) r.2 i (k - 1) else k := by
                  rw [← hk1]
                  rfl
                refine n_icmp_le (tgt := 71) hx hb dX2_lays_48 (by decide) (by omega) (by omega) (fun c4 => ?_) (fun c4 => ?_)
                · exact stop (by rw [← hpos, hpk, if_neg (by omega)]) _ hl
                · rw [if_pos (by omega)] at hpk
                  refine lv_aload_n hx hb dX2_lays_51 rfl (lh_at hl rfl) ?_
                  refine r_own hF hE hM 0 (by decide) q118 rfl dX2_lays_52 ?_
                  refine lv_iload_n hx hb dX2_lays_55 rfl (lh_at hl rfl) ?_
                  refine lv_aload_n hx hb dX2_lays_56 rfl (lh_at hl rfl) ?_
                  refine r_own hF hE hM 0 (by decide) q118 rfl dX2_lays_57 ?_
                  refine lv_iload_n hx hb dX2_lays_60 rfl (lh_at hl rfl) ?_
                  refine n_const hx hb 1 dX2_lays_61 (by decide +kernel) ?_
                  refine n_isub hx hb (by omega) dX2_lays_62 ?_
                  refine r_pald hF hE hM (by omega) (by exact hlo (k - 1) (by omega)) dX2_lays_63 ?_
                  refine r_past hF hE hM hS (by omega) dX2_lays_64 (fun H locs hM hS => ?_)
                  refine n_idec hx hb dX2_lays_65 hl rfl (by omega) (by decide) (fun ls hl => ?_)
                  refine lv_goto (tgt := 27) hx hb dX2_lays_68 (by decide) ?_
                  refine ih2 (k - 1) (by omega) (by omega) _ _ _ _ (by exact hG) (by exact h16) (by rw [← hpk]; exact hpos) ?_ ?_ hM hS (lh_sub hl _ ⟨rfl, rfl, rfl, rfl, trivial⟩)
                  · intro x hx
                    show upd u.2.1 k _ x = _
                    rw [pk_un (by omega)]
                    exact hlo x (by omega)
                  · intro x hx hx2
                    show upd u.2.1 k _ x = _
                    by_cases e : x = k
                    · subst e
                      rw [pk_us]
                    · rw [pk_un e]
                      exact hhi x (by omega) hx2
          refine lv_aload_n hx hb dX2_lays_22 rfl (lh_at hl rfl) ?_
          refine r_many hF hE hM q120 (by exact h16) dX2_lays_23 ?_
          refine x_istore_n hx hb dX2_lays_26 rfl hl (by decide) (fun ls hl => ?_)
          exact shift (r.1 + 1) r.1 (Nat.le_refl _) (Nat.lt_succ_self _) _ _ _ _ hG h16 rfl (fun x hx => h17 x hx) (fun x h3 h4 => by omega) hM hS (lh_sub hl _ ⟨rfl, rfl, rfl, rfl, trivial⟩)
  refine lv_aload_n hx hb dX2_lays_0 rfl (lh_at hl rfl) ?_
  refine n_const hx hb 0 dX2_lays_1 (by decide +kernel) ?_
  refine r_putMany hF hE hM hS q120 dX2_lays_2 (fun H locs hM hS => ?_)
  refine n_const hx hb 0 dX2_lays_5 (by decide +kernel) ?_
  refine x_istore_n hx hb dX2_lays_6 rfl hl (by decide) (fun ls hl => ?_)
  exact prods 21 0 (by omega) (by omega) _ _ _ _ (by rfl) rfl (fun k hk => absurd hk (Nat.not_lt_zero k)) hM hS (lh_sub hl _ ⟨rfl, rfl, rfl, trivial⟩)
