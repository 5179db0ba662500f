/-! ways from the start and between places; the router's own world -/
set_option maxRecDepth 100000
/-- the fields of the system's object -/
def fX (ad : Nat → Nat) (ν : nS) (wk al : Int32) : List Value := [.int (nI (vC ν 0)), .int (nI (vC ν 1)), .int (nI (vC ν 2)), .ref (ad 1), .ref (ad 2), .ref (ad 3), .ref (ad 5), .ref (ad 7), .ref (ad 8), .int (nI (vC ν 3)), .int wk, .int al]
def rB (g : xg) (w : xw_W) (ad : Nat → Nat) (ν : nS) : Prop := (∃ wk al, w 0 = some (ad 0, .inr (0, fX ad ν wk al))) ∧ (∃ f, w 1 = some (ad 1, .inl (g.2 0, 20, .inl f)) ∧ ∀ q, q < 20 → f q = eP (vPl ν q)) ∧ ∃ ro, w 10 = some (ad 10, .inl (g.2 2, aQ 512 ro)) ∧ ∀ k, k < 512 → ro k = some (ad (1000 + k))
section XNR
variable {p : Program} {l : Launch} {e : Env} {R : Room} {s : State} {m : MethodId} {args : Array Value} {below : List Frame} {meth : Method} {c : Code} {H : Heap} {locs : List Loc} {cells slots : Nat} {Q : State → Prop}
variable {cc bytes : ByteArray} {pc nL maxL n mc ms : Nat} {ls : Array Slot} {rest st0 As : List Value} {g : xg} {A : Nat → Prop} {P : Heap → Prop} {own C : String} {index : Nat} {y : MethodName} {ret : Option FieldType} {rm : Room} {b : Nat} {lf : Nat → Option Value} {host : String}
theorem x_runVN {Qc : Array Value → State → Outcome → State → Prop} (hF : xFix p m c cc nL s args own) (hE : xE g A s) (hS : va_S A s.heap H locs) (hP : P H) (hls : lh ls nL lf) (hM : Met l y (ws_ y bytes maxL ret) rm (xPc g A (.ref b :: As) P) Qc mc ms A) (hrv : xRv s H C b)
    (h1 : Cond.methodLinkNest own index y host ∈ lw_tbl) (h2 : Cond.instanceMethod y ∈ lw_all) (h3 : Cond.selects C y y ∈ lw_all) (h4 : Cond.initialized C ∈ lw_all) (h5 : Cond.code y bytes maxL ret ∈ lw_all) (hd : y.cls = C ∧ y.cls ≠ "java/lang/invoke/MethodHandle" ∧ y.cls ≠ "java/lang/invoke/VarHandle" ∧ (parseMethodDescriptor y.desc).map (fun d => d.parameters.length) = some As.length)
    (hrc : rm.cells = mc) (hrs : rm.slots = ms) (hR : rm.frames + 1 ≤ R.frames ∧ 8 + (maxL + 11) + rm.locals ≤ R.locals) (hst : st0 = As.reverse ++ .ref b :: rest) (hcat : (rest.map fun v => v.category).sum ≤ 8) (hdg : decode cc pc = .ok (.invokevirtual index, 3)) (hf : cells + mc ≤ R.cells ∧ slots + ms ≤ R.slots) :
    va_Run p l e R s m args below meth c H locs cells slots mc ms (F0 m pc ls st0) rest (Qc (Value.ref b :: As).toArray) A :=
  va_runVN hF hM ⟨va_cnB As.length hF.2.2.2.2 (lw_meth h5) rfl hrc hrs (hE.2.2.1 _ h1 rfl) (hF.2.2.2.2 _ (by rw [hd.1]; exact h4)) hd.2 hR, hF.2.2.2.2 _ h2, hF.2.2.2.2 _ h3⟩ (x_preV hE hS hP hrv) rfl rfl (lh_size hls) hst (lv_room hcat) hdg hf
end XNR
theorem xk_fromStart (l : Launch) (g : xg) (A : Nat → Prop) (w : xw_W) (x0 v : Nat) (ν : nS) (ad : Nat → Nat) (wk al : Int32) (h0 : w 0 = some (x0, .inr (0, fX ad ν wk al))) (hv : v < 1000) :
    Met l yX1_fromStart (ws_ yX1_fromStart cX1_fromStart 2 (some .int)) (xrm 0 0 0) (xPw g A w [.ref x0, .int (nI v)]) (zQi A (xw g A w) (fun r => r = nI (vC ν 2 * (v / 100) + v % 100))) 0 0 A := by
  refine x_start rfl (Nat.le_of_ble_eq_true rfl) ?_
  intro p e s m below meth c hx hb hr hlk hml hown hts hnm hE hM hS ls hl
  have hF : xFix p m c cX1_fromStart 2 s _ RX1 := ⟨hx, hb, hml, hown, hts⟩
  generalize hargs : List.toArray _ = args at hts hF ⊢
  generalize hQ : MQ below _ _ s _ _ A = Q
  refine lv_aload_n hx hb dX1_fromStart_0 rfl (lh_at hl rfl) ?_
  refine xr_get (C := RX1) (T := TX1) (N := 12) (ci := 0) (n := 0) hx hb hts in_X1 hown hE hM (by first | assumption | exact va_up_s | rfl | (refine (va_up_n ?_).trans ?_; rotate_left; (first | assumption | exact va_up_s | rfl | (refine (va_up_n ?_).trans ?_; rotate_left; (first | assumption | exact va_up_s | rfl | (refine (va_up_n ?_).trans ?_; rotate_left; (first | assumption | exact va_up_s | rfl | (refine (va_up_n ?_).trans ?_; rotate_left; (first | assumption | exact va_up_s | rfl | (refine (va_up_n ?_).trans ?_; rotate_left; (assumption); omega)); omega)); omega)); omega)); omega)) rfl 2 (by decide) (hts _ q141) (fun _ h => h) rfl dX1_fromStart_1 ?_
  refine lv_iload_n hx hb dX1_fromStart_4 rfl (lh_at hl rfl) ?_
  refine n_bipush hx hb 100 dX1_fromStart_5 (by decide +kernel) ?_
  refine n_idiv hx hb (by omega) (by decide) (by decide) dX1_fromStart_7 ?_
  refine n_imul hx hb dX1_fromStart_8 ?_
  refine lv_iload_n hx hb dX1_fromStart_9 rfl (lh_at hl rfl) ?_
  refine n_bipush hx hb 100 dX1_fromStart_10 (by decide +kernel) ?_
  refine n_irem hx hb (by omega) (by decide) (by decide) dX1_fromStart_12 ?_
  refine n_iadd hx hb dX1_fromStart_13 ?_
  exact hQ ▸ x_iret hx hb hr hlk hS () rfl hM dX1_fromStart_14
theorem nI_abs {a b : Nat} (ha : a < 2 ^ 30) (hb : b < 2 ^ 30) : (if 0 ≤ nI a - nI b then nI a - nI b else 0 - (nI a - nI b)) = nI (if b ≤ a then a - b else b - a) := by
  by_cases h : b ≤ a
  · rw [if_pos ((nI_sub_ge ha hb).mpr h), if_pos h, pk_sub h]
  · rw [if_neg (fun z => h ((nI_sub_ge ha hb).mp z)), if_neg h, Int32.zero_sub, nI_nsub (by omega)]
theorem xk_between (l : Launch) (g : xg) (A : Nat → Prop) (w : xw_W) (x0 a b : Nat) (ν : nS) (ad : Nat → Nat) (wk al : Int32) (h0 : w 0 = some (x0, .inr (0, fX ad ν wk al))) (hG9 : vC ν 2 ≤ 9) (hP20 : vC ν 1 ≤ 20) (ha : a < 1000) (hb1 : b < 1000) (hap : a % 100 ≤ vC ν 1) (hbp : b % 100 ≤ vC ν 1) :
    Met l yX1_between (ws_ yX1_between cX1_between 6 (some .int)) (xrm 1 0 0) (xPw g A w [.ref x0, .int (nI a), .int (nI b)]) (zQi A (xw g A w) (fun r => r = nI (wayN (vC ν 2) (vC ν 1) a b))) 0 0 A := by
  refine x_start rfl (Nat.le_of_ble_eq_true rfl) ?_
  intro p e s m below meth c hx hb hr hlk hml hown hts hnm hE hM hS ls hl
  have hF : xFix p m c cX1_between 6 s _ RX1 := ⟨hx, hb, hml, hown, hts⟩
  generalize hargs : List.toArray _ = args at hts hF ⊢
  generalize hQ : MQ below _ _ s _ _ A = Q
  refine lv_iload_n hx hb dX1_between_0 rfl (lh_at hl rfl) ?_
  refine n_bipush hx hb 100 dX1_between_1 (by decide +kernel) ?_
  refine n_irem hx hb (by omega) (by decide) (by decide) dX1_between_3 ?_
  refine x_istore_n hx hb dX1_between_4 rfl hl (by decide) (fun ls hl => ?_)
  refine lv_iload_n hx hb dX1_between_5 rfl (lh_at hl rfl) ?_
  refine n_bipush hx hb 100 dX1_between_6 (by decide +kernel) ?_
  refine n_irem hx hb (by omega) (by decide) (by decide) dX1_between_8 ?_
  refine x_istore hx hb dX1_between_9 hl (by decide) (fun ls hl => ?_)
  refine lv_iload_n hx hb dX1_between_11 rfl (lh_at hl rfl) ?_
  refine n_bipush hx hb 100 dX1_between_12 (by decide +kernel) ?_
  refine n_idiv hx hb (by omega) (by decide) (by decide) dX1_between_14 ?_
  refine lv_iload_n hx hb dX1_between_15 rfl (lh_at hl rfl) ?_
  refine n_bipush hx hb 100 dX1_between_16 (by decide +kernel) ?_
  refine n_idiv hx hb (by omega) (by decide) (by decide) dX1_between_18 ?_
  refine n_icmp_ne (tgt := 30) hx hb dX1_between_19 (by decide) (by omega) (by omega) (fun c1 => ?_) (fun c1 => ?_)
  · refine lv_iload_n hx hb dX1_between_30 rfl (lh_at hl rfl) ?_
    refine lv_iload hx hb dX1_between_31 (lh_at hl rfl) ?_
    refine n_iadd hx hb dX1_between_33 ?_
    refine x_istore hx hb dX1_between_34 hl (by decide) (fun ls hl => ?_)
    refine lv_aload_n hx hb dX1_between_36 rfl (lh_at hl rfl) ?_
    refine xr_get (C := RX1) (T := TX1) (N := 12) (ci := 0) (n := 0) hx hb hts in_X1 hown hE hM (by first | assumption | exact va_up_s | rfl | (refine (va_up_n ?_).trans ?_; rotate_left; (first | assumption | exact va_up_s | rfl | (refine (va_up_n ?_).trans ?_; rotate_left; (first | assumption | exact va_up_s | rfl | (refine (va_up_n ?_).trans ?_; rotate_left; (first | assumption | exact va_up_s | rfl | (refine (va_up_n ?_).trans ?_; rotate_left; (first | assumption | exact va_up_s | rfl | (refine (va_up_n ?_).trans ?_; rotate_left; (assumption); omega)); omega)); omega)); omega)); omega)) rfl 2 (by decide) (hts _ q141) (fun _ h => h) rfl dX1_between_37 ?_
    refine lv_iload_n hx hb dX1_between_40 rfl (lh_at hl rfl) ?_
    refine n_bipush hx hb 100 dX1_between_41 (by decide +kernel) ?_
    refine n_idiv hx hb (by omega) (by decide) (by decide) dX1_between_43 ?_
    refine lv_iload_n hx hb dX1_between_44 rfl (lh_at hl rfl) ?_
    refine n_bipush hx hb 100 dX1_between_45 (by decide +kernel) ?_
    refine n_idiv hx hb (by omega) (by decide) (by decide) dX1_between_47 ?_
    refine lv_isub hx hb dX1_between_48 ?_
    refine v_abs hx hb hml hl hown (hts _ q928) (hts _ q929) (hts _ q43) (hts _ q930) (Nat.le_of_ble_eq_true rfl) (Nat.le_of_ble_eq_true rfl) (Nat.le_of_ble_eq_true rfl) (Nat.le_of_ble_eq_true rfl) dX1_between_49 ?_
    refine x_top (nI_abs (by omega) (by omega)) ?_
    refine n_imul hx hb dX1_between_52 ?_
    refine lv_iload hx hb dX1_between_53 (lh_at hl rfl) ?_
    refine n_const hx hb 2 dX1_between_55 (by decide +kernel) ?_
    refine lv_aload_n hx hb dX1_between_56 rfl (lh_at hl rfl) ?_
    refine xr_get (C := RX1) (T := TX1) (N := 12) (ci := 0) (n := 0) hx hb hts in_X1 hown hE hM (by first | assumption | exact va_up_s | rfl | (refine (va_up_n ?_).trans ?_; rotate_left; (first | assumption | exact va_up_s | rfl | (refine (va_up_n ?_).trans ?_; rotate_left; (first | assumption | exact va_up_s | rfl | (refine (va_up_n ?_).trans ?_; rotate_left; (first | assumption | exact va_up_s | rfl | (refine (va_up_n ?_).trans ?_; rotate_left; (first | assumption | exact va_up_s | rfl | (refine (va_up_n ?_).trans ?_; rotate_left; (assumption); omega)); omega)); omega)); omega)); omega)) rfl 1 (by decide) (hts _ q139) (fun _ h => h) rfl dX1_between_57 ?_
    refine n_const hx hb 1 dX1_between_60 (by decide +kernel) ?_
    refine n_iadd hx hb dX1_between_61 ?_
    refine n_imul hx hb dX1_between_62 ?_
    refine lv_iload hx hb dX1_between_63 (lh_at hl rfl) ?_
    refine n_isub hx hb (by omega) dX1_between_65 ?_
    refine n_min hx hb hml hl hown (hts _ q132) (hts _ q133) (hts _ q43) (hts _ q134) (by omega) (by omega) (Nat.le_of_ble_eq_true rfl) (Nat.le_of_ble_eq_true rfl) (Nat.le_of_ble_eq_true rfl) (Nat.le_of_ble_eq_true rfl) dX1_between_66 ?_
    refine n_iadd hx hb dX1_between_69 ?_
    refine hQ ▸ x_iret hx hb hr hlk hS () ?_ hM dX1_between_70
    unfold wayN
    rw [if_neg c1, Nat.mul_comm]
    congr 2
    by_cases h : a % 100 + b % 100 < 2 * (vC ν 1 + 1) - (a % 100 + b % 100)
    · rw [if_pos h, Nat.min_eq_left (by omega)]
    · rw [if_neg h, Nat.min_eq_right (by omega)]
  · refine lv_iload_n hx hb dX1_between_22 rfl (lh_at hl rfl) ?_
    refine lv_iload hx hb dX1_between_23 (lh_at hl rfl) ?_
    refine lv_isub hx hb dX1_between_25 ?_
    refine v_abs hx hb hml hl hown (hts _ q928) (hts _ q929) (hts _ q43) (hts _ q930) (Nat.le_of_ble_eq_true rfl) (Nat.le_of_ble_eq_true rfl) (Nat.le_of_ble_eq_true rfl) (Nat.le_of_ble_eq_true rfl) dX1_between_26 ?_
    refine x_top (nI_abs (by omega) (by omega)) ?_
    refine hQ ▸ x_iret hx hb hr hlk hS () ?_ hM dX1_between_29
    unfold wayN
    rw [if_pos c1]
    congr 1
    by_cases h : b % 100 ≤ a % 100
    · rw [if_pos h, if_neg (by omega)]
    · rw [if_neg h, if_pos (by omega)]
/-- the router's state: how many, the places, the rows -/
abbrev rS : Type := Int32 × (Nat → Int32) × (Nat → Nat → Int32)
def rW (g : xg) (w : xw_W) (ad : Nat → Nat) (σ : rS) : xw_W := fun n =>
  if n = 8 then some (ad 8, .inr (1, [.ref (ad 9), .ref (ad 10), .int σ.1, .ref (ad 0)])) else
  if n = 9 then some (ad 9, .inl (g.2 0, 9, .inl σ.2.1)) else
  if 1000 ≤ n ∧ n < 1512 then some (ad n, .inl (g.2 0, 9, .inl (σ.2.2 (n - 1000)))) else w n
section RW
variable {g : xg} {w : xw_W} {ad : Nat → Nat} {σ : rS}
theorem rW_8 : rW g w ad σ 8 = some (ad 8, .inr (1, [.ref (ad 9), .ref (ad 10), .int σ.1, .ref (ad 0)])) := rfl
theorem rW_9 : rW g w ad σ 9 = some (ad 9, .inl (g.2 0, 9, .inl σ.2.1)) := rfl
theorem rW_r {k : Nat} (h : k < 512) : rW g w ad σ (1000 + k) = some (ad (1000 + k), .inl (g.2 0, 9, .inl (σ.2.2 k))) := by
  unfold rW
  rw [if_neg (by omega), if_neg (by omega), if_pos (by omega), show 1000 + k - 1000 = k by omega]
theorem rW_n {n : Nat} (h : n ≠ 8) (h2 : n ≠ 9) (h3 : n < 1000 ∨ 1512 ≤ n) : rW g w ad σ n = w n := by
  unfold rW
  rw [if_neg h, if_neg h2, if_neg (by omega)]
theorem rW_setM (v : Int32) : va_up (rW g w ad σ) 8 (some (ad 8, .inr (1, [.ref (ad 9), .ref (ad 10), .int v, .ref (ad 0)]))) = rW g w ad (v, σ.2) := by
  funext n
  by_cases h : n = 8
  · subst h
    rw [va_up_s]
    rfl
  · rw [va_up_n h]
    unfold rW
    rw [if_neg h, if_neg h]
theorem rW_setP (f : Nat → Int32) : va_up (rW g w ad σ) 9 (some (ad 9, .inl (g.2 0, 9, .inl f))) = rW g w ad (σ.1, f, σ.2.2) := by
  funext n
  by_cases h : n = 9
  · subst h
    rw [va_up_s]
    rfl
  · rw [va_up_n h]
    unfold rW
    rw [if_neg h, if_neg h]
theorem rW_setR {k : Nat} (hk : k < 512) (f : Nat → Int32) : va_up (rW g w ad σ) (1000 + k) (some (ad (1000 + k), .inl (g.2 0, 9, .inl f))) = rW g w ad (σ.1, σ.2.1, va_up σ.2.2 k f) := by
  funext n
  by_cases h : n = 1000 + k
  · subst h
    rw [va_up_s, rW_r hk]
    simp [va_up]
  · rw [va_up_n h]
    unfold rW
    by_cases h8 : n = 8
    · rw [if_pos h8, if_pos h8]
    · rw [if_neg h8, if_neg h8]
      by_cases h9 : n = 9
      · rw [if_pos h9, if_pos h9]
      · rw [if_neg h9, if_neg h9]
        by_cases hr : 1000 ≤ n ∧ n < 1512
        · rw [if_pos hr, if_pos hr]
          simp only [va_up]
          rw [if_neg (by omega)]
        · rw [if_neg hr, if_neg hr]
end RW
