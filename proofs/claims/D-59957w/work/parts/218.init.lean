/-! Aislewright's constructor -/
set_option maxRecDepth 100000
section XIN
variable {p : Program} {l : Launch} {e : Env} {R : Room} {s : State} {m : MethodId} {args : Array Value} {below : List Frame} {meth : Method} {c : Code} {H : Heap} {locs : List Loc} {cells slots : Nat} {Q : State → Prop}
variable {cc bytes : ByteArray} {pc nL maxL n mc ms : Nat} {ls : Array Slot} {rest st0 As : List Value} {g : xg} {A : Nat → Prop} {P : Heap → Prop} {own C : String} {index : Nat} {y : MethodName} {rm : Room} {b : Nat} {lf : Nat → Option Value} {host : String}
theorem x_runIN {Qc : Array Value → State → Outcome → State → Prop} (hF : xFix p m c cc nL s args own) (hE : xE g A s) (hS : va_S A s.heap H locs) (hP : P H) (hls : lh ls nL lf) (hM : Met l y (ws_ y bytes maxL none) rm (xPc g A (.ref b :: As) P) Qc mc ms A)
    (h1 : Cond.methodLinkNest own index y host ∈ lw_tbl) (h2 : Cond.instanceMethod y ∈ lw_all) (h4 : Cond.initialized y.cls ∈ lw_all) (h5 : Cond.code y bytes maxL none ∈ lw_all) (hy1 : y.name = "<init>") (hd : y.cls ≠ "java/lang/invoke/MethodHandle" ∧ y.cls ≠ "java/lang/invoke/VarHandle" ∧ (parseMethodDescriptor y.desc).map (fun d => d.parameters.length) = some As.length)
    (hrc : rm.cells = mc) (hrs : rm.slots = ms) (hR : rm.frames + 1 ≤ R.frames ∧ 8 + (maxL + 11) + rm.locals ≤ R.locals) (hst : st0 = As.reverse ++ .ref b :: rest) (hcat : (rest.map fun v => v.category).sum ≤ 8) (hdg : decode cc pc = .ok (.invokespecial index, 3)) (hf : cells + mc ≤ R.cells ∧ slots + ms ≤ R.slots) :
    va_Run p l e R s m args below meth c H locs cells slots mc ms (F0 m pc ls st0) rest (Qc (Value.ref b :: As).toArray) A :=
  va_runIN hF hM ⟨va_cnB As.length hF.2.2.2.2 (lw_meth h5) rfl hrc hrs (hE.2.2.1 _ h1 rfl) (hF.2.2.2.2 _ h4) hd hR, hy1, hF.2.2.2.2 _ h2⟩ (x_preS hE hS hP) rfl rfl (lh_size hls) hst (lv_room hcat) hdg hf
end XIN
theorem clN_mm {v : Int32} {hi : Nat} (h1 : 1 ≤ hi) (hh : hi < 2 ^ 31) : (if nI 1 < (if v < nI hi then v else nI hi) then (if v < nI hi then v else nI hi) else nI 1) = nI (clN v hi) := by
  have e1 : (nI 1).toInt = 1 := nI_toInt (by decide)
  have e2 : (nI hi).toInt = hi := nI_toInt hh
  by_cases c1 : v < nI hi
  · rw [if_pos c1]
    by_cases c2 : nI 1 < v
    · rw [if_pos c2]
      refine (clN_mid hh (fun z => ?_) ?_).symm
      · rw [Int32.lt_iff_toInt_lt] at c2 z
        omega
      · rw [Int32.lt_iff_toInt_lt] at c1
        rw [Int32.le_iff_toInt_le]
        omega
    · rw [if_neg c2]
      by_cases c3 : v < nI 1
      · rw [clN_lo c3]
      · have : v.toInt = 1 := by
          rw [Int32.lt_iff_toInt_lt] at c2 c3
          omega
        unfold clN
        rw [Int32.lt_iff_toInt_lt] at c1
        rw [if_neg (by omega), if_neg (by omega), this]
        rfl
  · rw [if_neg c1]
    rw [Int32.lt_iff_toInt_lt] at c1
    have k : clN v hi = hi := by
      unfold clN
      by_cases c4 : v.toInt < 1
      · rw [if_pos c4]
        omega
      · rw [if_neg c4]
        by_cases c5 : (hi : Int) < v.toInt
        · rw [if_pos c5]
        · rw [if_neg c5]
          omega
    rw [k]
    by_cases c2 : nI 1 < nI hi
    · rw [if_pos c2]
    · rw [if_neg c2]
      rw [Int32.lt_iff_toInt_lt] at c2
      rw [show hi = 1 by omega]
abbrev xFs0 : List Value := [.int 0, .int 0, .int 0, .null, .null, .null, .null, .null, .null, .int 0, .int 0, .int 0]
def xAd0 (x0 q1 q2 q3 q5 q7 q8 q9 q10 : Nat) : Nat → Nat := fun n =>
  if n = 0 then x0 else if n = 1 then q1 else if n = 2 then q2 else if n = 3 then q3 else if n = 5 then q5 else if n = 7 then q7 else if n = 8 then q8 else if n = 9 then q9 else if n = 10 then q10 else if n < 1000 then q7 + 1 + (n - 100) else q10 + 1 + (n - 1000)
theorem xOk_0 {a b c : Nat} (ha : 1 ≤ a ∧ a ≤ 6) (hp : 1 ≤ b ∧ b ≤ 20) (hg : 1 ≤ c ∧ c ≤ 9) : xOk (ν0 a b c) :=
  ⟨⟨ha, hp, hg, ⟨by show 1 ≤ 6; decide, by show 6 ≤ 9; decide⟩, by show 0 ≤ 40; decide, by show 0 ≤ 40; decide, fun _ _ => Or.inl rfl, fun o ho => absurd ho (Nat.not_lt_zero o)⟩, fun b hb => absurd hb (Nat.not_lt_zero b), fun o ho => absurd ho (Nat.not_lt_zero o), Nat.zero_le _, Nat.zero_le _⟩
theorem XR_0 {g : xg} {a b c x0 q1 q2 q3 q5 q7 q8 q9 q10 : Nat} {u : xw_W} {f : Nat → Int32} (h0 : u 0 = some (x0, .inr (0, [.int (nI a), .int (nI b), .int (nI c), .ref q1, .ref q2, .ref q3, .ref q5, .ref q7, .ref q8, .int (nI 6), .int 0, .int 0])))
    (h1 : u 1 = some (q1, .inl (g.2 0, 20, .inl f))) (hf : ∀ q, q < 20 → f q = -1) (h2 : u 2 = some (q2, .inl (g.2 0, 20, .inl (fun _ => 0)))) (h3 : u 3 = some (q3, .inr (6, [.int 0, .ref (g.2 5), .int 0]))) (h5 : u 5 = some (q5, .inr (6, [.int 0, .ref (g.2 5), .int 0])))
    (h7 : u 7 = some (q7, .inl (g.2 2, aQ 40 (fun j => some (q7 + 1 + j))))) (h7r : ∀ k, k < 40 → u (100 + k) = some (q7 + 1 + k, .inl (g.2 0, 40, .inl (fun _ => 0)))) (h8 : u 8 = some (q8, .inr (1, [.ref q9, .ref q10, .int 0, .ref x0]))) (h9 : u 9 = some (q9, .inl (g.2 0, 9, .inl (fun _ => 0))))
    (hA : u 10 = some (q10, .inl (g.2 2, aQ 512 (fun j => some (q10 + 1 + j))))) (hAr : ∀ k, k < 512 → u (1000 + k) = some (q10 + 1 + k, .inl (g.2 0, 9, .inl (fun _ => 0)))) (hn : ∀ n, n = 4 ∨ n = 6 ∨ (11 ≤ n ∧ n < 100) ∨ 2000 ≤ n → u n = none) : XR g (ν0 a b c) (xAd0 x0 q1 q2 q3 q5 q7 q8 q9 q10) (fun _ => []) u := by
  have aS : ∀ k, k < 40 → xAd0 x0 q1 q2 q3 q5 q7 q8 q9 q10 (100 + k) = q7 + 1 + k := fun k hk => by
    unfold xAd0
    rw [if_neg (by omega), if_neg (by omega), if_neg (by omega), if_neg (by omega), if_neg (by omega), if_neg (by omega), if_neg (by omega), if_neg (by omega), if_neg (by omega), if_pos (by omega)]
    omega
  have aR : ∀ k, k < 512 → xAd0 x0 q1 q2 q3 q5 q7 q8 q9 q10 (1000 + k) = q10 + 1 + k := fun k hk => by
    unfold xAd0
    rw [if_neg (by omega), if_neg (by omega), if_neg (by omega), if_neg (by omega), if_neg (by omega), if_neg (by omega), if_neg (by omega), if_neg (by omega), if_neg (by omega), if_neg (by omega)]
    omega
  refine ⟨h0, ⟨f, h1, fun q hq => hf q hq⟩, ⟨_, h2, fun q hq => rfl⟩, ⟨0, g.2 5, h3, Nat.zero_le _, fun y hy => absurd hy List.not_mem_nil, Or.inl ⟨rfl, rfl⟩⟩, ⟨0, g.2 5, h5, Nat.zero_le _, fun y hy => absurd hy List.not_mem_nil, Or.inl ⟨rfl, rfl⟩⟩, ⟨_, h7, fun k hk => ⟨by rw [aS k hk], _, by rw [aS k hk]; exact h7r k hk⟩⟩, rou_of ⟨0, h8⟩ ⟨_, h9⟩ (fun k hk => ⟨_, by rw [aR k hk]; exact hAr k hk⟩), ⟨_, hA, fun k hk => by rw [aR k hk]⟩, fun o ho => absurd ho (Nat.not_lt_zero o), fun b hb => absurd hb (Nat.not_lt_zero b), fun n n1 n2 => hn n (by omega), fun n n1 b c fs e => ?_, fun n n1 n2 => hn n (by omega), fun n n1 n2 => hn n (by omega)⟩
  rw [hn n (by omega)] at e
  cases e
set_option maxHeartbeats 4000000 in
theorem xk_init (l : Launch) (g : xg) (A : Nat → Prop) (x0 : Nat) (v1 v2 v3 : Int32) :
    Met l yX1_init (ws_ yX1_init cX1_init 5 none) (xrm 4 560 6819) (xPw g A (va_up (fun _ => none) 0 (some (x0, .inr (0, xFs0)))) [.ref x0, .int v1, .int v2, .int v3]) (xQwv g A (fun u => xI g (ν0 (clN v1 6) (clN v2 20) (clN v3 9)) x0 u)) 560 6819 A := by
  refine x_start rfl (Nat.le_of_ble_eq_true rfl) ?_
  intro p e s m below meth c hx hb hr hlk hml hown hts hnm hE hM hS ls hl
  have hF : xFix p m c cX1_init 5 s _ RX1 := ⟨hx, hb, hml, hown, hts⟩
  generalize hargs : List.toArray _ = args at hts hF ⊢
  generalize hQ : MQ below _ _ s _ _ A = Q
  refine lv_aload_n hx hb dX1_init_0 rfl (lh_at hl rfl) ?_
  refine x_obj hx hb hml hown (hts _ q76) (hts _ q77) (hts _ q78) hl dX1_init_1 (Nat.le_of_ble_eq_true rfl) (Nat.le_of_ble_eq_true rfl) ?_
  refine lv_aload_n hx hb dX1_init_4 rfl (lh_at hl rfl) ?_
  refine n_bipush hx hb 20 dX1_init_5 (by decide +kernel) ?_
  refine xr_newi hx hb (hts _ q108) hE hM hS 1 (by omega) (Nat.le_of_ble_eq_true rfl) (Nat.le_of_ble_eq_true rfl) dX1_init_7 (fun q1 H hq1 hM hS => ?_)
  refine xr_putF (C := RX1) (T := TX1) (N := 12) (ci := 0) (n := 0) hx hb hts in_X1 tyX1 tyX1_ok nmX1 hown hE hM hS (by first | assumption | exact va_up_s | rfl | (refine (va_up_n ?_).trans ?_; rotate_left; (first | assumption | exact va_up_s | rfl | (refine (va_up_n ?_).trans ?_; rotate_left; (first | assumption | exact va_up_s | rfl | (refine (va_up_n ?_).trans ?_; rotate_left; (first | assumption | exact va_up_s | rfl | (refine (va_up_n ?_).trans ?_; rotate_left; (first | assumption | exact va_up_s | rfl | (refine (va_up_n ?_).trans ?_; rotate_left; (assumption); omega)); omega)); omega)); omega)); omega)) rfl 3 (by decide) (hts _ q143) (fun _ h => h) rfl hnm rfl (tyX1_ok 3 (by decide)) rfl rfl (Nat.le_of_ble_eq_true rfl) dX1_init_9 (fun H locs hM hS => ?_)
  refine lv_aload_n hx hb dX1_init_12 rfl (lh_at hl rfl) ?_
  refine n_bipush hx hb 20 dX1_init_13 (by decide +kernel) ?_
  refine xr_newi hx hb (hts _ q108) hE hM hS 2 (by omega) (Nat.le_of_ble_eq_true rfl) (Nat.le_of_ble_eq_true rfl) dX1_init_15 (fun q2 H hq2 hM hS => ?_)
  refine xr_putF (C := RX1) (T := TX1) (N := 12) (ci := 0) (n := 0) hx hb hts in_X1 tyX1 tyX1_ok nmX1 hown hE hM hS (by first | assumption | exact va_up_s | rfl | (refine (va_up_n ?_).trans ?_; rotate_left; (first | assumption | exact va_up_s | rfl | (refine (va_up_n ?_).trans ?_; rotate_left; (first | assumption | exact va_up_s | rfl | (refine (va_up_n ?_).trans ?_; rotate_left; (first | assumption | exact va_up_s | rfl | (refine (va_up_n ?_).trans ?_; rotate_left; (first | assumption | exact va_up_s | rfl | (refine (va_up_n ?_).trans ?_; rotate_left; (assumption); omega)); omega)); omega)); omega)); omega)) rfl 4 (by decide) (hts _ q145) (fun _ h => h) rfl hnm rfl (tyX1_ok 4 (by decide)) rfl rfl (Nat.le_of_ble_eq_true rfl) dX1_init_17 (fun H locs hM hS => ?_)
  refine lv_aload_n hx hb dX1_init_20 rfl (lh_at hl rfl) ?_
  refine xr_new hx hb hts in_J2 tyJ2 tyJ2_ok hown (hts _ q79) (hts _ q80) (hts _ q41) hE hM hS 3 (ci := 6) (fs := [.int 0, .null, .int 0]) rfl (by decide) (Nat.le_of_ble_eq_true rfl) (Nat.le_of_ble_eq_true rfl) dX1_init_21 (fun q3 H hq3 hM hS => ?_)
  refine lv_dup hx hb dX1_init_24 rfl ?_
  refine x_callv (x_runI (As := []) hF hE hS hM hl (jk_init l g A _ 3 q3 .null 0 va_up_s) q81 q82 q41 q83 rfl ⟨by decide +kernel, by decide +kernel, by show _ = some 0; decide +kernel⟩ rfl rfl ⟨Nat.le_of_ble_eq_true rfl, Nat.le_of_ble_eq_true rfl⟩ rfl (Nat.le_of_ble_eq_true rfl) dX1_init_25 ⟨Nat.le_of_ble_eq_true rfl, Nat.le_of_ble_eq_true rfl⟩) hS (fun u H locs hq hM hS => ?_)
  rw [hq] at hM
  clear hq
  refine xr_putF (C := RX1) (T := TX1) (N := 12) (ci := 0) (n := 0) hx hb hts in_X1 tyX1 tyX1_ok nmX1 hown hE hM hS (by first | assumption | exact va_up_s | rfl | (refine (va_up_n ?_).trans ?_; rotate_left; (first | assumption | exact va_up_s | rfl | (refine (va_up_n ?_).trans ?_; rotate_left; (first | assumption | exact va_up_s | rfl | (refine (va_up_n ?_).trans ?_; rotate_left; (first | assumption | exact va_up_s | rfl | (refine (va_up_n ?_).trans ?_; rotate_left; (first | assumption | exact va_up_s | rfl | (refine (va_up_n ?_).trans ?_; rotate_left; (assumption); omega)); omega)); omega)); omega)); omega)) rfl 5 (by decide) (hts _ q146) (fun _ h => h) rfl hnm rfl (tyX1_ok 5 (by decide)) rfl rfl (Nat.le_of_ble_eq_true rfl) dX1_init_28 (fun H locs hM hS => ?_)
  refine lv_aload_n hx hb dX1_init_31 rfl (lh_at hl rfl) ?_
  refine xr_new hx hb hts in_J2 tyJ2 tyJ2_ok hown (hts _ q79) (hts _ q80) (hts _ q41) hE hM hS 5 (ci := 6) (fs := [.int 0, .null, .int 0]) rfl (by decide) (Nat.le_of_ble_eq_true rfl) (Nat.le_of_ble_eq_true rfl) dX1_init_32 (fun q5 H hq5 hM hS => ?_)
  refine lv_dup hx hb dX1_init_35 rfl ?_
  refine x_callv (x_runI (As := []) hF hE hS hM hl (jk_init l g A _ 5 q5 .null 0 va_up_s) q81 q82 q41 q83 rfl ⟨by decide +kernel, by decide +kernel, by show _ = some 0; decide +kernel⟩ rfl rfl ⟨Nat.le_of_ble_eq_true rfl, Nat.le_of_ble_eq_true rfl⟩ rfl (Nat.le_of_ble_eq_true rfl) dX1_init_36 ⟨Nat.le_of_ble_eq_true rfl, Nat.le_of_ble_eq_true rfl⟩) hS (fun u H locs hq hM hS => ?_)
  rw [hq] at hM
  clear hq
  refine xr_putF (C := RX1) (T := TX1) (N := 12) (ci := 0) (n := 0) hx hb hts in_X1 tyX1 tyX1_ok nmX1 hown hE hM hS (by first | assumption | exact va_up_s | rfl | (refine (va_up_n ?_).trans ?_; rotate_left; (first | assumption | exact va_up_s | rfl | (refine (va_up_n ?_).trans ?_; rotate_left; (first | assumption | exact va_up_s | rfl | (refine (va_up_n ?_).trans ?_; rotate_left; (first | assumption | exact va_up_s | rfl | (refine (va_up_n ?_).trans ?_; rotate_left; (first | assumption | exact va_up_s | rfl | (refine (va_up_n ?_).trans ?_; rotate_left; (assumption); omega)); omega)); omega)); omega)); omega)) rfl 6 (by decide) (hts _ q147) (fun _ h => h) rfl hnm rfl (tyX1_ok 6 (by decide)) rfl rfl (Nat.le_of_ble_eq_true rfl) dX1_init_39 (fun H locs hM hS => ?_)
  refine lv_aload_n hx hb dX1_init_42 rfl (lh_at hl rfl) ?_
  refine n_bipush hx hb 40 dX1_init_43 (by decide +kernel) ?_
  refine n_bipush hx hb 40 dX1_init_45 (by decide +kernel) ?_
  refine xr_multi hx hb hown (hts _ q109) (hts _ q108) hE hM hS 7 100 (by decide) (by decide) (by decide) (Nat.le_of_ble_eq_true rfl) (Nat.le_of_ble_eq_true rfl) dX1_init_47 (fun q7 H hq7 hM hS => ?_)
  refine xr_putF (C := RX1) (T := TX1) (N := 12) (ci := 0) (n := 0) hx hb hts in_X1 tyX1 tyX1_ok nmX1 hown hE hM hS (by (refine (xGrid_n (by decide) (by decide)).trans ?_); exact va_up_s) rfl 7 (by decide) (hts _ q148) (fun _ h => h) rfl hnm rfl (tyX1_ok 7 (by decide)) rfl rfl (Nat.le_of_ble_eq_true rfl) dX1_init_51 (fun H locs hM hS => ?_)
  obtain ⟨w9, hM, k0, k1, k2, k3, k5, k7, kr, kn⟩ : ∃ w9, xw g A w9 H ∧ w9 0 = some (x0, .inr (0, [.int 0, .int 0, .int 0, .ref q1, .ref q2, .ref q3, .ref q5, .ref q7, .null, .int 0, .int 0, .int 0])) ∧ w9 1 = some (q1, .inl (g.2 0, 20, .inl (fun _ => 0))) ∧ w9 2 = some (q2, .inl (g.2 0, 20, .inl (fun _ => 0))) ∧
      w9 3 = some (q3, .inr (6, [.int 0, .ref (g.2 5), .int 0])) ∧ w9 5 = some (q5, .inr (6, [.int 0, .ref (g.2 5), .int 0])) ∧ w9 7 = some (q7, .inl (g.2 2, aQ 40 (fun j => some (q7 + 1 + j)))) ∧ (∀ k, k < 40 → w9 (100 + k) = some (q7 + 1 + k, .inl (g.2 0, 40, .inl (fun _ => 0)))) ∧
      ∀ n, n = 4 ∨ n = 6 ∨ (8 ≤ n ∧ n < 100) ∨ 140 ≤ n → w9 n = none := by
    refine ⟨_, hM, va_up_s, ?_, ?_, ?_, ?_, ?_, fun k hk => ?_, fun n hn => ?_⟩
    · simp [va_up, xGrid]
    · simp [va_up, xGrid]
    · simp [va_up, xGrid]
    · simp [va_up, xGrid]
    · simp [va_up, xGrid]
    · rw [va_up_n (by omega), xGrid_r (by decide) hk]
    · have n0 : n ≠ 0 := by omega
      have n1 : n ≠ 1 := by omega
      have n2 : n ≠ 2 := by omega
      have n3 : n ≠ 3 := by omega
      have n5 : n ≠ 5 := by omega
      rw [va_up_n n0, xGrid_n (by omega) (by omega)]
      simp [va_up, n0, n1, n2, n3, n5]
  refine lv_aload_n hx hb dX1_init_54 rfl (lh_at hl rfl) ?_
  refine xr_new hx hb hts in_X2 tyX2 tyX2_ok hown (hts _ q111) (hts _ q112) (hts _ q42) hE hM hS 8 (ci := 1) (fs := [.null, .null, .int 0, .null]) rfl (by decide) (Nat.le_of_ble_eq_true rfl) (Nat.le_of_ble_eq_true rfl) dX1_init_55 (fun q8 H hq8 hM hS => ?_)
  refine lv_dup hx hb dX1_init_58 rfl ?_
  refine lv_aload_n hx hb dX1_init_59 rfl (lh_at hl rfl) ?_
  refine x_callv (x_runIN (As := [.ref x0]) hF hE hS hM hl (xk_routerInit l g A _ q8 x0 va_up_s ⟨_, (va_up_n (by decide)).trans k0⟩) q113 q114 q42 q115 rfl ⟨by decide +kernel, by decide +kernel, by show _ = some 1; decide +kernel⟩ rfl rfl ⟨Nat.le_of_ble_eq_true rfl, Nat.le_of_ble_eq_true rfl⟩ rfl (Nat.le_of_ble_eq_true rfl) dX1_init_60 ⟨Nat.le_of_ble_eq_true rfl, Nat.le_of_ble_eq_true rfl⟩) hS (fun u H locs hq hM hS => ?_)
  obtain ⟨q9, q10, u8, u9, uA, uAr, un⟩ := hq
  have un2 : ∀ n, n ≠ 8 → n ≠ 9 → n ≠ 10 → (n < 1000 ∨ 1512 ≤ n) → u n = w9 n := fun n n8 n9 nA nr => (un n n8 n9 nA nr).trans (va_up_n n8)
  have u0 := (un2 0 (by decide) (by decide) (by decide) (by decide)).trans k0
  refine xr_putF (C := RX1) (T := TX1) (N := 12) (ci := 0) (n := 0) hx hb hts in_X1 tyX1 tyX1_ok nmX1 hown hE hM hS (by first | assumption | exact va_up_s | rfl | (refine (va_up_n ?_).trans ?_; rotate_left; (first | assumption | exact va_up_s | rfl | (refine (va_up_n ?_).trans ?_; rotate_left; (first | assumption | exact va_up_s | rfl | (refine (va_up_n ?_).trans ?_; rotate_left; (first | assumption | exact va_up_s | rfl | (refine (va_up_n ?_).trans ?_; rotate_left; (first | assumption | exact va_up_s | rfl | (refine (va_up_n ?_).trans ?_; rotate_left; (assumption); omega)); omega)); omega)); omega)); omega)) rfl 8 (by decide) (hts _ q149) (fun _ h => h) rfl hnm rfl (tyX1_ok 8 (by decide)) rfl rfl (Nat.le_of_ble_eq_true rfl) dX1_init_63 (fun H locs hM hS => ?_)
  refine lv_aload_n hx hb dX1_init_66 rfl (lh_at hl rfl) ?_
  refine n_bipush hx hb 6 dX1_init_67 (by decide +kernel) ?_
  refine xr_put (C := RX1) (T := TX1) (N := 12) (ci := 0) (n := 0) hx hb hts in_X1 tyX1 tyX1_ok nmX1 hown hE hM hS (by first | assumption | exact va_up_s | rfl | (refine (va_up_n ?_).trans ?_; rotate_left; (first | assumption | exact va_up_s | rfl | (refine (va_up_n ?_).trans ?_; rotate_left; (first | assumption | exact va_up_s | rfl | (refine (va_up_n ?_).trans ?_; rotate_left; (first | assumption | exact va_up_s | rfl | (refine (va_up_n ?_).trans ?_; rotate_left; (first | assumption | exact va_up_s | rfl | (refine (va_up_n ?_).trans ?_; rotate_left; (assumption); omega)); omega)); omega)); omega)); omega)) rfl 9 (by decide) (hts _ q150) (fun _ h => h) rfl (tyX1_ok 9 (by decide)) rfl rfl (Nat.le_of_ble_eq_true rfl) dX1_init_69 (fun H locs hM hS => ?_)
  refine lv_aload_n hx hb dX1_init_72 rfl (lh_at hl rfl) ?_
  refine n_const hx hb 1 dX1_init_73 (by decide +kernel) ?_
  refine n_bipush hx hb 6 dX1_init_74 (by decide +kernel) ?_
  refine lv_iload_n hx hb dX1_init_76 rfl (lh_at hl rfl) ?_
  refine v_min hx hb hml hl hown (hts _ q132) (hts _ q133) (hts _ q43) (hts _ q134) (Nat.le_of_ble_eq_true rfl) (Nat.le_of_ble_eq_true rfl) (Nat.le_of_ble_eq_true rfl) (Nat.le_of_ble_eq_true rfl) dX1_init_77 ?_
  refine v_max hx hb hml hl hown (hts _ q135) (hts _ q136) (hts _ q43) (hts _ q137) (Nat.le_of_ble_eq_true rfl) (Nat.le_of_ble_eq_true rfl) (Nat.le_of_ble_eq_true rfl) (Nat.le_of_ble_eq_true rfl) dX1_init_80 ?_
  rw [clN_mm (hi := 6) (by decide) (by decide)]
  refine xr_putF (C := RX1) (T := TX1) (N := 12) (ci := 0) (n := 0) hx hb hts in_X1 tyX1 tyX1_ok nmX1 hown hE hM hS (by first | assumption | exact va_up_s | rfl | (refine (va_up_n ?_).trans ?_; rotate_left; (first | assumption | exact va_up_s | rfl | (refine (va_up_n ?_).trans ?_; rotate_left; (first | assumption | exact va_up_s | rfl | (refine (va_up_n ?_).trans ?_; rotate_left; (first | assumption | exact va_up_s | rfl | (refine (va_up_n ?_).trans ?_; rotate_left; (first | assumption | exact va_up_s | rfl | (refine (va_up_n ?_).trans ?_; rotate_left; (assumption); omega)); omega)); omega)); omega)); omega)) rfl 0 (by decide) (hts _ q138) (fun _ h => h) rfl hnm rfl (tyX1_ok 0 (by decide)) rfl rfl (Nat.le_of_ble_eq_true rfl) dX1_init_83 (fun H locs hM hS => ?_)
  refine lv_aload_n hx hb dX1_init_86 rfl (lh_at hl rfl) ?_
  refine n_const hx hb 1 dX1_init_87 (by decide +kernel) ?_
  refine n_bipush hx hb 20 dX1_init_88 (by decide +kernel) ?_
  refine lv_iload_n hx hb dX1_init_90 rfl (lh_at hl rfl) ?_
  refine v_min hx hb hml hl hown (hts _ q132) (hts _ q133) (hts _ q43) (hts _ q134) (Nat.le_of_ble_eq_true rfl) (Nat.le_of_ble_eq_true rfl) (Nat.le_of_ble_eq_true rfl) (Nat.le_of_ble_eq_true rfl) dX1_init_91 ?_
  refine v_max hx hb hml hl hown (hts _ q135) (hts _ q136) (hts _ q43) (hts _ q137) (Nat.le_of_ble_eq_true rfl) (Nat.le_of_ble_eq_true rfl) (Nat.le_of_ble_eq_true rfl) (Nat.le_of_ble_eq_true rfl) dX1_init_94 ?_
  rw [clN_mm (hi := 20) (by decide) (by decide)]
  refine xr_putF (C := RX1) (T := TX1) (N := 12) (ci := 0) (n := 0) hx hb hts in_X1 tyX1 tyX1_ok nmX1 hown hE hM hS (by first | assumption | exact va_up_s | rfl | (refine (va_up_n ?_).trans ?_; rotate_left; (first | assumption | exact va_up_s | rfl | (refine (va_up_n ?_).trans ?_; rotate_left; (first | assumption | exact va_up_s | rfl | (refine (va_up_n ?_).trans ?_; rotate_left; (first | assumption | exact va_up_s | rfl | (refine (va_up_n ?_).trans ?_; rotate_left; (first | assumption | exact va_up_s | rfl | (refine (va_up_n ?_).trans ?_; rotate_left; (assumption); omega)); omega)); omega)); omega)); omega)) rfl 1 (by decide) (hts _ q139) (fun _ h => h) rfl hnm rfl (tyX1_ok 1 (by decide)) rfl rfl (Nat.le_of_ble_eq_true rfl) dX1_init_97 (fun H locs hM hS => ?_)
  refine lv_aload_n hx hb dX1_init_100 rfl (lh_at hl rfl) ?_
  refine n_const hx hb 1 dX1_init_101 (by decide +kernel) ?_
  refine n_bipush hx hb 9 dX1_init_102 (by decide +kernel) ?_
  refine lv_iload_n hx hb dX1_init_104 rfl (lh_at hl rfl) ?_
  refine v_min hx hb hml hl hown (hts _ q132) (hts _ q133) (hts _ q43) (hts _ q134) (Nat.le_of_ble_eq_true rfl) (Nat.le_of_ble_eq_true rfl) (Nat.le_of_ble_eq_true rfl) (Nat.le_of_ble_eq_true rfl) dX1_init_105 ?_
  refine v_max hx hb hml hl hown (hts _ q135) (hts _ q136) (hts _ q43) (hts _ q137) (Nat.le_of_ble_eq_true rfl) (Nat.le_of_ble_eq_true rfl) (Nat.le_of_ble_eq_true rfl) (Nat.le_of_ble_eq_true rfl) dX1_init_108 ?_
  rw [clN_mm (hi := 9) (by decide) (by decide)]
  refine xr_putF (C := RX1) (T := TX1) (N := 12) (ci := 0) (n := 0) hx hb hts in_X1 tyX1 tyX1_ok nmX1 hown hE hM hS (by first | assumption | exact va_up_s | rfl | (refine (va_up_n ?_).trans ?_; rotate_left; (first | assumption | exact va_up_s | rfl | (refine (va_up_n ?_).trans ?_; rotate_left; (first | assumption | exact va_up_s | rfl | (refine (va_up_n ?_).trans ?_; rotate_left; (first | assumption | exact va_up_s | rfl | (refine (va_up_n ?_).trans ?_; rotate_left; (first | assumption | exact va_up_s | rfl | (refine (va_up_n ?_).trans ?_; rotate_left; (assumption); omega)); omega)); omega)); omega)); omega)) rfl 2 (by decide) (hts _ q141) (fun _ h => h) rfl hnm rfl (tyX1_ok 2 (by decide)) rfl rfl (Nat.le_of_ble_eq_true rfl) dX1_init_111 (fun H locs hM hS => ?_)
  obtain ⟨V, hM, v0, vn⟩ : ∃ V, xw g A V H ∧ V 0 = some (x0, .inr (0, [.int (nI (clN v1 6)), .int (nI (clN v2 20)), .int (nI (clN v3 9)), .ref q1, .ref q2, .ref q3, .ref q5, .ref q7, .ref q8, .int (nI 6), .int 0, .int 0])) ∧ ∀ n, n ≠ 0 → V n = u n := by
    refine ⟨_, hM, va_up_s, fun n hn => ?_⟩
    rw [va_up_n hn, va_up_n hn, va_up_n hn, va_up_n hn, va_up_n hn]
  have loop : ∀ (n i : Nat), i ≤ 20 → 20 < i + n → ∀ (f : Nat → Int32) (H : Heap) (locs : List Loc) (ls : Array Slot), (∀ q, q < i → f q = -1) → xw g A (va_up V 1 (some (q1, .inl (g.2 0, 20, .inl f)))) H → va_S A s.heap H locs → lh ls 5 (xl [(0, .ref x0), (4, .int (nI i))]) → W p l e (xrm 4 560 6819) s m args below meth c H locs 560 6819 Q (F0 m 117 ls []) := by
    intro n
    induction n with
    | zero => intro i h1 h2; exact absurd h2 (by omega)
    | succ n ih =>
      intro i h1 h2 f H locs ls hf hM hS hl
      refine lv_iload hx hb dX1_init_117 (lh_at hl rfl) ?_
      refine n_bipush hx hb 20 dX1_init_119 (by decide +kernel) ?_
      refine n_icmp_ge (tgt := 138) hx hb dX1_init_121 (by decide) (by omega) (by omega) (fun c1 => ?_) (fun c1 => ?_)
      · have e : i = 20 := by omega
        subst e
        refine hQ ▸ x_vret hx hb hr hlk hS _ ⟨xOk_0 (clN_in v1 (by decide)) (clN_in v2 (by decide)) (clN_in v3 (by decide)), xAd0 x0 q1 q2 q3 q5 q7 q8 q9 q10, fun _ => [], rfl, fun b hb => absurd hb (Nat.not_lt_zero b), XR_0 (f := f) ?_ va_up_s hf ?_ ?_ ?_ ?_ (fun k hk => ?_) ?_ ?_ ?_ (fun k hk => ?_) (fun n hn => ?_)⟩ hM dX1_init_138
        · exact (va_up_n (by decide)).trans v0
        · exact (va_up_n (by decide)).trans ((vn 2 (by decide)).trans ((un2 2 (by decide) (by decide) (by decide) (by decide)).trans k2))
        · exact (va_up_n (by decide)).trans ((vn 3 (by decide)).trans ((un2 3 (by decide) (by decide) (by decide) (by decide)).trans k3))
        · exact (va_up_n (by decide)).trans ((vn 5 (by decide)).trans ((un2 5 (by decide) (by decide) (by decide) (by decide)).trans k5))
        · exact (va_up_n (by decide)).trans ((vn 7 (by decide)).trans ((un2 7 (by decide) (by decide) (by decide) (by decide)).trans k7))
        · exact (va_up_n (by omega)).trans ((vn _ (by omega)).trans ((un2 _ (by omega) (by omega) (by omega) (by omega)).trans (kr k hk)))
        · exact (va_up_n (by decide)).trans ((vn 8 (by decide)).trans u8)
        · exact (va_up_n (by decide)).trans ((vn 9 (by decide)).trans u9)
        · exact (va_up_n (by decide)).trans ((vn 10 (by decide)).trans uA)
        · exact (va_up_n (by omega)).trans ((vn _ (by omega)).trans (uAr k hk))
        · exact (va_up_n (by omega)).trans ((vn _ (by omega)).trans ((un2 _ (by omega) (by omega) (by omega) (by omega)).trans (kn n (by omega))))
      · refine lv_aload_n hx hb dX1_init_124 rfl (lh_at hl rfl) ?_
        refine xr_get (C := RX1) (T := TX1) (N := 12) (ci := 0) (n := 0) hx hb hts in_X1 hown hE hM (by first | assumption | exact va_up_s | rfl | (refine (va_up_n ?_).trans ?_; rotate_left; (first | assumption | exact va_up_s | rfl | (refine (va_up_n ?_).trans ?_; rotate_left; (first | assumption | exact va_up_s | rfl | (refine (va_up_n ?_).trans ?_; rotate_left; (first | assumption | exact va_up_s | rfl | (refine (va_up_n ?_).trans ?_; rotate_left; (first | assumption | exact va_up_s | rfl | (refine (va_up_n ?_).trans ?_; rotate_left; (assumption); omega)); omega)); omega)); omega)); omega)) rfl 3 (by decide) (hts _ q143) (fun _ h => h) rfl dX1_init_125 ?_
        refine lv_iload hx hb dX1_init_128 (lh_at hl rfl) ?_
        refine lv_iconst (v := -1) hx hb dX1_init_130 (by decide +kernel) ?_
        refine xr_iast (n := 1) hx hb hE hM hS (by first | assumption | exact va_up_s | rfl | (refine (va_up_n ?_).trans ?_; rotate_left; (first | assumption | exact va_up_s | rfl | (refine (va_up_n ?_).trans ?_; rotate_left; (first | assumption | exact va_up_s | rfl | (refine (va_up_n ?_).trans ?_; rotate_left; (first | assumption | exact va_up_s | rfl | (refine (va_up_n ?_).trans ?_; rotate_left; (first | assumption | exact va_up_s | rfl | (refine (va_up_n ?_).trans ?_; rotate_left; (assumption); omega)); omega)); omega)); omega)); omega)) (by omega) (by first | decide | omega) dX1_init_131 (fun H locs hM hS => ?_)
        rw [va_up_up] at hM
        refine n_iinc hx hb 1 dX1_init_132 hl rfl (by decide +kernel) (by decide) (fun ls hl => ?_)
        refine lv_goto (tgt := 117) hx hb dX1_init_135 (by decide) ?_
        refine ih (i + 1) (by omega) (by omega) (upd f i (-1)) _ _ _ ?_ hM hS (lh_sub hl _ ⟨rfl, rfl, trivial⟩)
        intro q hq
        by_cases e : q = i
        · rw [e, pk_us]
        · rw [pk_un e]
          exact hf q (by omega)
  have v1f : V 1 = some (q1, .inl (g.2 0, 20, .inl (fun _ => 0))) := (vn 1 (by decide)).trans ((un2 1 (by decide) (by decide) (by decide) (by decide)).trans k1)
  have hM2 : xw g A (va_up V 1 (some (q1, .inl (g.2 0, 20, .inl (fun _ => 0))))) H := hM.eq (fun n => by
    by_cases e : n = 1
    · rw [e, va_up_s, v1f]
    · rw [va_up_n e])
  refine n_const hx hb 0 dX1_init_114 (by decide +kernel) ?_
  refine x_istore hx hb dX1_init_115 hl (by decide) (fun ls hl => ?_)
  exact loop 21 0 (by omega) (by omega) _ _ _ _ (fun q hq => absurd hq (Nat.not_lt_zero q)) hM2 hS (lh_sub hl _ ⟨rfl, rfl, trivial⟩)
