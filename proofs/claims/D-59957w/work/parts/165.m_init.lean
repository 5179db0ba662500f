/-! THE REFERENCE: its constructor -/
set_option maxRecDepth 100000
def mi (g : xg) (m0 : Nat) (ad : Nat → Nat) (a : Nat → Nat → Int32) (d : Nat) (fs : List Value) : xw_W := fun n => if n = 100 then some (m0, .inr (2, fs)) else if mLen n = 0 ∨ d ≤ n then none else some (ad n, .inl (g.2 0, mLen n, .inl (a n)))
abbrev mFs0 : List Value := [.int 0, .int 0, .int 0, .int 0, .int 0, .null, .int 0, .null, .null, .null, .null, .null, .null, .int 0, .int 0, .long 0, .int 0, .null, .null, .null, .null, .null]
theorem mi_obj {g : xg} {m0 : Nat} {ad : Nat → Nat} {a : Nat → Nat → Int32} {d : Nat} {fs : List Value} : mi g m0 ad a d fs 100 = some (m0, .inr (2, fs)) := by simp [mi]
theorem mi_setObj {g : xg} {m0 : Nat} {ad : Nat → Nat} {a : Nat → Nat → Int32} {d : Nat} {fs fs' : List Value} : va_up (mi g m0 ad a d fs) 100 (some (m0, .inr (2, fs'))) = mi g m0 ad a d fs' := by
  funext n
  by_cases hn : n = 100
  · subst hn
    rw [va_up_s, mi_obj]
  · rw [va_up_n hn]
    unfold mi
    rw [if_neg hn, if_neg hn]
theorem mi_push {g : xg} {m0 q : Nat} {ad : Nat → Nat} {a : Nat → Nat → Int32} {d k : Nat} {fs : List Value} (hdk : d ≤ k) (hgap : ∀ j, d ≤ j → j < k → mLen j = 0) (hk : mLen k ≠ 0) (f : Nat → Int32) : va_up (mi g m0 ad a d fs) k (some (q, .inl (g.2 0, mLen k, .inl f))) = mi g m0 (va_up ad k q) (va_up a k f) (k + 1) fs := by
  have h22 := mLen_small hk
  funext n
  by_cases hn : n = k
  · subst hn
    rw [va_up_s]
    unfold mi
    rw [if_neg (by omega), if_neg (by omega), va_up_s, va_up_s]
  · rw [va_up_n hn]
    unfold mi
    by_cases h1 : n = 100
    · rw [if_pos h1, if_pos h1]
    · rw [if_neg h1, if_neg h1, va_up_n hn, va_up_n hn]
      by_cases h2 : mLen n = 0
      · rw [if_pos (Or.inl h2), if_pos (Or.inl h2)]
      · by_cases h3 : d ≤ n
        · rw [if_pos (Or.inr h3)]
          by_cases h4 : n < k
          · exact absurd (hgap n h3 h4) h2
          · rw [if_pos (Or.inr (by omega))]
        · rw [if_neg (by omega), if_neg (by omega)]
section MI
variable {p : Program} {l : Launch} {e : Env} {R : Room} {s : State} {m : MethodId} {args : Array Value} {below : List Frame} {meth : Method} {c : Code} {H : Heap} {locs : List Loc} {cells slots : Nat} {Q : State → Prop}
variable {cc bytes : ByteArray} {pc nL maxL n index : Nat} {ls : Array Slot} {rest : List Value} {g : xg} {A : Nat → Prop} {m0 : Nat} {ad : Nat → Nat} {a : Nat → Nat → Int32} {fs : List Value} {d : Nat}
theorem mi_new (hF : xFix p m c cc nL s args RX3) (hE : xE g A s) (hM : xw g A (mi g m0 ad a d fs) H) (hS : va_S A s.heap H locs) (k : Nat) {N : Nat} (hN : mLen k = N) (hN0 : N ≠ 0) (hdk : d ≤ k) (hgap : ∀ j, j < k → d ≤ j → mLen j = 0) (hcells : cells + 1 ≤ R.cells) (hslots : slots + N ≤ R.slots) (hdg : decode cc pc = .ok (.newarray .int, 2))
    (kk : ∀ (q : Nat) (H : Heap), xw g A (mi g m0 (va_up ad k q) (va_up a k (fun _ => 0)) (k + 1) fs) H → va_S A s.heap H locs → W p l e R s m args below meth c H locs (cells + 1) (slots + N) Q (F0 m (pc + 2) ls (.ref q :: rest))) : W p l e R s m args below meth c H locs cells slots Q (F0 m pc ls (.int (nI N) :: rest)) := by
  subst hN
  have h5 : mLen k < 100000000 := by unfold mLen; split <;> decide
  refine xr_newi hF.1 hF.2.1 (hF.2.2.2.2 _ q108) hE hM hS k h5 hcells hslots hdg (fun q H1 hq hM1 hS1 => kk q H1 ?_ hS1)
  rw [mi_push hdk (fun j h1 h2 => hgap j h2 h1) hN0] at hM1
  exact hM1
theorem mi_put (hF : xFix p m c cc nL s args RX3) (hE : xE g A s) (hM : xw g A (mi g m0 ad a d fs) H) (hS : va_S A s.heap H locs) (k : Nat) (hk : k < 22) (hl : Cond.fieldLink RX3 index RX3 (TX3 k).2.1 (TX3 k).2.2.1 ∈ lw_all) {v : Value} {ty : FieldType} (hfin : (TX3 k).2.2.2 = false) (hty : parseFieldDescriptor (TX3 k).2.2.1 = some ty) (hn : narrow ty v = v) (hfit : fits ty v = true) (hlen : k < fs.length) (hdg : decode cc pc = .ok (.putfield index, 3))
    (kk : ∀ (H : Heap) (locs : List Loc), xw g A (mi g m0 ad a d (fs.set k v)) H → va_S A s.heap H locs → W p l e R s m args below meth c H locs cells slots Q (F0 m (pc + 3) ls rest)) : W p l e R s m args below meth c H locs cells slots Q (F0 m pc ls (v :: .ref m0 :: rest)) := by
  refine xr_put (C := RX3) (T := TX3) (N := 22) (ci := 2) hF.1 hF.2.1 hF.2.2.2.2 in_X3 tyX3 tyX3_ok nmX3 hF.2.2.2.1 hE hM hS mi_obj rfl k hk (hF.2.2.2.2 _ hl) (by
    have h1 : ∀ k, k < 22 → (TX3 k).1 = RX3 := by decide +kernel
    intro x hx
    rw [h1 k hk] at hx
    exact hx) hfin hty hn hfit hlen hdg (fun H1 locs1 hM1 hS1 => kk H1 locs1 ?_ hS1)
  rw [mi_setObj] at hM1
  exact hM1
theorem mi_putF (hF : xFix p m c cc nL s args RX3) (hE : xE g A s) (hM : xw g A (mi g m0 ad a d fs) H) (hS : va_S A s.heap H locs) (hnm : meth.name = "<init>") (k : Nat) (hk : k < 22) (hl : Cond.fieldLink RX3 index RX3 (TX3 k).2.1 (TX3 k).2.2.1 ∈ lw_all) {v : Value} {ty : FieldType} (hfin : (TX3 k).2.2.2 = true) (hty : parseFieldDescriptor (TX3 k).2.2.1 = some ty) (hn : narrow ty v = v) (hfit : fits ty v = true) (hlen : k < fs.length) (hdg : decode cc pc = .ok (.putfield index, 3))
    (kk : ∀ (H : Heap) (locs : List Loc), xw g A (mi g m0 ad a d (fs.set k v)) H → va_S A s.heap H locs → W p l e R s m args below meth c H locs cells slots Q (F0 m (pc + 3) ls rest)) : W p l e R s m args below meth c H locs cells slots Q (F0 m pc ls (v :: .ref m0 :: rest)) := by
  have h1 : ∀ k, k < 22 → (TX3 k).1 = RX3 := by decide +kernel
  refine xr_putF (C := RX3) (T := TX3) (N := 22) (ci := 2) hF.1 hF.2.1 hF.2.2.2.2 in_X3 tyX3 tyX3_ok nmX3 hF.2.2.2.1 hE hM hS mi_obj rfl k hk (hF.2.2.2.2 _ hl) (by
    intro x hx
    rw [h1 k hk] at hx
    exact hx) hfin hnm (h1 k hk) hty hn hfit hlen hdg (fun H1 locs1 hM1 hS1 => kk H1 locs1 ?_ hS1)
  rw [mi_setObj] at hM1
  exact hM1
end MI
/-- a number kept between 1 and hi -/
def clN (v : Int32) (hi : Nat) : Nat := if v.toInt < 1 then 1 else if (hi : Int) < v.toInt then hi else v.toInt.toNat
theorem clN_lo {v : Int32} {hi : Nat} (h : v < nI 1) : clN v hi = 1 := by
  rw [Int32.lt_iff_toInt_lt, nI_toInt (by decide)] at h
  unfold clN
  rw [if_pos (by omega)]
theorem clN_hi {v : Int32} {hi : Nat} (hh : hi < 2 ^ 31) (h1 : ¬ v < nI 1) (h : ¬ v ≤ nI hi) : clN v hi = hi := by
  rw [Int32.lt_iff_toInt_lt, nI_toInt (by decide)] at h1
  rw [Int32.le_iff_toInt_le, nI_toInt hh] at h
  unfold clN
  rw [if_neg (by omega), if_pos (by omega)]
theorem clN_mid {v : Int32} {hi : Nat} (hh : hi < 2 ^ 31) (h1 : ¬ v < nI 1) (h : v ≤ nI hi) : nI (clN v hi) = v := by
  rw [Int32.lt_iff_toInt_lt, nI_toInt (by decide)] at h1
  rw [Int32.le_iff_toInt_le, nI_toInt hh] at h
  unfold clN
  rw [if_neg (by omega), if_neg (by omega)]
  apply Int32.toInt_inj.mp
  rw [nI_toInt (by omega)]
  omega
theorem clN_in (v : Int32) {hi : Nat} (h : 1 ≤ hi) : 1 ≤ clN v hi ∧ clN v hi ≤ hi := by
  unfold clN
  split
  · omega
  · split
    · omega
    · omega
/-- the state at the start -/
def ν0 (a p g : Nat) : nS := ((fun k => match k with | 0 => a | 1 => p | 2 => g | 3 => 6 | _ => 0), (fun _ => 0), (fun _ => 0), (fun _ => 0), (fun _ => 0), (fun _ => 0), (fun _ _ => 0), (fun _ _ => 0))
theorem mR_0 {μ : mS} {a p g : Nat} (ha : 1 ≤ a ∧ a ≤ 6) (hp : 1 ≤ p ∧ p ≤ 20) (hg : 1 ≤ g ∧ g ≤ 9) (h1 : μ.1 1 = nI a) (h2 : μ.1 2 = nI p) (h3 : μ.1 3 = nI g) (h4 : μ.1 4 = nI 6) (h6 : μ.1 6 = 0) (h13 : μ.1 13 = 0) (h14 : μ.1 14 = 0) (hal : μ.2.2 = 0) (h5 : ∀ q, q < 20 → μ.2.1 5 q = -1) : mR (ν0 a p g) μ :=
  ⟨⟨ha, hp, hg, ⟨by show 1 ≤ 6; decide, by show 6 ≤ 9; decide⟩, by show 0 ≤ 40; decide, by show 0 ≤ 40; decide, fun _ _ => Or.inl rfl, fun o ho => absurd ho (Nat.not_lt_zero o)⟩, ⟨h1, h2, h3, h4, h6, h13, h14, hal⟩, h5, fun o ho => absurd ho (Nat.not_lt_zero o), fun o ho => absurd ho (Nat.not_lt_zero o)⟩
def mFsI (ad : Nat → Nat) (x1 x2 x3 : Int32) : List Value := [.int 0, .int x1, .int x2, .int x3, .int (nI 6), .ref (ad 5), .int 0, .ref (ad 7), .ref (ad 8), .ref (ad 9), .ref (ad 10), .ref (ad 11), .ref (ad 12), .int 0, .int 0, .long 0, .int 0, .ref (ad 17), .ref (ad 18), .ref (ad 19), .ref (ad 20), .ref (ad 21)]
def mμ (a : Nat → Nat → Int32) (x1 x2 x3 : Int32) : mS := ((fun k => match k with | 1 => x1 | 2 => x2 | 3 => x3 | 4 => nI 6 | _ => 0), a, 0)
theorem mi_done {g : xg} {m0 : Nat} {ad : Nat → Nat} {a : Nat → Nat → Int32} {x1 x2 x3 : Int32} : mi g m0 ad a 22 (mFsI ad x1 x2 x3) = mw g m0 ad (mμ a x1 x2 x3) := by
  funext n
  unfold mi mw
  by_cases h1 : n = 100
  · rw [if_pos h1, if_pos h1]
    rfl
  · rw [if_neg h1, if_neg h1]
    by_cases h2 : mLen n = 0
    · rw [if_pos (Or.inl h2), if_pos h2]
    · have := mLen_small h2
      rw [if_neg (by omega), if_neg h2]
      rfl
set_option maxHeartbeats 8000000 in
theorem mk_init (l : Launch) (g : xg) (A : Nat → Prop) (m0 : Nat) (v w z : Int32) :
    Met l yX3_init (ws_ yX3_init cX3_init 5 none) (xrm 3 12 5758) (xPc g A [.ref m0, .int v, .int w, .int z] (xw g A (mi g m0 (fun _ => 0) (fun _ _ => 0) 0 mFs0))) (xQv (S := (Nat → Nat) × mS) (fun u => mR (ν0 (clN v 6) (clN w 20) (clN z 9)) u.2) (fun u => mW g A m0 u.1 u.2) A) 12 5758 A := by
  refine x_start rfl (Nat.le_of_ble_eq_true rfl) ?_
  intro p e s m below meth c hx hb hr hlk hml hown hts hnm hE hM hS ls hl
  have hF : xFix p m c cX3_init 5 s _ RX3 := ⟨hx, hb, hml, hown, hts⟩
  generalize hargs : List.toArray _ = args at hts hF ⊢
  generalize hQ : MQ below _ _ s _ _ A = Q
  have hin : meth.name = "<init>" := hnm
  refine lv_aload_n hx hb dX3_init_0 rfl (lh_at hl rfl) ?_
  refine W.objInit hx hb hown (hts _ q1313) (hts _ q77) (hts _ q78) rfl (by rw [hml]; exact lh_size hl) rfl dX3_init_1 (Nat.le_of_ble_eq_true rfl) (Nat.le_of_ble_eq_true rfl) ?_
  refine W.eq (g2 := F0 m 4 ls []) rfl ?_
  refine lv_aload_n hx hb dX3_init_4 rfl (lh_at hl rfl) ?_
  refine n_bipush hx hb 6 dX3_init_5 (by decide +kernel) ?_
  refine mi_put hF hE hM hS 4 (by decide) q1318 (ty := .int) rfl (by decide +kernel) rfl rfl (Nat.le_of_ble_eq_true rfl) dX3_init_7 (fun H locs hM hS => ?_)
  refine lv_aload_n hx hb dX3_init_10 rfl (lh_at hl rfl) ?_
  refine n_bipush hx hb 20 dX3_init_11 (by decide +kernel) ?_
  refine mi_new hF hE hM hS 5 (N := 20) rfl (by decide) (by decide) (by decide) (Nat.le_of_ble_eq_true rfl) (Nat.le_of_ble_eq_true rfl) dX3_init_13 (fun q5 H hM hS => ?_)
  refine mi_putF hF hE hM hS hin 5 (by decide) q1319 (ty := .array .int) rfl (by decide +kernel) rfl rfl (Nat.le_of_ble_eq_true rfl) dX3_init_15 (fun H locs hM hS => ?_)
  refine lv_aload_n hx hb dX3_init_18 rfl (lh_at hl rfl) ?_
  refine n_bipush hx hb 40 dX3_init_19 (by decide +kernel) ?_
  refine mi_new hF hE hM hS 7 (N := 40) rfl (by decide) (by decide) (by decide) (Nat.le_of_ble_eq_true rfl) (Nat.le_of_ble_eq_true rfl) dX3_init_21 (fun q7 H hM hS => ?_)
  refine mi_putF hF hE hM hS hin 7 (by decide) q1321 (ty := .array .int) rfl (by decide +kernel) rfl rfl (Nat.le_of_ble_eq_true rfl) dX3_init_23 (fun H locs hM hS => ?_)
  refine lv_aload_n hx hb dX3_init_26 rfl (lh_at hl rfl) ?_
  refine n_bipush hx hb 40 dX3_init_27 (by decide +kernel) ?_
  refine mi_new hF hE hM hS 8 (N := 40) rfl (by decide) (by decide) (by decide) (Nat.le_of_ble_eq_true rfl) (Nat.le_of_ble_eq_true rfl) dX3_init_29 (fun q8 H hM hS => ?_)
  refine mi_putF hF hE hM hS hin 8 (by decide) q1322 (ty := .array .int) rfl (by decide +kernel) rfl rfl (Nat.le_of_ble_eq_true rfl) dX3_init_31 (fun H locs hM hS => ?_)
  refine lv_aload_n hx hb dX3_init_34 rfl (lh_at hl rfl) ?_
  refine n_bipush hx hb 40 dX3_init_35 (by decide +kernel) ?_
  refine mi_new hF hE hM hS 9 (N := 40) rfl (by decide) (by decide) (by decide) (Nat.le_of_ble_eq_true rfl) (Nat.le_of_ble_eq_true rfl) dX3_init_37 (fun q9 H hM hS => ?_)
  refine mi_putF hF hE hM hS hin 9 (by decide) q1323 (ty := .array .int) rfl (by decide +kernel) rfl rfl (Nat.le_of_ble_eq_true rfl) dX3_init_39 (fun H locs hM hS => ?_)
  refine lv_aload_n hx hb dX3_init_42 rfl (lh_at hl rfl) ?_
  refine n_bipush hx hb 40 dX3_init_43 (by decide +kernel) ?_
  refine mi_new hF hE hM hS 10 (N := 40) rfl (by decide) (by decide) (by decide) (Nat.le_of_ble_eq_true rfl) (Nat.le_of_ble_eq_true rfl) dX3_init_45 (fun q10 H hM hS => ?_)
  refine mi_putF hF hE hM hS hin 10 (by decide) q1324 (ty := .array .int) rfl (by decide +kernel) rfl rfl (Nat.le_of_ble_eq_true rfl) dX3_init_47 (fun H locs hM hS => ?_)
  refine lv_aload_n hx hb dX3_init_50 rfl (lh_at hl rfl) ?_
  refine n_sipush hx hb 200 dX3_init_51 (by decide +kernel) ?_
  refine mi_new hF hE hM hS 11 (N := 200) rfl (by decide) (by decide) (by decide) (Nat.le_of_ble_eq_true rfl) (Nat.le_of_ble_eq_true rfl) dX3_init_54 (fun q11 H hM hS => ?_)
  refine mi_putF hF hE hM hS hin 11 (by decide) q1325 (ty := .array .int) rfl (by decide +kernel) rfl rfl (Nat.le_of_ble_eq_true rfl) dX3_init_56 (fun H locs hM hS => ?_)
  refine lv_aload_n hx hb dX3_init_59 rfl (lh_at hl rfl) ?_
  refine n_sipush hx hb 200 dX3_init_60 (by decide +kernel) ?_
  refine mi_new hF hE hM hS 12 (N := 200) rfl (by decide) (by decide) (by decide) (Nat.le_of_ble_eq_true rfl) (Nat.le_of_ble_eq_true rfl) dX3_init_63 (fun q12 H hM hS => ?_)
  refine mi_putF hF hE hM hS hin 12 (by decide) q1326 (ty := .array .int) rfl (by decide +kernel) rfl rfl (Nat.le_of_ble_eq_true rfl) dX3_init_65 (fun H locs hM hS => ?_)
  refine lv_aload_n hx hb dX3_init_68 rfl (lh_at hl rfl) ?_
  refine n_bipush hx hb 9 dX3_init_69 (by decide +kernel) ?_
  refine mi_new hF hE hM hS 17 (N := 9) rfl (by decide) (by decide) (by decide) (Nat.le_of_ble_eq_true rfl) (Nat.le_of_ble_eq_true rfl) dX3_init_71 (fun q17 H hM hS => ?_)
  refine mi_putF hF hE hM hS hin 17 (by decide) q1331 (ty := .array .int) rfl (by decide +kernel) rfl rfl (Nat.le_of_ble_eq_true rfl) dX3_init_73 (fun H locs hM hS => ?_)
  refine lv_aload_n hx hb dX3_init_76 rfl (lh_at hl rfl) ?_
  refine n_sipush hx hb 5120 dX3_init_77 (by decide +kernel) ?_
  refine mi_new hF hE hM hS 18 (N := 5120) rfl (by decide) (by decide) (by decide) (Nat.le_of_ble_eq_true rfl) (Nat.le_of_ble_eq_true rfl) dX3_init_80 (fun q18 H hM hS => ?_)
  refine mi_putF hF hE hM hS hin 18 (by decide) q1332 (ty := .array .int) rfl (by decide +kernel) rfl rfl (Nat.le_of_ble_eq_true rfl) dX3_init_82 (fun H locs hM hS => ?_)
  refine lv_aload_n hx hb dX3_init_85 rfl (lh_at hl rfl) ?_
  refine n_bipush hx hb 9 dX3_init_86 (by decide +kernel) ?_
  refine mi_new hF hE hM hS 19 (N := 9) rfl (by decide) (by decide) (by decide) (Nat.le_of_ble_eq_true rfl) (Nat.le_of_ble_eq_true rfl) dX3_init_88 (fun q19 H hM hS => ?_)
  refine mi_putF hF hE hM hS hin 19 (by decide) q1333 (ty := .array .int) rfl (by decide +kernel) rfl rfl (Nat.le_of_ble_eq_true rfl) dX3_init_90 (fun H locs hM hS => ?_)
  refine lv_aload_n hx hb dX3_init_93 rfl (lh_at hl rfl) ?_
  refine n_bipush hx hb 20 dX3_init_94 (by decide +kernel) ?_
  refine mi_new hF hE hM hS 20 (N := 20) rfl (by decide) (by decide) (by decide) (Nat.le_of_ble_eq_true rfl) (Nat.le_of_ble_eq_true rfl) dX3_init_96 (fun q20 H hM hS => ?_)
  refine mi_putF hF hE hM hS hin 20 (by decide) q1334 (ty := .array .int) rfl (by decide +kernel) rfl rfl (Nat.le_of_ble_eq_true rfl) dX3_init_98 (fun H locs hM hS => ?_)
  refine lv_aload_n hx hb dX3_init_101 rfl (lh_at hl rfl) ?_
  refine n_bipush hx hb 20 dX3_init_102 (by decide +kernel) ?_
  refine mi_new hF hE hM hS 21 (N := 20) rfl (by decide) (by decide) (by decide) (Nat.le_of_ble_eq_true rfl) (Nat.le_of_ble_eq_true rfl) dX3_init_104 (fun q21 H hM hS => ?_)
  refine mi_putF hF hE hM hS hin 21 (by decide) q1335 (ty := .array .int) rfl (by decide +kernel) rfl rfl (Nat.le_of_ble_eq_true rfl) dX3_init_106 (fun H locs hM hS => ?_)
  refine W.widen (k := 12) (n := 5758) (Nat.le_of_ble_eq_true rfl) (Nat.le_of_ble_eq_true rfl) ?_
  have hM : ∃ (ad : Nat → Nat) (a : Nat → Nat → Int32), (∀ q, a 5 q = 0) ∧ xw g A (mi g m0 ad a 22 (mFsI ad 0 0 0)) H := ⟨_, _, fun _ => rfl, hM⟩
  obtain ⟨ad, a, ha5, hM⟩ := hM
  have hl := lh_sub hl [(0, .ref m0), (1, .int v), (2, .int w), (3, .int z)] ⟨rfl, rfl, rfl, rfl, trivial⟩
  have cA := clN_in v (hi := 6) (by decide)
  have cP := clN_in w (hi := 20) (by decide)
  have cG := clN_in z (hi := 9) (by decide)
  have loop : ∀ (n i : Nat), i ≤ 20 → 20 < i + n → ∀ (u : mS) (H : Heap) (locs : List Loc) (ls : Array Slot), u.1 = (mμ a (nI (clN v 6)) (nI (clN w 20)) (nI (clN z 9))).1 → u.2.2 = 0 → (∀ q, q < i → u.2.1 5 q = -1) → mW g A m0 ad u H → va_S A s.heap H locs → lh ls 5 (xl [(0, .ref m0), (4, .int (nI i))]) → W p l e (xrm 3 12 5758) s m args below meth c H locs 12 5758 Q (F0 m 187 ls []) := by
    intro n
    induction n with
    | zero => intro i h1 h2; exact absurd h2 (by omega)
    | succ n ih =>
      intro i h1 h2 u H locs ls hu1 hu2 hu3 hM hS hl
      refine lv_iload hx hb dX3_init_187 (lh_at hl rfl) ?_
      refine n_bipush hx hb 20 dX3_init_189 (by decide +kernel) ?_
      refine n_icmp_ge (tgt := 208) hx hb dX3_init_191 (by decide) (by omega) (by omega) (fun c1 => ?_) (fun c1 => ?_)
      · have e : i = 20 := by omega
        subst e
        exact hQ ▸ x_vret hx hb hr hlk hS (ad, u) (mR_0 cA cP cG (by rw [hu1]; rfl) (by rw [hu1]; rfl) (by rw [hu1]; rfl) (by rw [hu1]; rfl) (by rw [hu1]; rfl) (by rw [hu1]; rfl) (by rw [hu1]; rfl) hu2 hu3) hM dX3_init_208
      · refine lv_aload_n hx hb dX3_init_194 rfl (lh_at hl rfl) ?_
        refine m_getA hF hE hM 5 (by decide) q1319 rfl dX3_init_195 ?_
        refine lv_iload hx hb dX3_init_198 (lh_at hl rfl) ?_
        refine lv_iconst (v := -1) hx hb dX3_init_200 (by decide +kernel) ?_
        refine m_ast hF hE hM hS (by decide) (by simp only [mLen]; omega) dX3_init_201 (fun H locs hM hS => ?_)
        refine n_iinc hx hb 1 dX3_init_202 hl rfl (by decide +kernel) (by decide) (fun ls hl => ?_)
        refine lv_goto (tgt := 187) hx hb dX3_init_205 (by decide) ?_
        refine ih (i + 1) (by omega) (by omega) (m_setA u 5 (upd (u.2.1 5) i (-1))) _ _ _ hu1 hu2 ?_ hM hS (lh_sub hl _ ⟨rfl, rfl, trivial⟩)
        intro q hq
        show upd (u.2.1 5) i (-1) q = -1
        by_cases e : q = i
        · rw [e, pk_us]
        · rw [pk_un e]
          exact hu3 q (by omega)
  have J159 : ∀ (H : Heap) (locs : List Loc) (ls : Array Slot), xw g A (mi g m0 ad a 22 (mFsI ad (nI (clN v 6)) (nI (clN w 20)) 0)) H → va_S A s.heap H locs → lh ls 5 (xl [(0, .ref m0), (3, .int z)]) → W p l e (xrm 3 12 5758) s m args below meth c H locs 12 5758 Q (F0 m 159 ls []) := by
    intro H locs ls hM hS hl
    have T : ∀ (ls : Array Slot), lh ls 5 (xl [(0, .ref m0), (3, .int z)]) → W p l e (xrm 3 12 5758) s m args below meth c H locs 12 5758 Q (F0 m 181 ls [.int (nI (clN z 9)), .ref m0]) := by
      intro ls hl
      refine mi_putF hF hE hM hS hin 3 (by decide) q1317 (ty := .int) rfl (by decide +kernel) rfl rfl (Nat.le_of_ble_eq_true rfl) dX3_init_181 (fun H locs hM hS => ?_)
      have hM : xw g A (mi g m0 ad a 22 (mFsI ad (nI (clN v 6)) (nI (clN w 20)) (nI (clN z 9)))) H := hM
      rw [mi_done] at hM
      refine n_const hx hb 0 dX3_init_184 (by decide +kernel) ?_
      refine x_istore hx hb dX3_init_185 hl (by decide) (fun ls hl => ?_)
      exact loop 21 0 (by omega) (by omega) _ _ _ _ rfl rfl (fun q hq => absurd hq (Nat.not_lt_zero q)) hM hS (lh_sub hl _ ⟨rfl, rfl, trivial⟩)
    refine lv_aload_n hx hb dX3_init_159 rfl (lh_at hl rfl) ?_
    refine lv_iload_n hx hb dX3_init_160 rfl (lh_at hl rfl) ?_
    refine n_const hx hb 1 dX3_init_161 (by decide +kernel) ?_
    refine lv_icmp_ge (tgt := 169) hx hb dX3_init_162 (by decide) (fun c1 => ?_) (fun c1 => ?_)
    · have c1' : ¬ z < nI 1 := Int32.not_lt.mpr c1
      refine lv_iload_n hx hb dX3_init_169 rfl (lh_at hl rfl) ?_
      refine n_bipush hx hb 9 dX3_init_170 (by decide +kernel) ?_
      refine lv_icmp_le (tgt := 180) hx hb dX3_init_172 (by decide) (fun c2 => ?_) (fun c2 => ?_)
      · refine lv_iload_n hx hb dX3_init_180 rfl (lh_at hl rfl) ?_
        refine x_top (clN_mid (hi := 9) (by decide) c1' c2).symm ?_
        exact T _ (lh_sub hl _ ⟨rfl, rfl, trivial⟩)
      · refine n_bipush hx hb 9 dX3_init_175 (by decide +kernel) ?_
        refine lv_goto (tgt := 181) hx hb dX3_init_177 (by decide) ?_
        rw [show (9 : Nat) = clN z 9 from (clN_hi (by decide) c1' c2).symm]
        exact T _ (lh_sub hl _ ⟨rfl, rfl, trivial⟩)
    · refine n_const hx hb 1 dX3_init_165 (by decide +kernel) ?_
      refine lv_goto (tgt := 181) hx hb dX3_init_166 (by decide) ?_
      rw [show (1 : Nat) = clN z 9 from (clN_lo (Int32.not_le.mp c1)).symm]
      exact T _ (lh_sub hl _ ⟨rfl, rfl, trivial⟩)
  have J134 : ∀ (H : Heap) (locs : List Loc) (ls : Array Slot), xw g A (mi g m0 ad a 22 (mFsI ad (nI (clN v 6)) 0 0)) H → va_S A s.heap H locs → lh ls 5 (xl [(0, .ref m0), (2, .int w), (3, .int z)]) → W p l e (xrm 3 12 5758) s m args below meth c H locs 12 5758 Q (F0 m 134 ls []) := by
    intro H locs ls hM hS hl
    have T : ∀ (ls : Array Slot), lh ls 5 (xl [(0, .ref m0), (3, .int z)]) → W p l e (xrm 3 12 5758) s m args below meth c H locs 12 5758 Q (F0 m 156 ls [.int (nI (clN w 20)), .ref m0]) := by
      intro ls hl
      refine mi_putF hF hE hM hS hin 2 (by decide) q1316 (ty := .int) rfl (by decide +kernel) rfl rfl (Nat.le_of_ble_eq_true rfl) dX3_init_156 (fun H locs hM hS => ?_)
      exact J159 _ _ _ hM hS hl
    refine lv_aload_n hx hb dX3_init_134 rfl (lh_at hl rfl) ?_
    refine lv_iload_n hx hb dX3_init_135 rfl (lh_at hl rfl) ?_
    refine n_const hx hb 1 dX3_init_136 (by decide +kernel) ?_
    refine lv_icmp_ge (tgt := 144) hx hb dX3_init_137 (by decide) (fun c1 => ?_) (fun c1 => ?_)
    · have c1' : ¬ w < nI 1 := Int32.not_lt.mpr c1
      refine lv_iload_n hx hb dX3_init_144 rfl (lh_at hl rfl) ?_
      refine n_bipush hx hb 20 dX3_init_145 (by decide +kernel) ?_
      refine lv_icmp_le (tgt := 155) hx hb dX3_init_147 (by decide) (fun c2 => ?_) (fun c2 => ?_)
      · refine lv_iload_n hx hb dX3_init_155 rfl (lh_at hl rfl) ?_
        refine x_top (clN_mid (hi := 20) (by decide) c1' c2).symm ?_
        exact T _ (lh_sub hl _ ⟨rfl, rfl, trivial⟩)
      · refine n_bipush hx hb 20 dX3_init_150 (by decide +kernel) ?_
        refine lv_goto (tgt := 156) hx hb dX3_init_152 (by decide) ?_
        rw [show (20 : Nat) = clN w 20 from (clN_hi (by decide) c1' c2).symm]
        exact T _ (lh_sub hl _ ⟨rfl, rfl, trivial⟩)
    · refine n_const hx hb 1 dX3_init_140 (by decide +kernel) ?_
      refine lv_goto (tgt := 156) hx hb dX3_init_141 (by decide) ?_
      rw [show (1 : Nat) = clN w 20 from (clN_lo (Int32.not_le.mp c1)).symm]
      exact T _ (lh_sub hl _ ⟨rfl, rfl, trivial⟩)
  have T : ∀ (ls : Array Slot), lh ls 5 (xl [(0, .ref m0), (2, .int w), (3, .int z)]) → W p l e (xrm 3 12 5758) s m args below meth c H locs 12 5758 Q (F0 m 131 ls [.int (nI (clN v 6)), .ref m0]) := by
    intro ls hl
    refine mi_putF hF hE hM hS hin 1 (by decide) q1315 (ty := .int) rfl (by decide +kernel) rfl rfl (Nat.le_of_ble_eq_true rfl) dX3_init_131 (fun H locs hM hS => ?_)
    exact J134 _ _ _ hM hS hl
  refine lv_aload_n hx hb dX3_init_109 rfl (lh_at hl rfl) ?_
  refine lv_iload_n hx hb dX3_init_110 rfl (lh_at hl rfl) ?_
  refine n_const hx hb 1 dX3_init_111 (by decide +kernel) ?_
  refine lv_icmp_ge (tgt := 119) hx hb dX3_init_112 (by decide) (fun c1 => ?_) (fun c1 => ?_)
  · have c1' : ¬ v < nI 1 := Int32.not_lt.mpr c1
    refine lv_iload_n hx hb dX3_init_119 rfl (lh_at hl rfl) ?_
    refine n_bipush hx hb 6 dX3_init_120 (by decide +kernel) ?_
    refine lv_icmp_le (tgt := 130) hx hb dX3_init_122 (by decide) (fun c2 => ?_) (fun c2 => ?_)
    · refine lv_iload_n hx hb dX3_init_130 rfl (lh_at hl rfl) ?_
      refine x_top (clN_mid (hi := 6) (by decide) c1' c2).symm ?_
      exact T _ (lh_sub hl _ ⟨rfl, rfl, rfl, trivial⟩)
    · refine n_bipush hx hb 6 dX3_init_125 (by decide +kernel) ?_
      refine lv_goto (tgt := 131) hx hb dX3_init_127 (by decide) ?_
      rw [show (6 : Nat) = clN v 6 from (clN_hi (by decide) c1' c2).symm]
      exact T _ (lh_sub hl _ ⟨rfl, rfl, rfl, trivial⟩)
  · refine n_const hx hb 1 dX3_init_115 (by decide +kernel) ?_
    refine lv_goto (tgt := 131) hx hb dX3_init_116 (by decide) ?_
    rw [show (1 : Nat) = clN v 6 from (clN_lo (Int32.not_le.mp c1)).symm]
    exact T _ (lh_sub hl _ ⟨rfl, rfl, rfl, trivial⟩)
