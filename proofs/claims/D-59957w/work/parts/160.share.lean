/-! THE REFERENCE: the share; doubles -/
set_option maxRecDepth 100000
section XD
variable {p : Program} {l : Launch} {e : Env} {R : Room} {s : State} {m : MethodId} {args : Array Value} {below : List Frame} {meth : Method} {c : Code} {H : Heap} {locs : List Loc} {cells slots : Nat} {Q : State → Prop}
variable {cc bytes : ByteArray} {pc nL maxL n mc ms : Nat} {ls : Array Slot} {rest st0 As : List Value} {g : xg} {A : Nat → Prop} {lf : Nat → Option Value}
theorem x_calld {S : Type} {post : UInt64 → S → Prop} {P1 : S → Heap → Prop} {a : Array Value} (hr : va_Run p l e R s m args below meth c H locs cells slots mc ms (F0 m pc ls st0) rest (xQd post P1 A a) A) (hS : va_S A s.heap H locs)
    (kk : ∀ (r : UInt64) (u : S) (H1 : Heap) (locs1 : List Loc), post r u → P1 u H1 → va_S A s.heap H1 locs1 → W p l e R s m args below meth c H1 locs1 (cells + mc) (slots + ms) Q (F0 m (pc + 3) ls (.double r :: rest))) : W p l e R s m args below meth c H locs cells slots Q (F0 m pc ls st0) :=
  va_calld hr hS (fun _ _ h => h) (fun _ h => h) (fun r u t H1 locs1 ht hvm hp hB hz hk hS1 => kk r u H1 locs1 hp (by rw [← ht]; exact hB) hS1)
theorem x_dret {S : Type} {post : UInt64 → S → Prop} {P1 : S → Heap → Prop} {v : UInt64} (hexec : p.tables.exec = Jvm.exec) (hb : c.code = cc) (hr : meth.sig.returnType = some .double) (hlk : meth.locks = false) (hS : va_S A s.heap H locs) (u : S) (hq : post v u) (hP : P1 u H) (hdg : decode cc pc = .ok (.dreturn, 1)) :
    W p l e R s m args below meth c H locs cells slots (MQ below (xQd post P1 A) args s cells slots A) (F0 m pc ls [.double v]) :=
  W.dret hexec hb hr (fun t ht _ => ⟨⟨v, u, rfl, hq, by rw [← ht] at hP; exact hP⟩, hS.F ht⟩) hS.2.2 hdg hlk
end XD
theorem i2d_l2dN {n : Nat} (h : n < 2 ^ 31) : FP.l2d (lN n) = FP.i2d (nI n) := by
  unfold FP.l2d FP.i2d
  show UInt64.ofNat (FP.Core.fromInt FP.Core.b64 (lN n).toInt) = UInt64.ofNat (FP.Core.fromInt FP.Core.b64 (nI n).toInt)
  rw [lN_toInt h, nI_toInt h]
/-- the share's bits -/
def shD (w a : Nat) : UInt64 := if a = 0 then FP.dconst1 else FP.ddiv (FP.i2d (nI w)) (FP.i2d (nI a))
theorem fb_tails : FP.Core.Fmt.tails FP.Core.b64 = 2 ^ 52 := by decide +kernel
theorem fb_exps : FP.Core.Fmt.exps FP.Core.b64 = 2048 := by decide +kernel
theorem fb_qmin : FP.Core.Fmt.qmin FP.Core.b64 = -1074 := by decide +kernel
theorem fb_qmax : FP.Core.Fmt.qmax FP.Core.b64 = 971 := by decide +kernel
theorem fb_p : FP.Core.b64.p = 53 := rfl
/-- data that a result can be, short of a NaN -/
def fGood (d : FP.Core.Datum) : Prop := (∃ s, d = .inf s) ∨ ∃ s c q, d = .fin s c q ∧ c < 2 ^ 53 ∧ q ≤ 971
theorem fGood_bound {s : Bool} {c : Nat} {q : Int} (hc : c < 2 ^ 53) : fGood (FP.Core.bound FP.Core.b64 s c q) := by
  unfold FP.Core.bound
  rw [fb_qmax]
  split
  · next h => exact Or.inr ⟨s, c, q, rfl, hc, h⟩
  · exact Or.inl ⟨s, rfl⟩
theorem fGood_settle {s : Bool} {c : Nat} {q : Int} : fGood (FP.Core.settle FP.Core.b64 s c q) := by
  unfold FP.Core.settle
  rw [fb_p]
  split
  · next h => exact fGood_bound h
  · exact fGood_bound (by rw [fb_tails]; decide)
theorem fGood_ratio {s : Bool} {a b : Nat} {e : Int} : fGood (FP.Core.roundRatio FP.Core.b64 s a b e) := by
  unfold FP.Core.roundRatio
  split
  · exact Or.inr ⟨s, 0, _, rfl, by decide, by rw [fb_qmin]; decide⟩
  · exact fGood_settle
theorem fGood_enc {d : FP.Core.Datum} (h : fGood d) : FP.Core.encode FP.Core.b64 d < 2 ^ 64 ∧ FP.Core.encode FP.Core.b64 d % 2 ^ 63 ≤ 2047 * 2 ^ 52 := by
  rcases h with ⟨s, rfl⟩ | ⟨s, c, q, rfl, hc, hq⟩
  · cases s <;> decide +kernel
  · unfold FP.Core.encode FP.Core.assemble
    simp only [fb_tails, fb_exps, fb_qmin]
    split
    · cases s <;> simp <;> omega
    · have h1 : (q - -1074).toNat + 1 ≤ 2046 := by omega
      generalize (q - -1074).toNat + 1 = e at h1
      cases s <;> simp <;> omega
theorem i2d_toNat {n : Nat} (h : n < 2 ^ 31) : (FP.i2d (nI n)).toNat = FP.Core.encode FP.Core.b64 (FP.Core.roundRatio FP.Core.b64 false n 1 0) := by
  show (UInt64.ofNat (FP.Core.fromInt FP.Core.b64 (nI n).toInt)).toNat = _
  rw [nI_toInt h]
  have e : FP.Core.fromInt FP.Core.b64 (n : Int) = FP.Core.encode FP.Core.b64 (FP.Core.roundRatio FP.Core.b64 false n 1 0) := by
    have h2 : decide ((n : Int) < 0) = false := decide_eq_false (by omega)
    unfold FP.Core.fromInt FP.Core.ofInt FP.Core.round
    simp [h2]
  rw [e]
  exact UInt64.toNat_ofNat_of_lt' (fGood_enc fGood_ratio).1
theorem i2d_ratio {n : Nat} (h0 : 0 < n) (h : n < 2 ^ 31) : ∃ L : Nat, L ≤ 30 ∧ FP.Core.roundRatio FP.Core.b64 false n 1 0 = .fin false (n * 2 ^ (52 - L)) ((L : Int) - 52) ∧ 2 ^ 52 ≤ n * 2 ^ (52 - L) ∧ n * 2 ^ (52 - L) < 2 ^ 53 := by
  have l1 : 2 ^ n.log2 ≤ n := Nat.log2_self_le (by omega)
  have l2 : n < 2 ^ (n.log2 + 1) := Nat.lt_log2_self
  have l3 : n.log2 < 31 := (Nat.pow_lt_pow_iff_right (by decide : 1 < 2)).mp (Nat.lt_of_le_of_lt l1 h)
  have hlead : FP.Core.leading n 1 = (n.log2 : Int) := by
    unfold FP.Core.leading
    have : Nat.log2 1 = 0 := by decide
    simp only [this]
    rw [if_pos]
    · omega
    · simp
      exact l1
  generalize n.log2 = L at l1 l2 l3 hlead
  have hp : 2 ^ L * 2 ^ (52 - L) = 2 ^ 52 := by rw [← Nat.pow_add]; congr 1; omega
  have hp2 : 2 ^ (L + 1) * 2 ^ (52 - L) = 2 ^ 53 := by rw [← Nat.pow_add]; congr 1; omega
  have b1 : 2 ^ 52 ≤ n * 2 ^ (52 - L) := by rw [← hp]; exact Nat.mul_le_mul_right _ l1
  have b2 : n * 2 ^ (52 - L) < 2 ^ 53 := by rw [← hp2]; exact Nat.mul_lt_mul_of_pos_right l2 (Nat.two_pow_pos _)
  refine ⟨L, by omega, ?_, b1, b2⟩
  have hq : FP.Core.quantum FP.Core.b64 n 1 0 = (L : Int) - 52 := by
    unfold FP.Core.quantum
    rw [hlead, fb_qmin, fb_p]
    omega
  unfold FP.Core.roundRatio
  rw [if_neg (by omega), hq]
  unfold FP.Core.roundAt FP.Core.unitsNum FP.Core.unitsDen
  have e1 : ((0 : Int) - ((L : Int) - 52)).toNat = 52 - L := by omega
  have e2 : ((L : Int) - 52 - 0).toNat = 0 := by omega
  rw [e1, e2]
  have hn : FP.Core.nearest (n * 2 ^ (52 - L)) (1 * 2 ^ 0) = n * 2 ^ (52 - L) := by
    unfold FP.Core.nearest
    simp [Nat.mod_one]
  rw [hn]
  unfold FP.Core.settle FP.Core.bound
  rw [fb_p, if_pos b2, fb_qmax, if_pos (by omega)]
theorem i2d_dec {n : Nat} (h : n < 2 ^ 31) : ∃ s c q, FP.Core.decode FP.Core.b64 (FP.i2d (nI n)).toNat = .fin s c q ∧ (n ≠ 0 → c ≠ 0) := by
  rw [i2d_toNat h]
  by_cases h0 : n = 0
  · subst h0
    refine ⟨false, 0, -1074, ?_, fun z => absurd rfl z⟩
    decide +kernel
  · obtain ⟨L, hL, e, b1, b2⟩ := i2d_ratio (by omega) h
    rw [e]
    generalize hc : n * 2 ^ (52 - L) = c at b1 b2
    have hE : FP.Core.encode FP.Core.b64 (.fin false c ((L : Int) - 52)) = (1023 + L) * 2 ^ 52 + (c - 2 ^ 52) := by
      unfold FP.Core.encode FP.Core.assemble
      simp only [fb_tails, fb_exps, fb_qmin]
      rw [if_neg (by omega)]
      have : ((L : Int) - 52 - -1074).toNat + 1 = 1023 + L := by omega
      rw [this]
      simp
    rw [hE]
    unfold FP.Core.decode FP.Core.fieldE FP.Core.fieldT
    simp only [fb_tails, fb_exps, fb_qmin]
    have d1 : ((1023 + L) * 2 ^ 52 + (c - 2 ^ 52)) / 2 ^ 52 % 2048 = 1023 + L := by omega
    rw [d1, if_neg (by omega), if_neg (by omega)]
    exact ⟨_, _, _, rfl, fun _ => by omega⟩
theorem sh_mag (w a : Nat) (hw : w < 2 ^ 31) (ha : a ≠ 0) (ha2 : a < 2 ^ 31) : (FP.ddiv (FP.i2d (nI w)) (FP.i2d (nI a))).toNat % 2 ^ 63 ≤ 2047 * 2 ^ 52 := by
  obtain ⟨s, x, q, e1, -⟩ := i2d_dec hw
  obtain ⟨s2, y, q2, e2, hy⟩ := i2d_dec ha2
  have hg : fGood (FP.Core.quotient FP.Core.b64 (FP.Core.decode FP.Core.b64 (FP.i2d (nI w)).toNat) (FP.Core.decode FP.Core.b64 (FP.i2d (nI a)).toNat)) := by
    rw [e1, e2]
    unfold FP.Core.quotient
    simp only [if_neg (hy ha)]
    exact fGood_ratio
  have h := fGood_enc hg
  show (UInt64.ofNat (FP.Core.div FP.Core.b64 (FP.i2d (nI w)).toNat (FP.i2d (nI a)).toNat)).toNat % 2 ^ 63 ≤ _
  unfold FP.Core.div
  rw [UInt64.toNat_ofNat_of_lt' h.1]
  exact h.2
theorem n64_of {r : UInt64} (h : r.toNat % 2 ^ 63 ≤ 2047 * 2 ^ 52) : vf_n64 r := by
  unfold vf_n64
  rw [UInt64.le_iff_toNat_le]
  show (r &&& 0x7fffffffffffffff).toNat ≤ _
  rw [UInt64.toNat_and]
  have h1 : (0x7fffffffffffffff : UInt64).toNat = 2 ^ 63 - 1 := by decide
  have h2 : (0x7ff0000000000000 : UInt64).toNat = 2047 * 2 ^ 52 := by decide
  rw [h1, h2, Nat.and_two_pow_sub_one_eq_mod]
  exact h
theorem lcmp0 {n : Nat} (h : n < 2 ^ 31) : lg_cmp (lN n) 0 = 0 ↔ n = 0 := by
  unfold lg_cmp
  have h0 : (0 : Int64) = lN 0 := rfl
  rw [h0]
  constructor
  · intro q
    split at q
    · exact absurd q (by decide)
    · split at q
      · next e => exact (lN_eq h (by decide)).mp e
      · exact absurd q (by decide)
  · rintro rfl
    decide
def shPost (ν : nS) (r : UInt64) (u : mS) : Prop := u.1 0 = nI 0 ∧ r = shD (vC ν 6) (vC ν 7) ∧ mR ν u
set_option maxHeartbeats 4000000 in
theorem mk_share (l : Launch) (g : xg) (A : Nat → Prop) (m0 : Nat) (ad : Nat → Nat) (μ : mS) (ν : nS) (hR : mR ν μ) (hw : vC ν 6 < 2 ^ 31) (ha : vC ν 7 < 2 ^ 31) :
    Met l yX3_share (ws_ yX3_share cX3_share 1 (some .double)) (xrm 9 0 0) (mPc g A m0 ad μ []) (xQd (shPost ν) (fun u => mW g A m0 ad u) A) 0 0 A := by
  refine x_start rfl (Nat.le_of_ble_eq_true rfl) ?_
  intro p e s m below meth c hx hb hr hlk hml hown hts hnm hE hM hS ls hl
  have hF : xFix p m c cX3_share 1 s _ RX3 := ⟨hx, hb, hml, hown, hts⟩
  generalize hargs : List.toArray _ = args at hts hF ⊢
  generalize hQ : MQ below _ _ s _ _ A = Q
  refine lv_aload_n hx hb dX3_share_0 rfl (lh_at hl rfl) ?_
  refine n_const hx hb 0 dX3_share_1 (by decide +kernel) ?_
  refine m_putI hF hE hM hS 0 (by decide) q1314 rfl (by decide +kernel) rfl dX3_share_2 (fun H locs hM hS => ?_)
  have hR := mR_thrown (v := nI 0) hR
  refine lv_aload_n hx hb dX3_share_5 rfl (lh_at hl rfl) ?_
  refine m_getL hF hE hM q1329 (by exact hR.al) dX3_share_6 ?_
  refine lv_lconst (v := 0) hx hb dX3_share_9 (by decide +kernel) ?_
  refine W.lcmp hx hb dX3_share_10 ?_
  have hcmp : lg_cmp (lN (vC ν 7)) 0 = 0 ↔ vC ν 7 = 0 := lcmp0 ha
  refine lv_if_ne (tgt := 18) hx hb dX3_share_11 (by decide) (fun c1 => ?_) (fun c1 => ?_)
  · have hne : vC ν 7 ≠ 0 := fun z => c1 (hcmp.mpr z)
    refine lv_aload_n hx hb dX3_share_18 rfl (lh_at hl rfl) ?_
    refine m_getI hF hE hM 14 (by decide) q1328 rfl (by exact hR.wk) dX3_share_19 ?_
    refine lv_i2d hx hb dX3_share_22 ?_
    refine lv_aload_n hx hb dX3_share_23 rfl (lh_at hl rfl) ?_
    refine m_getL hF hE hM q1329 (by exact hR.al) dX3_share_24 ?_
    refine lv_l2d hx hb dX3_share_27 ?_
    rw [i2d_l2dN ha]
    refine lv_ddiv hx hb dX3_share_28 (n64_of (sh_mag _ _ hw hne ha)) ?_
    exact hQ ▸ x_dret hx hb hr hlk hS _ ⟨rfl, by rw [shD, if_neg hne], hR⟩ hM dX3_share_29
  · have he : vC ν 7 = 0 := hcmp.mp c1
    refine lv_dconst1 hx hb dX3_share_14 ?_
    refine lv_goto (tgt := 29) hx hb dX3_share_15 (by decide) ?_
    exact hQ ▸ x_dret hx hb hr hlk hS _ ⟨rfl, by rw [shD, if_pos he], hR⟩ hM dX3_share_29
