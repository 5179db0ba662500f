/-! THE LAW: its loop -/
set_option maxRecDepth 100000
theorem and31 (v : Int32) : ∃ k, k < 32 ∧ v &&& 31 = nI k := by
  have h0 : ∀ x : Int32, x = nI x.toUInt32.toNat := fun x => by
    obtain ⟨u⟩ := x
    show _ = Int32.ofNat _
    unfold Int32.ofNat
    congr 1
    exact (UInt32.ofNat_toNat).symm
  refine ⟨(v &&& 31).toUInt32.toNat, ?_, h0 _⟩
  have : (v &&& 31).toUInt32.toNat = v.toUInt32.toNat &&& 31 := rfl
  rw [this]
  exact Nat.lt_of_le_of_lt Nat.and_le_right (by decide)
theorem law_gt {i L : Nat} (hi : i < 1000) (hL : L ≤ 259) : nI L - nI 4 < nI i ↔ L < i + 4 := by
  rw [Int32.lt_iff_toInt_lt, nI_toInt (n := i) (by omega)]
  by_cases h : 4 ≤ L
  · rw [pk_sub h, nI_toInt (by omega)]
    omega
  · have h4 : L = 0 ∨ L = 1 ∨ L = 2 ∨ L = 3 := by omega
    rcases h4 with h4 | h4 | h4 | h4
    · subst h4
      have : (nI 0 - nI 4).toInt = -4 := by decide +kernel
      omega
    · subst h4
      have : (nI 1 - nI 4).toInt = -3 := by decide +kernel
      omega
    · subst h4
      have : (nI 2 - nI 4).toInt = -2 := by decide +kernel
      omega
    · subst h4
      have : (nI 3 - nI 4).toInt = -1 := by decide +kernel
      omega
abbrev lwLs (bb x0 m0 o i : Nat) : List (Nat × Value) := [(0, .ref bb), (1, .ref x0), (2, .ref m0), (3, .ref o), (4, .int (nI i))]
set_option maxHeartbeats 4000000 in
theorem law_loop {p : Program} {l : Launch} {e : Env} {s : State} {m : MethodId} {below : List Frame} {meth : Method} {c : Code} {g : xg} {x0 m0 o bb L : Nat} {xs : Nat → Int32} (hlt : l.stackTraces = false) (hF : xFix p m c cL_law 9 s #[Value.ref bb] RX0) (hr : meth.sig.returnType = ret) (hlk : meth.locks = false) (hE : xE g (x3 s.heap.size) s) (hNc : xNc s) (hX : va_X bb L xs s s.heap) (hbl : bb < s.heap.size) (hL : L ≤ 259) :
    ∀ (n i : Nat), i < 1000 → L < i + 4 * n + 4 → ∀ (cells slots : Nat) (ν : nS) (z : Int64) (H : Heap) (locs : List Loc) (ls : Array Slot), cells + 2200 * n ≤ 603072 → slots + 93200 * n ≤ 7194288 → LV g s.heap.size m0 o (xI g ν x0) (mR ν) z H → va_S (x3 s.heap.size) s.heap H locs → lh ls 9 (xl (lwLs bb x0 m0 o i)) →
      W p l e room_1 s m #[Value.ref bb] below meth c H locs cells slots (lw_Z below #[Value.ref bb] s) (F0 m 53 ls []) := by
  obtain ⟨hx, hb, hml, hown, hts⟩ := id hF
  have EXIT : ∀ (cells slots : Nat) (H : Heap) (locs : List Loc) (ls : Array Slot), cells ≤ 603072 → slots ≤ 7194288 → va_S (x3 s.heap.size) s.heap H locs → W p l e room_1 s m #[Value.ref bb] below meth c H locs cells slots (lw_Z below #[Value.ref bb] s) (F0 m 1446 ls []) := by
    intro cells slots H locs ls hc hsl hS
    refine lv_iconst (v := 1) hx hb dL_law_1446 (by decide +kernel) ?_
    refine va_forget (fun q hq => hS.2.2 q hq) ?_
    refine W.widen hc hsl ?_
    exact lw_ret hx hb hr hlk dL_law_1447
  intro n
  induction n with
  | zero =>
    intro i i1 i2 cells slots ν z H locs ls hc hsl hV hS hl
    refine lv_iload hx hb dL_law_53 (lh_at hl rfl) ?_
    refine lv_aload_n hx hb dL_law_55 rfl (lh_at hl rfl) ?_
    refine l_len hF hX hbl hS dL_law_56 ?_
    refine n_const hx hb 4 dL_law_57 (by decide +kernel) ?_
    refine lv_isub hx hb dL_law_58 ?_
    refine lv_icmp_gt (tgt := 1446) hx hb dL_law_59 (by decide) (fun c1 => ?_) (fun c1 => ?_)
    · exact EXIT _ _ H locs ls (by omega) (by omega) hS
    · exact absurd ((law_gt i1 hL).mpr (by omega)) c1
  | succ n ih =>
    intro i i1 i2 cells slots ν z H locs ls hc hsl hV hS hl
    have hc2 : cells + 2200 ≤ 603072 := by
      rw [Nat.mul_succ] at hc
      exact Nat.le_trans (Nat.add_le_add_left (Nat.le_add_left _ _) _) hc
    have hs2 : slots + 93200 ≤ 7194288 := by
      rw [Nat.mul_succ] at hsl
      exact Nat.le_trans (Nat.add_le_add_left (Nat.le_add_left _ _) _) hsl
    refine lv_iload hx hb dL_law_53 (lh_at hl rfl) ?_
    refine lv_aload_n hx hb dL_law_55 rfl (lh_at hl rfl) ?_
    refine l_len hF hX hbl hS dL_law_56 ?_
    refine n_const hx hb 4 dL_law_57 (by decide +kernel) ?_
    refine lv_isub hx hb dL_law_58 ?_
    refine lv_icmp_gt (tgt := 1446) hx hb dL_law_59 (by decide) (fun c1 => ?_) (fun c1 => ?_)
    · exact EXIT _ _ H locs ls (by omega) (by omega) hS
    · have hi : i + 4 ≤ L := by
        rcases Nat.lt_or_ge L (i + 4) with h | h
        · exact absurd ((law_gt i1 hL).mpr h) c1
        · exact h
      have STEP : ∀ (ν' : nS) (z' : Int64) (H1 : Heap) (locs1 : List Loc) (ls1 : Array Slot), LV g s.heap.size m0 o (xI g ν' x0) (mR ν') z' H1 → va_S (x3 s.heap.size) s.heap H1 locs1 → lh ls1 9 (xl (lwLs bb x0 m0 o i)) → W p l e room_1 s m #[Value.ref bb] below meth c H1 locs1 (cells + 2200) (slots + 93200) (lw_Z below #[Value.ref bb] s) (F0 m 1440 ls1 []) := by
        intro ν' z' H1 locs1 ls1 hV hS hl
        refine n_iinc hx hb 4 dL_law_1440 hl rfl (by decide +kernel) (by decide) (fun ls hl => ?_)
        refine lv_goto (tgt := 53) hx hb dL_law_1443 (by decide) ?_
        exact ih (i + 4) (by omega) (by omega) _ _ ν' z' H1 locs1 _ (by omega) (by omega) hV hS (lh_sub hl _ ⟨rfl, rfl, rfl, rfl, rfl, trivial⟩)
      refine lv_aload_n hx hb dL_law_62 rfl (lh_at hl rfl) ?_
      refine lv_iload hx hb dL_law_63 (lh_at hl rfl) ?_
      refine l_iald hF hX hbl hS (by omega) hL dL_law_65 ?_
      refine lv_bipush (v := 31) hx hb dL_law_66 (by decide +kernel) ?_
      refine lv_iand hx hb dL_law_68 ?_
      obtain ⟨k, k1, k2⟩ := and31 (xs i)
      rw [k2]
      have hl := lh_sub hl (lwLs bb x0 m0 o i) ⟨rfl, rfl, rfl, rfl, rfl, trivial⟩
      clear hc hsl ih EXIT c1 k2
      by_cases k3 : 24 ≤ k
      · refine lv_tableOut (tgt := 1440) hx hb dL_law_69 (Or.inr (by rw [nI_toInt (by omega)]; omega)) (by decide) ?_
        refine W.widen (k := cells + 2200) (n := slots + 93200) (by omega) (by omega) ?_
        exact STEP ν z H locs ls hV hS hl
      · have k4 : k = 0 ∨ k = 1 ∨ k = 2 ∨ k = 3 ∨ k = 4 ∨ k = 5 ∨ k = 6 ∨ k = 7 ∨ k = 8 ∨ k = 9 ∨ k = 10 ∨ k = 11 ∨ k = 12 ∨ k = 13 ∨ k = 14 ∨ k = 15 ∨ k = 16 ∨ k = 17 ∨ k = 18 ∨ k = 19 ∨ k = 20 ∨ k = 21 ∨ k = 22 ∨ k = 23 := by omega
        rcases k4 with k4 | k4 | k4 | k4 | k4 | k4 | k4 | k4 | k4 | k4 | k4 | k4 | k4 | k4 | k4 | k4 | k4 | k4 | k4 | k4 | k4 | k4 | k4 | k4
        · subst k4
          exact lv_tableIn (off := 111) (tgt := 180) hx hb dL_law_69 (by decide +kernel) (by decide +kernel) (by decide +kernel) (by decide) (law_c0 hlt hF hE hNc hX hbl hL hi hc2 hs2 hV hS hl STEP)
        · subst k4
          exact lv_tableIn (off := 191) (tgt := 260) hx hb dL_law_69 (by decide +kernel) (by decide +kernel) (by decide +kernel) (by decide) (law_c1 hlt hF hE hNc hX hbl hL hi hc2 hs2 hV hS hl STEP)
        · subst k4
          exact lv_tableIn (off := 235) (tgt := 304) hx hb dL_law_69 (by decide +kernel) (by decide +kernel) (by decide +kernel) (by decide) (law_c2 hlt hF hE hNc hX hbl hL hi hc2 hs2 hV hS hl STEP)
        · subst k4
          exact lv_tableIn (off := 291) (tgt := 360) hx hb dL_law_69 (by decide +kernel) (by decide +kernel) (by decide +kernel) (by decide) (law_c3 hlt hF hE hNc hX hbl hL hi hc2 hs2 hV hS hl STEP)
        · subst k4
          exact lv_tableIn (off := 347) (tgt := 416) hx hb dL_law_69 (by decide +kernel) (by decide +kernel) (by decide +kernel) (by decide) (law_c4 hlt hF hE hNc hX hbl hL hi hc2 hs2 hV hS hl STEP)
        · subst k4
          exact lv_tableIn (off := 415) (tgt := 484) hx hb dL_law_69 (by decide +kernel) (by decide +kernel) (by decide +kernel) (by decide) (law_c5 hlt hF hE hNc hX hbl hL hi hc2 hs2 hV hS hl STEP)
        · subst k4
          exact lv_tableIn (off := 471) (tgt := 540) hx hb dL_law_69 (by decide +kernel) (by decide +kernel) (by decide +kernel) (by decide) (law_c6 hlt hF hE hNc hX hbl hL hi hc2 hs2 hV hS hl STEP)
        · subst k4
          exact lv_tableIn (off := 551) (tgt := 620) hx hb dL_law_69 (by decide +kernel) (by decide +kernel) (by decide +kernel) (by decide) (law_c7 hlt hF hE hNc hX hbl hL hi hc2 hs2 hV hS hl STEP)
        · subst k4
          exact lv_tableIn (off := 564) (tgt := 633) hx hb dL_law_69 (by decide +kernel) (by decide +kernel) (by decide +kernel) (by decide) (law_c8 hlt hF hE hNc hX hbl hL hi hc2 hs2 hV hS hl STEP)
        · subst k4
          exact lv_tableIn (off := 620) (tgt := 689) hx hb dL_law_69 (by decide +kernel) (by decide +kernel) (by decide +kernel) (by decide) (law_c9 hlt hF hE hNc hX hbl hL hi hc2 hs2 hV hS hl STEP)
        · subst k4
          exact lv_tableIn (off := 676) (tgt := 745) hx hb dL_law_69 (by decide +kernel) (by decide +kernel) (by decide +kernel) (by decide) (law_c10 hlt hF hE hNc hX hbl hL hi hc2 hs2 hV hS hl STEP)
        · subst k4
          exact lv_tableIn (off := 732) (tgt := 801) hx hb dL_law_69 (by decide +kernel) (by decide +kernel) (by decide +kernel) (by decide) (law_c11 hlt hF hE hNc hX hbl hL hi hc2 hs2 hV hS hl STEP)
        · subst k4
          exact lv_tableIn (off := 788) (tgt := 857) hx hb dL_law_69 (by decide +kernel) (by decide +kernel) (by decide +kernel) (by decide) (law_c12 hlt hF hE hNc hX hbl hL hi hc2 hs2 hV hS hl STEP)
        · subst k4
          exact lv_tableIn (off := 844) (tgt := 913) hx hb dL_law_69 (by decide +kernel) (by decide +kernel) (by decide +kernel) (by decide) (law_c13 hlt hF hE hNc hX hbl hL hi hc2 hs2 hV hS hl STEP)
        · subst k4
          exact lv_tableIn (off := 857) (tgt := 926) hx hb dL_law_69 (by decide +kernel) (by decide +kernel) (by decide +kernel) (by decide) (law_c14 hlt hF hE hNc hX hbl hL hi hc2 hs2 hV hS hl STEP)
        · subst k4
          exact lv_tableIn (off := 913) (tgt := 982) hx hb dL_law_69 (by decide +kernel) (by decide +kernel) (by decide +kernel) (by decide) (law_c15 hlt hF hE hNc hX hbl hL hi hc2 hs2 hV hS hl STEP)
        · subst k4
          exact lv_tableIn (off := 969) (tgt := 1038) hx hb dL_law_69 (by decide +kernel) (by decide +kernel) (by decide +kernel) (by decide) (law_c16 hlt hF hE hNc hX hbl hL hi hc2 hs2 hV hS hl STEP)
        · subst k4
          exact lv_tableIn (off := 1025) (tgt := 1094) hx hb dL_law_69 (by decide +kernel) (by decide +kernel) (by decide +kernel) (by decide) (law_c17 hlt hF hE hNc hX hbl hL hi hc2 hs2 hV hS hl STEP)
        · subst k4
          exact lv_tableIn (off := 1081) (tgt := 1150) hx hb dL_law_69 (by decide +kernel) (by decide +kernel) (by decide +kernel) (by decide) (law_c18 hlt hF hE hNc hX hbl hL hi hc2 hs2 hV hS hl STEP)
        · subst k4
          exact lv_tableIn (off := 1137) (tgt := 1206) hx hb dL_law_69 (by decide +kernel) (by decide +kernel) (by decide +kernel) (by decide) (law_c19 hlt hF hE hNc hX hbl hL hi hc2 hs2 hV hS hl STEP)
        · subst k4
          exact lv_tableIn (off := 1193) (tgt := 1262) hx hb dL_law_69 (by decide +kernel) (by decide +kernel) (by decide +kernel) (by decide) (law_c20 hlt hF hE hNc hX hbl hL hi hc2 hs2 hV hS hl STEP)
        · subst k4
          exact lv_tableIn (off := 1261) (tgt := 1330) hx hb dL_law_69 (by decide +kernel) (by decide +kernel) (by decide +kernel) (by decide) (law_c21 hlt hF hE hNc hX hbl hL hi hc2 hs2 hV hS hl STEP)
        · subst k4
          exact lv_tableIn (off := 1317) (tgt := 1386) hx hb dL_law_69 (by decide +kernel) (by decide +kernel) (by decide +kernel) (by decide) (law_c22 hlt hF hE hNc hX hbl hL hi hc2 hs2 hV hS hl STEP)
        · subst k4
          exact lv_tableIn (off := 1330) (tgt := 1399) hx hb dL_law_69 (by decide +kernel) (by decide +kernel) (by decide +kernel) (by decide) (law_c23 hlt hF hE hNc hX hbl hL hi hc2 hs2 hV hS hl STEP)
