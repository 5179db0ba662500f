/-! Batch: made, takes all -/
set_option maxRecDepth 100000
theorem xk_batInit (l : Launch) (g : xg) (A : Nat → Prop) (w : xw_W) (nB nL nD nT nO b o pr : Nat) (due z : Int32) (qa : Value) (hB : w nB = some (b, .inr (5, [.null, .int 0, .int 0]))) (hO : w nO = some (o, .inr (4, [.int due, qa, .int (nI pr), .int z]))) (hp : pr < 2 ^ 20)
    (hLD : nL ≠ nD) (hTD : nT ≠ nD) (hT : w nT = none) (hBL : nB ≠ nL) (hBD : nB ≠ nD) (hOL : nO ≠ nL) (hOD : nO ≠ nD) (hOB : nO ≠ nB) (hTL : nT ≠ nL) (hnD : ∀ b fs, w nD = some (b, .inr (4, fs)) → False) :
    Met l yX6_init (ws_ yX6_init cX6_init 2 none) (xrm 8 2 63) (xPw g A w [.ref b, .ref o]) (xQwv g A (fun u => (∃ la, xLs g u nL nD la 1 4 [o] ∧ u nB = some (b, .inr (5, [.ref la, .int (nI pr), .int (nI (cntB pr 20))]))) ∧ ∀ k, k ≠ nL → k ≠ nD → k ≠ nB → u k = w k)) 2 63 A := by
  have hTB : nT ≠ nB := by
    intro z
    rw [z, hB] at hT
    cases hT
  refine x_start rfl (Nat.le_of_ble_eq_true rfl) ?_
  intro p e s m below meth c hx hb hr hlk hml hown hts hnm hE hM hS ls hl
  have hF : xFix p m c cX6_init 2 s _ RX6 := ⟨hx, hb, hml, hown, hts⟩
  generalize hargs : List.toArray _ = args at hts hF ⊢
  generalize hQ : MQ below _ _ s _ _ A = Q
  refine lv_aload_n hx hb dX6_init_0 rfl (lh_at hl rfl) ?_
  refine x_obj hx hb hml hown (hts _ q1112) (hts _ q77) (hts _ q78) hl dX6_init_1 (Nat.le_of_ble_eq_true rfl) (Nat.le_of_ble_eq_true rfl) ?_
  refine lv_aload_n hx hb dX6_init_4 rfl (lh_at hl rfl) ?_
  refine xr_new hx hb hts in_J2 tyJ2 tyJ2_ok hown (hts _ q1113) (hts _ q80) (hts _ q41) hE hM hS nL (ci := 6) (fs := [.int 0, .null, .int 0]) rfl (by decide) (Nat.le_of_ble_eq_true rfl) (Nat.le_of_ble_eq_true rfl) dX6_init_5 (fun la H hla hM hS => ?_)
  refine lv_dup hx hb dX6_init_8 rfl ?_
  refine x_callv (x_runI (As := []) hF hE hS hM hl (jk_init l g A _ nL la .null 0 va_up_s) q1114 q82 q41 q83 rfl ⟨by decide +kernel, by decide +kernel, by show _ = some 0; decide +kernel⟩ rfl rfl ⟨Nat.le_of_ble_eq_true rfl, Nat.le_of_ble_eq_true rfl⟩ rfl (Nat.le_of_ble_eq_true rfl) dX6_init_9 ⟨Nat.le_of_ble_eq_true rfl, Nat.le_of_ble_eq_true rfl⟩) hS (fun u H locs hq hM hS => ?_)
  rw [hq] at hM
  refine xr_putF (C := RX6) (T := TX6) (N := 3) (ci := 5) (n := nB) hx hb hts in_X6 tyX6 tyX6_ok nmX6 hown hE hM hS (by first | assumption | exact va_up_s | rfl | (refine (va_up_n ?_).trans ?_; rotate_left; (first | assumption | exact va_up_s | rfl | (refine (va_up_n ?_).trans ?_; rotate_left; (first | assumption | exact va_up_s | rfl | (refine (va_up_n ?_).trans ?_; rotate_left; (first | assumption | exact va_up_s | rfl | (refine (va_up_n ?_).trans ?_; rotate_left; (first | assumption | exact va_up_s | rfl | (refine (va_up_n ?_).trans ?_; rotate_left; (assumption); omega)); omega)); omega)); omega)); omega)) rfl 0 (by decide) (hts _ q1122) (fun _ h => h) rfl hnm rfl (tyX6_ok 0 (by decide)) rfl rfl (Nat.le_of_ble_eq_true rfl) dX6_init_12 (fun H locs hM hS => ?_)
  refine lv_aload_n hx hb dX6_init_15 rfl (lh_at hl rfl) ?_
  refine lv_aload_n hx hb dX6_init_16 rfl (lh_at hl rfl) ?_
  have hBf : ∀ x1 x2 x3, va_up (va_up (va_up w nL x1) nL x2) nB (some (b, x3)) nB = some (b, x3) := fun _ _ _ => va_up_s
  refine x_callv (x_runV (As := [.ref o]) hF hE hS hM hl (xk_takes l g A _ nB nL nD nT nO b la o pr 0 0 0 due z qa [] ⟨g.2 5, (va_up_n hBL.symm).trans va_up_s, by decide, fun y hy => absurd hy List.not_mem_nil, Or.inl ⟨rfl, rfl⟩⟩ (by decide) va_up_s ((va_up_n hOB).trans ((va_up_n hOL).trans ((va_up_n hOL).trans hO))) hp hLD hTD ((va_up_n hTB).trans ((va_up_n hTL).trans ((va_up_n hTL).trans hT))) hBL hBD hOL hOD hOB (fun b fs e => hnD b fs (by rw [va_up_n (by omega), va_up_n (by omega), va_up_n (by omega)] at e; exact e))) (xw.recv hE hM va_up_s rfl) q1115 q1117 qs12 q70 q1118 ⟨rfl, by decide +kernel, by decide +kernel, by show _ = some 1; decide +kernel⟩ rfl rfl ⟨Nat.le_of_ble_eq_true rfl, Nat.le_of_ble_eq_true rfl⟩ rfl (Nat.le_of_ble_eq_true rfl) dX6_init_17 ⟨Nat.le_of_ble_eq_true rfl, Nat.le_of_ble_eq_true rfl⟩) hS (fun u H locs hq hM hS => ?_)
  obtain ⟨h1, h2, h3⟩ := hq
  refine hQ ▸ x_vret hx hb hr hlk hS u ⟨⟨la, h1, ?_⟩, fun k k1 k2 k3 => ?_⟩ hM dX6_init_20
  · rw [h2, Nat.zero_or, Nat.zero_add]
  · rw [h3 k k1 k2 k3, va_up_n k3, va_up_n k1, va_up_n k1]
/-- the products of orders together, and their lines -/
def orL (pp : Nat → Nat) : List Nat → Nat
  | [] => 0
  | y :: t => pp y ||| orL pp t
def smL (pp : Nat → Nat) : List Nat → Nat
  | [] => 0
  | y :: t => cntB (pp y) 20 + smL pp t
theorem orL_snoc (pp : Nat → Nat) (y : Nat) : ∀ l : List Nat, orL pp (l ++ [y]) = orL pp l ||| pp y
  | [] => by show pp y ||| 0 = 0 ||| pp y; rw [Nat.or_zero, Nat.zero_or]
  | x :: t => by show pp x ||| orL pp (t ++ [y]) = (pp x ||| orL pp t) ||| pp y; rw [orL_snoc pp y t, Nat.or_assoc]
theorem smL_snoc (pp : Nat → Nat) (y : Nat) : ∀ l : List Nat, smL pp (l ++ [y]) = smL pp l + cntB (pp y) 20
  | [] => by show cntB (pp y) 20 + 0 = 0 + cntB (pp y) 20; omega
  | x :: t => by show cntB (pp x) 20 + smL pp (t ++ [y]) = (cntB (pp x) 20 + smL pp t) + cntB (pp y) 20; rw [smL_snoc pp y t]; omega
theorem xLs.nDa {g : xg} {w : xw_W} {nL nD a ci : Nat} {mc : Int32} {es : List Nat} (h : xLs g w nL nD a mc ci es) (h0 : es ≠ []) : ∀ b fs, w nD = some (b, .inr (4, fs)) → False := by
  intro b fs e
  obtain ⟨d, h1, h2, h3, h4⟩ := h
  rcases h4 with ⟨h5, -⟩ | ⟨cap, f, h5, h6⟩
  · exact h0 h5
  · rw [h5] at e
    cases e
theorem take_snoc {es : List Nat} {k y : Nat} (h : es[k]? = some y) : es.take (k + 1) = es.take k ++ [y] := by
  rw [List.take_succ, h]
  rfl
theorem xk_takesAll (l : Launch) (g : xg) (A : Nat → Prop) (w : xw_W) (nB nL nD nB2 nL2 nD2 nI_ nT b b2 la la2 P L : Nat) (P2 L2 : Int32) (mc mc2 : Int32) (es es2 : List Nat) (pp : Nat → Nat)
    (hLs : xLs g w nL nD la mc 4 es) (hLs2 : xLs g w nL2 nD2 la2 mc2 4 es2) (hn : es.length + es2.length ≤ 40) (hn2 : es2.length ≤ 9) (hB : w nB = some (b, .inr (5, [.ref la, .int (nI P), .int (nI L)]))) (hB2 : w nB2 = some (b2, .inr (5, [.ref la2, .int P2, .int L2])))
    (hO : ∀ y ∈ es2, ∃ nO due qa z, w nO = some (y, .inr (4, [.int due, qa, .int (nI (pp y)), .int z])) ∧ nO ≠ nD ∧ nO ≠ nI_) (hpp : ∀ y ∈ es2, pp y < 2 ^ 20)
    (hLD : nL ≠ nD) (hTD : nT ≠ nD) (hT : w nT = none) (hTI : nT ≠ nI_) (hBL : nB ≠ nL) (hBD : nB ≠ nD) (hIL : nI_ ≠ nL) (hID : nI_ ≠ nD) (hIB : nI_ ≠ nB) (hIL2 : nI_ ≠ nL2) (hID2 : nI_ ≠ nD2) (h2L : nL2 ≠ nL ∧ nL2 ≠ nD ∧ nL2 ≠ nB) (h2D : nD2 ≠ nL ∧ nD2 ≠ nD ∧ nD2 ≠ nB) (hI : w nI_ = none) (hnD : ∀ b fs, w nD = some (b, .inr (4, fs)) → False) :
    Met l yX6_takesAll (ws_ yX6_takesAll cX6_takesAll 4 none) (xrm 8 10 544) (xPw g A w [.ref b, .ref b2]) (xQwv g A (fun u => (∃ mc', xLs g u nL nD la mc' 4 (es ++ es2)) ∧ u nB = some (b, .inr (5, [.ref la, .int (nI (P ||| orL pp es2)), .int (nI (L + smL pp es2))])) ∧ ∀ k, k ≠ nL → k ≠ nD → k ≠ nB → k ≠ nI_ → u k = w k)) 10 544 A := by
  obtain ⟨d2, hd2⟩ := hLs2.size
  obtain ⟨d1, hd1⟩ := hLs.size
  refine x_start rfl (Nat.le_of_ble_eq_true rfl) ?_
  intro p e s m below meth c hx hb hr hlk hml hown hts hnm hE hM hS ls hl
  have hF : xFix p m c cX6_takesAll 4 s _ RX6 := ⟨hx, hb, hml, hown, hts⟩
  generalize hargs : List.toArray _ = args at hts hF ⊢
  generalize hQ : MQ below _ _ s _ _ A = Q
  refine lv_aload_n hx hb dX6_takesAll_0 rfl (lh_at hl rfl) ?_
  refine xr_get (C := RX6) (T := TX6) (N := 3) (ci := 5) (n := nB2) hx hb hts in_X6 hown hE hM (by first | assumption | exact va_up_s | rfl | (refine (va_up_n ?_).trans ?_; rotate_left; (first | assumption | exact va_up_s | rfl | (refine (va_up_n ?_).trans ?_; rotate_left; (first | assumption | exact va_up_s | rfl | (refine (va_up_n ?_).trans ?_; rotate_left; (first | assumption | exact va_up_s | rfl | (refine (va_up_n ?_).trans ?_; rotate_left; (first | assumption | exact va_up_s | rfl | (refine (va_up_n ?_).trans ?_; rotate_left; (assumption); omega)); omega)); omega)); omega)); omega)) rfl 0 (by decide) (hts _ q1122) (fun _ h => h) rfl dX6_takesAll_1 ?_
  refine x_callFr (x_runF (As := []) hF hE hS hM hl (jk_iterator l g A w nL2 nD2 nI_ la2 4 mc2 es2 hLs2 hIL2.symm (fun q hq => by rw [hI] at hq; cases hq) (fun q fs e => by rw [hI] at e; cases e)) (xw.recv hE hM (by first | assumption | exact va_up_s | rfl | (refine (va_up_n ?_).trans ?_; rotate_left; (first | assumption | exact va_up_s | rfl | (refine (va_up_n ?_).trans ?_; rotate_left; (first | assumption | exact va_up_s | rfl | (refine (va_up_n ?_).trans ?_; rotate_left; (first | assumption | exact va_up_s | rfl | (refine (va_up_n ?_).trans ?_; rotate_left; (first | assumption | exact va_up_s | rfl | (refine (va_up_n ?_).trans ?_; rotate_left; (assumption); omega)); omega)); omega)); omega)); omega)) rfl) (xw.at hE (ci := 6) rfl) (List.mem_of_getElem? (i := 5) rfl) q1153 q1054 q1052 q41 q1056 ⟨by decide +kernel, by decide +kernel, by show _ = some 0; decide +kernel⟩ rfl rfl ⟨Nat.le_of_ble_eq_true rfl, Nat.le_of_ble_eq_true rfl⟩ rfl (Nat.le_of_ble_eq_true rfl) dX6_takesAll_4 ⟨Nat.le_of_ble_eq_true rfl, Nat.le_of_ble_eq_true rfl⟩) hS (fun u0 it H locs hq hM hS => ?_)
  obtain ⟨⟨hit, hag0⟩, hM⟩ := hM
  refine x_astore_n hx hb dX6_takesAll_9 rfl hl (by decide) (fun ls hl => ?_)
  have J : ∀ (n k : Nat), k ≤ es2.length → es2.length < k + n → ∀ (u : xw_W) (mc' last : Int32) (cells slots : Nat) (H : Heap) (locs : List Loc) (ls : Array Slot), cells ≤ 1 + k → slots ≤ 4 + 60 * k → xw g A u H → va_S A s.heap H locs → xLs g u nL nD la mc' 4 (es ++ es2.take k) → u nB = some (b, .inr (5, [.ref la, .int (nI (P ||| orL pp (es2.take k))), .int (nI (L + smL pp (es2.take k)))])) → u nI_ = some (xIt it (nI k) last mc2 la2) → (∀ k, k ≠ nL → k ≠ nD → k ≠ nB → k ≠ nI_ → u k = w k) → (∀ b fs, u nD = some (b, .inr (4, fs)) → False) → lh ls 4 (xl [(0, .ref b), (2, .ref it)]) → W p l e (xrm 8 10 544) s m args below meth c H locs cells slots Q (F0 m 10 ls []) := by
    intro n
    induction n with
    | zero => intro k h1 h2; exact absurd h2 (by omega)
    | succ n ih =>
      intro k h1 h2 u mc' last cells slots H locs ls hc1 hc2 hM hS k1 k2 k3 k4 k5 hl
      have hL2u : xLs g u nL2 nD2 la2 mc2 4 es2 := by
        refine hLs2.keep (by decide) (fun j hj => ?_)
        refine k4 j ?_ ?_ ?_ ?_
        all_goals intro hjj
        all_goals rcases hj with hj | hj | ⟨q, fs, hj⟩
        all_goals first | (exfalso; omega) | skip
        · rw [hjj, hd1] at hj
          cases hj
        · exact hnD q fs (by rw [← hjj]; exact hj)
        · rw [hjj, hB] at hj
          cases hj
        · rw [hjj, hI] at hj
          cases hj
      refine lv_aload_n hx hb dX6_takesAll_10 rfl (lh_at hl rfl) ?_
      refine x_callFi (x_runF (As := []) hF hE hS hM hl (jk_hasNext l g A u nL2 nD2 nI_ it la2 4 k mc2 last es2 hL2u k3 h1) (xw.recv hE hM (by first | assumption | exact va_up_s | rfl | (refine (va_up_n ?_).trans ?_; rotate_left; (first | assumption | exact va_up_s | rfl | (refine (va_up_n ?_).trans ?_; rotate_left; (first | assumption | exact va_up_s | rfl | (refine (va_up_n ?_).trans ?_; rotate_left; (first | assumption | exact va_up_s | rfl | (refine (va_up_n ?_).trans ?_; rotate_left; (first | assumption | exact va_up_s | rfl | (refine (va_up_n ?_).trans ?_; rotate_left; (assumption); omega)); omega)); omega)); omega)); omega)) rfl) (xw.at hE (ci := 7) rfl) (List.mem_of_getElem? (i := 8) rfl) q1155 q1083 q1081 q69 q1085 ⟨by decide +kernel, by decide +kernel, by show _ = some 0; decide +kernel⟩ rfl rfl ⟨Nat.le_of_ble_eq_true rfl, Nat.le_of_ble_eq_true rfl⟩ rfl (Nat.le_of_ble_eq_true rfl) dX6_takesAll_11 (by show cells + 0 ≤ 10 ∧ slots + 0 ≤ 544; omega)) hS (fun r uu H locs hq hM hS => ?_)
      by_cases hke : k = es2.length
      · rw [if_pos hke] at hq
        subst hq
        refine lv_if_eq (tgt := 37) hx hb dX6_takesAll_16 (by decide) (fun c1 => ?_) (fun c1 => ?_)
        · refine W.widen (k := 10) (n := 544) (by omega) (by omega) ?_
          rw [hke, List.take_length] at k1 k2
          exact hQ ▸ x_vret hx hb hr hlk hS u ⟨⟨mc', k1⟩, k2, k4⟩ hM dX6_takesAll_37
        · exact absurd rfl c1
      · rw [if_neg hke] at hq
        subst hq
        have hkl : k < es2.length := by omega
        have hy : es2[k]? = some es2[k] := List.getElem?_eq_getElem hkl
        refine lv_if_eq (tgt := 37) hx hb dX6_takesAll_16 (by decide) (fun c1 => ?_) (fun c1 => ?_)
        · exact absurd c1 (by decide)
        · refine lv_aload_n hx hb dX6_takesAll_19 rfl (lh_at hl rfl) ?_
          refine x_callFr (x_runF (As := []) hF hE hS hM hl (jk_next l g A u nL2 nD2 nI_ it la2 4 k es2[k] mc2 last es2 hL2u k3 hy) (xw.recv hE hM (by first | assumption | exact va_up_s | rfl | (refine (va_up_n ?_).trans ?_; rotate_left; (first | assumption | exact va_up_s | rfl | (refine (va_up_n ?_).trans ?_; rotate_left; (first | assumption | exact va_up_s | rfl | (refine (va_up_n ?_).trans ?_; rotate_left; (first | assumption | exact va_up_s | rfl | (refine (va_up_n ?_).trans ?_; rotate_left; (first | assumption | exact va_up_s | rfl | (refine (va_up_n ?_).trans ?_; rotate_left; (assumption); omega)); omega)); omega)); omega)); omega)) rfl) (xw.at hE (ci := 7) rfl) (List.mem_of_getElem? (i := 9) rfl) q1157 q1092 q1090 q69 q1094 ⟨by decide +kernel, by decide +kernel, by show _ = some 0; decide +kernel⟩ rfl rfl ⟨Nat.le_of_ble_eq_true rfl, Nat.le_of_ble_eq_true rfl⟩ rfl (Nat.le_of_ble_eq_true rfl) dX6_takesAll_20 (by show cells + 0 + 0 ≤ 10 ∧ slots + 0 + 0 ≤ 544; omega)) hS (fun u1 ra H locs hq hM hS => ?_)
          obtain ⟨⟨hra, hu1⟩, hM⟩ := hM
          rw [hu1] at hM
          subst hra
          obtain ⟨nO, due, qa, z, hO1, hO2, hO3⟩ := hO _ (List.getElem_mem hkl)
          have hOL : nO ≠ nL := by
            intro e
            rw [e, hd1] at hO1
            cases hO1
          have hOB : nO ≠ nB := by
            intro e
            rw [e, hB] at hO1
            cases hO1
          have hOu : va_up u nI_ (some (xIt it (nI (k + 1)) (nI k) mc2 la2)) nO = some (es2[k], .inr (4, [.int due, qa, .int (nI (pp es2[k])), .int z])) := by
            rw [va_up_n hO3, k4 nO hOL hO2 hOB hO3]
            exact hO1
          refine xr_cast (n := nO) (r := (RX5, TX5, 4)) (ci := 4) hx hb hown hE hM (by first | assumption | exact va_up_s | rfl | (refine (va_up_n ?_).trans ?_; rotate_left; (first | assumption | exact va_up_s | rfl | (refine (va_up_n ?_).trans ?_; rotate_left; (first | assumption | exact va_up_s | rfl | (refine (va_up_n ?_).trans ?_; rotate_left; (first | assumption | exact va_up_s | rfl | (refine (va_up_n ?_).trans ?_; rotate_left; (first | assumption | exact va_up_s | rfl | (refine (va_up_n ?_).trans ?_; rotate_left; (assumption); omega)); omega)); omega)); omega)); omega)) rfl (hts _ q1158) dX6_takesAll_25 ?_
          refine x_astore_n hx hb dX6_takesAll_28 rfl hl (by decide) (fun ls hl => ?_)
          refine lv_aload_n hx hb dX6_takesAll_29 rfl (lh_at hl rfl) ?_
          refine lv_aload_n hx hb dX6_takesAll_30 rfl (lh_at hl rfl) ?_
          have hT1 : va_up u nI_ (some (xIt it (nI (k + 1)) (nI k) mc2 la2)) nT = none := by
            rw [va_up_n hTI, k4 nT (fun e => by rw [e, hd1] at hT; cases hT) hTD (fun e => by rw [e, hB] at hT; cases hT) hTI]
            exact hT
          have hL1 : xLs g (va_up u nI_ (some (xIt it (nI (k + 1)) (nI k) mc2 la2))) nL nD la mc' 4 (es ++ es2.take k) := k1.keep (by decide) (fun j hj => va_up_n (by
            intro e
            rcases hj with hj | hj | ⟨q, fs, hj⟩
            · omega
            · omega
            · rw [e, k3] at hj
              cases hj))
          have hlen : (es ++ es2.take k).length < 40 := by
            rw [List.length_append, List.length_take]
            omega
          have hnD1 : ∀ b fs, va_up u nI_ (some (xIt it (nI (k + 1)) (nI k) mc2 la2)) nD = some (b, .inr (4, fs)) → False := fun b fs e => k5 b fs (by rw [va_up_n (fun e => hID e.symm)] at e; exact e)
          have hB1 : va_up u nI_ (some (xIt it (nI (k + 1)) (nI k) mc2 la2)) nB = _ := (va_up_n (fun e => hIB e.symm)).trans k2
          refine x_callv (x_runV (As := [.ref es2[k]]) hF hE hS hM hl (xk_takes l g A _ nB nL nD nT nO b la es2[k] (pp es2[k]) (P ||| orL pp (es2.take k)) (L + smL pp (es2.take k)) mc' due z qa (es ++ es2.take k) hL1 hlen hB1 hOu (hpp _ (List.getElem_mem hkl)) hLD hTD hT1 hBL hBD hOL hO2 hOB hnD1) (by exact xw.recv hE hM hB1 rfl) q1115 q1117 qs12 q70 q1118 ⟨rfl, by decide +kernel, by decide +kernel, by show _ = some 1; decide +kernel⟩ rfl rfl ⟨Nat.le_of_ble_eq_true rfl, Nat.le_of_ble_eq_true rfl⟩ rfl (Nat.le_of_ble_eq_true rfl) dX6_takesAll_31 (by show cells + 0 + 0 + 1 ≤ 10 ∧ slots + 0 + 0 + 60 ≤ 544; omega)) hS (fun u2 H locs hq2 hM hS => ?_)
          obtain ⟨m1, m2, m3⟩ := hq2
          refine lv_goto (tgt := 10) hx hb dX6_takesAll_34 (by decide) ?_
          refine ih (k + 1) (by omega) (by omega) u2 (mc' + 1) (nI k) _ _ H locs ls (by omega) (by omega) hM hS ?_ ?_ ?_ ?_ (m1.nDa (List.append_ne_nil_of_right_ne_nil _ (List.cons_ne_nil _ _))) (lh_sub hl _ ⟨rfl, rfl, trivial⟩)
          · rw [take_snoc hy, ← List.append_assoc]
            exact m1
          · rw [take_snoc hy, orL_snoc, smL_snoc, ← Nat.or_assoc, ← Nat.add_assoc]
            exact m2
          · rw [m3 nI_ hIL hID hIB, va_up_s]
          · intro j j1 j2 j3 j4
            rw [m3 j j1 j2 j3, va_up_n j4]
            exact k4 j j1 j2 j3 j4
  exact J (es2.length + 1) 0 (by omega) (by omega) u0 mc (-1) _ _ H locs ls (Nat.le_of_ble_eq_true rfl) (Nat.le_of_ble_eq_true rfl) hM hS (by
    rw [List.take_zero, List.append_nil]
    exact hLs.keep (by decide) (fun j hj => hag0 j (by
      intro e
      rcases hj with hj | hj | ⟨q, fs, hj⟩
      · omega
      · omega
      · rw [e, hI] at hj
        cases hj))) (by
    rw [List.take_zero]
    show u0 nB = some (b, .inr (5, [.ref la, .int (nI (P ||| 0)), .int (nI (L + 0))]))
    rw [Nat.or_zero, Nat.add_zero, hag0 nB (fun e => hIB e.symm)]
    exact hB) hit (fun j j1 j2 j3 j4 => hag0 j j4) (fun b fs e => hnD b fs (by rw [hag0 nD (fun e => hID e.symm)] at e; exact e)) (lh_sub hl _ ⟨rfl, rfl, trivial⟩)
