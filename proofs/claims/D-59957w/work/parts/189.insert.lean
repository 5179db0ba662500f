/-! Aislewright.insert: into a list of ranked ones -/
set_option maxRecDepth 100000
/-- the place from behind: rk y the worth and the number of the object at y -/
def rkLt (a b : Int32 × Int32) : Bool := decide (cmpI a.1 b.1 < 0) || (decide (a.1 = b.1) && decide (cmpI a.2 b.2 < 0))
def insP (rk : Nat → Int32 × Int32) (es : List Nat) (y : Nat) : Nat → Nat
  | 0 => 0
  | k + 1 => match es[k]? with
    | some z => if rkLt (rk y) (rk z) = true then insP rk es y k else k + 1
    | none => k + 1
theorem insP_le {rk : Nat → Int32 × Int32} {es : List Nat} {y : Nat} : ∀ k, insP rk es y k ≤ k
  | 0 => Nat.le_refl _
  | k + 1 => by
    have ih := insP_le (rk := rk) (es := es) (y := y) k
    unfold insP
    split
    · split <;> omega
    · exact Nat.le_refl _
theorem cmp_neg {a b : Int32 × Int32} : ((if a.1 = b.1 then cmpI a.2 b.2 else cmpI a.1 b.1) < 0) ↔ rkLt a b = true := by
  unfold rkLt
  by_cases h : a.1 = b.1
  · rw [if_pos h]
    have h2 : ¬ cmpI a.1 b.1 < 0 := by
      unfold cmpI
      rw [h, if_neg (Int32.lt_irrefl), if_pos rfl]
      decide
    simp [h, h2]
    rw [h] at h2
    intro z
    exact absurd z h2
  · rw [if_neg h]
    simp [h]
theorem xk_insert (l : Launch) (g : xg) (A : Nat → Prop) (w : xw_W) (nL nD nT nE a y : Nat) (mc : Int32) (es : List Nat) (rk : Nat → Int32 × Int32) (h : xLs g w nL nD a mc 3 es) (hn : es.length < 40) (hy : w nE = some (y, .inr (3, [.int (rk y).1, .int (rk y).2]))) (hrk : ∀ z ∈ es, ∃ n, w n = some (z, .inr (3, [.int (rk z).1, .int (rk z).2])))
    (hLD : nL ≠ nD) (hTD : nT ≠ nD) (hT : w nT = none) (hnD : ∀ b fs, w nD = some (b, .inr (3, fs)) → False) :
    Met l yX1_insert (ws_ yX1_insert cX1_insert 4 none) (xrm 6 1 60) (xPw g A w [.ref a, .ref a, .ref y]) (xQwv g A (fun u => xLs g u nL nD a (mc + 1) 3 (es.take (insP rk es y es.length) ++ y :: es.drop (insP rk es y es.length)) ∧ xAg2 w u nL nD)) 1 60 A := by
  obtain ⟨d, hd⟩ := h.size
  have hle := h.le
  refine x_start rfl (Nat.le_of_ble_eq_true rfl) ?_
  intro p e s m below meth c hx hb hr hlk hml hown hts hnm hE hM hS ls hl
  have hF : xFix p m c cX1_insert 4 s _ RX1 := ⟨hx, hb, hml, hown, hts⟩
  generalize hargs : List.toArray _ = args at hts hF ⊢
  generalize hQ : MQ below _ _ s _ _ A = Q
  refine lv_aload_n hx hb dX1_insert_0 rfl (lh_at hl rfl) ?_
  refine x_callFi (x_runF (As := []) hF hE hS hM hl (jk_size l g A w nL nD a 3 mc es h) (xw.recv hE hM (by first | assumption | exact va_up_s | rfl | (refine (va_up_n ?_).trans ?_; rotate_left; (first | assumption | exact va_up_s | rfl | (refine (va_up_n ?_).trans ?_; rotate_left; (first | assumption | exact va_up_s | rfl | (refine (va_up_n ?_).trans ?_; rotate_left; (first | assumption | exact va_up_s | rfl | (refine (va_up_n ?_).trans ?_; rotate_left; (first | assumption | exact va_up_s | rfl | (refine (va_up_n ?_).trans ?_; rotate_left; (assumption); omega)); omega)); omega)); omega)); omega)) rfl) (xw.at hE (ci := 6) rfl) (List.mem_of_getElem? (i := 0) rfl) q183 q189 q187 q41 q191 ⟨by decide +kernel, by decide +kernel, by show _ = some 0; decide +kernel⟩ rfl rfl ⟨Nat.le_of_ble_eq_true rfl, Nat.le_of_ble_eq_true rfl⟩ rfl (Nat.le_of_ble_eq_true rfl) dX1_insert_1 ⟨Nat.le_of_ble_eq_true rfl, Nat.le_of_ble_eq_true rfl⟩) hS (fun r uu H locs hq hM hS => ?_)
  subst hq
  refine x_istore_n hx hb dX1_insert_6 rfl hl (by decide) (fun ls hl => ?_)
  have J : ∀ (n k : Nat), k < n → k ≤ es.length → insP rk es y k = insP rk es y es.length → ∀ (H : Heap) (locs : List Loc) (ls : Array Slot), xw g A w H → va_S A s.heap H locs → lh ls 4 (xl [(0, .ref a), (1, .ref a), (2, .ref y), (3, .int (nI k))]) → W p l e (xrm 6 1 60) s m args below meth c H locs 0 0 Q (F0 m 7 ls []) := by
    intro n
    induction n with
    | zero => intro k h1; exact absurd h1 (by omega)
    | succ n ih =>
      intro k h1 h2 h3 H locs ls hM hS hl
      have stop : k = insP rk es y es.length → ∀ (H : Heap) (locs : List Loc) (ls : Array Slot), xw g A w H → va_S A s.heap H locs → lh ls 4 (xl [(0, .ref a), (1, .ref a), (2, .ref y), (3, .int (nI k))]) → W p l e (xrm 6 1 60) s m args below meth c H locs 0 0 Q (F0 m 35 ls []) := by
        intro hk H locs ls hM hS hl
        refine lv_aload_n hx hb dX1_insert_35 rfl (lh_at hl rfl) ?_
        refine lv_iload_n hx hb dX1_insert_36 rfl (lh_at hl rfl) ?_
        refine lv_aload_n hx hb dX1_insert_37 rfl (lh_at hl rfl) ?_
        refine x_callFv (x_runF (As := [.int (nI k), .ref y]) hF hE hS hM hl (jk_addAt l g A w nL nD nT a 3 k y mc es h h2 hn ⟨nE, _, hy⟩ hLD hTD hT ⟨_, rfl, q1583⟩ (by decide) hnD) (xw.recv hE hM (by first | assumption | exact va_up_s | rfl | (refine (va_up_n ?_).trans ?_; rotate_left; (first | assumption | exact va_up_s | rfl | (refine (va_up_n ?_).trans ?_; rotate_left; (first | assumption | exact va_up_s | rfl | (refine (va_up_n ?_).trans ?_; rotate_left; (first | assumption | exact va_up_s | rfl | (refine (va_up_n ?_).trans ?_; rotate_left; (first | assumption | exact va_up_s | rfl | (refine (va_up_n ?_).trans ?_; rotate_left; (assumption); omega)); omega)); omega)); omega)); omega)) rfl) (xw.at hE (ci := 6) rfl) (List.mem_of_getElem? (i := 3) rfl) q837 q842 q840 q41 q844 ⟨by decide +kernel, by decide +kernel, by show _ = some 2; decide +kernel⟩ rfl rfl ⟨Nat.le_of_ble_eq_true rfl, Nat.le_of_ble_eq_true rfl⟩ rfl (Nat.le_of_ble_eq_true rfl) dX1_insert_38 ⟨Nat.le_of_ble_eq_true rfl, Nat.le_of_ble_eq_true rfl⟩) hS (fun u H locs hq hM hS => ?_)
        rw [hk] at hq
        exact hQ ▸ x_vret hx hb hr hlk hS u hq hM dX1_insert_43
      refine lv_iload_n hx hb dX1_insert_7 rfl (lh_at hl rfl) ?_
      refine n_if_le (tgt := 35) hx hb dX1_insert_8 (by decide) (by omega) (fun c1 => ?_) (fun c1 => ?_)
      · exact stop (by rw [← h3, show k = 0 by omega]; rfl) H locs ls hM hS (lh_sub hl _ ⟨rfl, rfl, rfl, rfl, trivial⟩)
      · have hk1 : k - 1 < es.length := by omega
        have hz := List.getElem?_eq_getElem hk1
        obtain ⟨nz, hnz⟩ := hrk _ (List.getElem_mem hk1)
        refine lv_aload_n hx hb dX1_insert_11 rfl (lh_at hl rfl) ?_
        refine lv_aload_n hx hb dX1_insert_12 rfl (lh_at hl rfl) ?_
        refine lv_iload_n hx hb dX1_insert_13 rfl (lh_at hl rfl) ?_
        refine n_const hx hb 1 dX1_insert_14 (by decide +kernel) ?_
        refine n_isub hx hb (by omega) dX1_insert_15 ?_
        refine x_callFr (x_runF (As := [.int (nI (k - 1))]) hF hE hS hM hl (jk_get l g A w nL nD a 3 (k - 1) es[k - 1] mc es h hz) (xw.recv hE hM (by first | assumption | exact va_up_s | rfl | (refine (va_up_n ?_).trans ?_; rotate_left; (first | assumption | exact va_up_s | rfl | (refine (va_up_n ?_).trans ?_; rotate_left; (first | assumption | exact va_up_s | rfl | (refine (va_up_n ?_).trans ?_; rotate_left; (first | assumption | exact va_up_s | rfl | (refine (va_up_n ?_).trans ?_; rotate_left; (first | assumption | exact va_up_s | rfl | (refine (va_up_n ?_).trans ?_; rotate_left; (assumption); omega)); omega)); omega)); omega)); omega)) rfl) (xw.at hE (ci := 6) rfl) (List.mem_of_getElem? (i := 2) rfl) q621 q626 q624 q41 q628 ⟨by decide +kernel, by decide +kernel, by show _ = some 1; decide +kernel⟩ rfl rfl ⟨Nat.le_of_ble_eq_true rfl, Nat.le_of_ble_eq_true rfl⟩ rfl (Nat.le_of_ble_eq_true rfl) dX1_insert_16 ⟨Nat.le_of_ble_eq_true rfl, Nat.le_of_ble_eq_true rfl⟩) hS (fun uu ra H locs hq hM hS => ?_)
        obtain ⟨rfl, hM⟩ := hM
        refine x_callFi (x_runF (As := [.ref es[k - 1]]) hF hE hS hM hl (xk_rankCmp l g A w nE nz y es[k - 1] (rk y).1 (rk y).2 (rk es[k - 1]).1 (rk es[k - 1]).2 hy hnz) (by exact xw.recv hE hM hy rfl) (xw.at hE (ci := 3) rfl) (List.mem_of_getElem? (i := 10) rfl) q640 q646 q644 q63 q648 ⟨by decide +kernel, by decide +kernel, by show _ = some 1; decide +kernel⟩ rfl rfl ⟨Nat.le_of_ble_eq_true rfl, Nat.le_of_ble_eq_true rfl⟩ rfl (Nat.le_of_ble_eq_true rfl) dX1_insert_21 ⟨Nat.le_of_ble_eq_true rfl, Nat.le_of_ble_eq_true rfl⟩) hS (fun r uu H locs hq hM hS => ?_)
        have hpk : insP rk es y k = if rkLt (rk y) (rk es[k - 1]) = true then insP rk es y (k - 1) else k := by
          obtain ⟨j, rfl⟩ : ∃ j, k = j + 1 := ⟨k - 1, by omega⟩
          show insP rk es y (j + 1) = _
          conv => lhs; unfold insP
          rw [show es[j]? = some es[j + 1 - 1] from hz]
          rfl
        refine lv_if_ge (tgt := 35) hx hb dX1_insert_26 (by decide) (fun c2 => ?_) (fun c2 => ?_)
        · refine stop ?_ H locs ls hM hS (lh_sub hl _ ⟨rfl, rfl, rfl, rfl, trivial⟩)
          rw [← h3, hpk, if_neg (fun z => ?_)]
          rw [hq] at c2
          exact absurd (cmp_neg.mpr z) (Int32.not_lt.mpr c2)
        · refine n_idec hx hb dX1_insert_29 hl rfl (by omega) (by decide) (fun ls hl => ?_)
          refine lv_goto (tgt := 7) hx hb dX1_insert_32 (by decide) ?_
          refine ih (k - 1) (by omega) (by omega) ?_ H locs ls hM hS (lh_sub hl _ ⟨rfl, rfl, rfl, rfl, trivial⟩)
          rw [← h3, hpk, if_pos]
          rw [hq] at c2
          exact cmp_neg.mp (Int32.not_le.mp c2)
  exact J (es.length + 1) es.length (by omega) (Nat.le_refl _) rfl H locs ls hM hS (lh_sub hl _ ⟨rfl, rfl, rfl, rfl, trivial⟩)
