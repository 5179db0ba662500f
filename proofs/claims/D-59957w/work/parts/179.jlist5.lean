/-! ArrayList: remove, contains; its iterator -/
set_option maxRecDepth 100000
theorem jk_fastRemove (l : Launch) (g : xg) (A : Nat → Prop) (w : xw_W) (nL nD a d cap ci i : Nat) (mc : Int32) (f : Nat → Option Nat) (es : List Nat) (h : xLs g w nL nD a mc ci es) (hd : w nL = some (a, .inr (6, [.int mc, .ref d, .int (nI es.length)]))) (hi : i < es.length) (k2 : w nD = some (d, .inl (g.2 1, aQ cap f))) (k3 : es.length ≤ cap) (k4 : 10 ≤ cap) (k5 : cap ≤ 60) (k6 : ∀ i, i < cap → f i = es[i]?) (hLD : nL ≠ nD) (hob : xOb ci) (hci : ci ≠ 6) :
    Met l yJ2_fastRemove (ws_ yJ2_fastRemove cJ2_fastRemove 4 none) (xrm 1 0 0) (xPw g A w [.ref a, .ref d, .int (nI i)]) (xQwv g A (fun u => xLs g u nL nD a (mc + 1) ci (es.eraseIdx i) ∧ xAg2 w u nL nD)) 0 0 A := by
  obtain ⟨r, hc, hca⟩ := id hob
  have hLc := h.noL hci
  have hnD : ∀ b fs, w nD = some (b, .inr (ci, fs)) → False := by
    intro b fs e
    rw [k2] at e
    cases e
  have hlen2 : (es.eraseIdx i).length = es.length - 1 := List.length_eraseIdx_of_lt hi
  have hle := h.le
  refine x_start rfl (Nat.le_of_ble_eq_true rfl) ?_
  intro p e s m below meth c hx hb hr hlk hml hown hts hnm hE hM hS ls hl
  have hF : xFix p m c cJ2_fastRemove 4 s _ RJ2 := ⟨hx, hb, hml, hown, hts⟩
  generalize hargs : List.toArray _ = args at hts hF ⊢
  generalize hQ : MQ below _ _ s _ _ A = Q
  refine lv_aload_n hx hb dJ2_fastRemove_0 rfl (lh_at hl rfl) ?_
  refine lv_dup hx hb dJ2_fastRemove_1 rfl ?_
  refine xr_get (C := RJ2) (T := TJ2) (N := 3) (ci := 6) (n := nL) hx hb hts in_J2 hown hE hM (by first | assumption | exact va_up_s | rfl | (refine (va_up_n ?_).trans ?_; rotate_left; (first | assumption | exact va_up_s | rfl | (refine (va_up_n ?_).trans ?_; rotate_left; (first | assumption | exact va_up_s | rfl | (refine (va_up_n ?_).trans ?_; rotate_left; (first | assumption | exact va_up_s | rfl | (refine (va_up_n ?_).trans ?_; rotate_left; (first | assumption | exact va_up_s | rfl | (refine (va_up_n ?_).trans ?_; rotate_left; (assumption); omega)); omega)); omega)); omega)); omega)) rfl 0 (by decide) (hts _ q100) (fun x h => u_same (hts _ q99) x h) rfl dJ2_fastRemove_2 ?_
  refine lv_iconst (v := 1) hx hb dJ2_fastRemove_5 (by decide +kernel) ?_
  refine lv_iadd hx hb dJ2_fastRemove_6 ?_
  refine xr_put (C := RJ2) (T := TJ2) (N := 3) (ci := 6) (n := nL) hx hb hts in_J2 tyJ2 tyJ2_ok nmJ2 hown hE hM hS (by first | assumption | exact va_up_s | rfl | (refine (va_up_n ?_).trans ?_; rotate_left; (first | assumption | exact va_up_s | rfl | (refine (va_up_n ?_).trans ?_; rotate_left; (first | assumption | exact va_up_s | rfl | (refine (va_up_n ?_).trans ?_; rotate_left; (first | assumption | exact va_up_s | rfl | (refine (va_up_n ?_).trans ?_; rotate_left; (first | assumption | exact va_up_s | rfl | (refine (va_up_n ?_).trans ?_; rotate_left; (assumption); omega)); omega)); omega)); omega)); omega)) rfl 0 (by decide) (hts _ q100) (fun x h => u_same (hts _ q99) x h) rfl (tyJ2_ok 0 (by decide)) rfl rfl (Nat.le_of_ble_eq_true rfl) dJ2_fastRemove_7 (fun H locs hM hS => ?_)
  have ag0 : xAg2 w (va_up w nL (some (a, .inr (6, [.int (mc + 1), .ref d, .int (nI es.length)])))) nL nD := fun k g1 g2 => va_up_n g1
  have hd2 : va_up w nL (some (a, .inr (6, [.int (mc + 1), .ref d, .int (nI es.length)]))) nL = some (a, .inr (6, [.int (mc + 1), .ref d, .int (nI es.length)])) := va_up_s
  have k20 : va_up w nL (some (a, .inr (6, [.int (mc + 1), .ref d, .int (nI es.length)]))) nD = some (d, .inl (g.2 1, aQ cap f)) := (va_up_n (by omega)).trans k2
  have hM2 : xw g A (va_up w nL (some (a, .inr (6, [.int (mc + 1), .ref d, .int (nI es.length)])))) H := hM
  clear hM
  generalize va_up w nL (some (a, .inr (6, [.int (mc + 1), .ref d, .int (nI es.length)]))) = w2 at ag0 hd2 k20 hM2
  have hM := hM2
  have J : ∀ (u : xw_W) (f : Nat → Option Nat) (H : Heap) (locs : List Loc) (ls : Array Slot), xw g A u H → va_S A s.heap H locs → lh ls 4 (xl [(0, .ref a), (1, .ref d), (2, .int (nI i)), (3, .int (nI (es.length - 1)))]) →
      u nL = some (a, .inr (6, [.int (mc + 1), .ref d, .int (nI es.length)])) → u nD = some (d, .inl (g.2 1, aQ cap f)) → (∀ k, k < cap → k ≠ es.length - 1 → f k = (es.eraseIdx i)[k]?) → xAg2 w u nL nD → W p l e (xrm 1 0 0) s m args below meth c H locs 0 0 Q (F0 m 34 ls []) := by
    intro u f H locs ls hM hS hl g1 g2 g3 g4
    refine lv_aload_n hx hb dJ2_fastRemove_34 rfl (lh_at hl rfl) ?_
    refine lv_aload_n hx hb dJ2_fastRemove_35 rfl (lh_at hl rfl) ?_
    refine lv_iload_n hx hb dJ2_fastRemove_36 rfl (lh_at hl rfl) ?_
    refine lv_dup_x1 hx hb dJ2_fastRemove_37 rfl rfl ?_
    refine xr_put (C := RJ2) (T := TJ2) (N := 3) (ci := 6) (n := nL) hx hb hts in_J2 tyJ2 tyJ2_ok nmJ2 hown hE hM hS (by first | assumption | exact va_up_s | rfl | (refine (va_up_n ?_).trans ?_; rotate_left; (first | assumption | exact va_up_s | rfl | (refine (va_up_n ?_).trans ?_; rotate_left; (first | assumption | exact va_up_s | rfl | (refine (va_up_n ?_).trans ?_; rotate_left; (first | assumption | exact va_up_s | rfl | (refine (va_up_n ?_).trans ?_; rotate_left; (first | assumption | exact va_up_s | rfl | (refine (va_up_n ?_).trans ?_; rotate_left; (assumption); omega)); omega)); omega)); omega)); omega)) rfl 2 (by decide) (hts _ q96) (fun _ h => h) rfl (tyJ2_ok 2 (by decide)) rfl rfl (Nat.le_of_ble_eq_true rfl) dJ2_fastRemove_38 (fun H locs hM hS => ?_)
    refine lv_null hx hb dJ2_fastRemove_41 ?_
    refine xr_qnull (n := nD) hx hb hE hM hS (by first | assumption | exact va_up_s | rfl | (refine (va_up_n ?_).trans ?_; rotate_left; (first | assumption | exact va_up_s | rfl | (refine (va_up_n ?_).trans ?_; rotate_left; (first | assumption | exact va_up_s | rfl | (refine (va_up_n ?_).trans ?_; rotate_left; (first | assumption | exact va_up_s | rfl | (refine (va_up_n ?_).trans ?_; rotate_left; (first | assumption | exact va_up_s | rfl | (refine (va_up_n ?_).trans ?_; rotate_left; (assumption); omega)); omega)); omega)); omega)); omega)) (by omega) (by first | decide | omega) dJ2_fastRemove_42 (fun H locs hM hS => ?_)
    have hag : xAg2 w (va_up (va_up u nL (some (a, .inr (6, ([.int (mc + 1), .ref d, .int (nI es.length)] : List Value).set 2 (.int (nI (es.length - 1))))))) nD (some (d, .inl (g.2 1, aQ cap (va_up f (es.length - 1) none))))) nL nD := by
      intro k z1 z2
      rw [va_up_n z2, va_up_n z1]
      exact g4 k z1 z2
    refine hQ ▸ x_vret hx hb hr hlk hS _ ⟨⟨d, ?_, by omega, ?_, Or.inr ⟨cap, va_up f (es.length - 1) none, va_up_s, by omega, k4, k5, ?_⟩⟩, hag⟩ hM dJ2_fastRemove_43
    · rw [va_up_n hLD, va_up_s, hlen2]
      rfl
    · intro z hz
      exact xEl_ne (h.elt (List.mem_of_mem_eraseIdx hz)) hLc hnD hag
    · intro k hk
      by_cases z1 : k = es.length - 1
      · rw [z1, va_up_s, List.getElem?_eq_none (by omega)]
      · rw [va_up_n z1]
        exact g3 k hk z1
  refine lv_aload_n hx hb dJ2_fastRemove_10 rfl (lh_at hl rfl) ?_
  refine xr_get (C := RJ2) (T := TJ2) (N := 3) (ci := 6) (n := nL) hx hb hts in_J2 hown hE hM (by first | assumption | exact va_up_s | rfl | (refine (va_up_n ?_).trans ?_; rotate_left; (first | assumption | exact va_up_s | rfl | (refine (va_up_n ?_).trans ?_; rotate_left; (first | assumption | exact va_up_s | rfl | (refine (va_up_n ?_).trans ?_; rotate_left; (first | assumption | exact va_up_s | rfl | (refine (va_up_n ?_).trans ?_; rotate_left; (first | assumption | exact va_up_s | rfl | (refine (va_up_n ?_).trans ?_; rotate_left; (assumption); omega)); omega)); omega)); omega)); omega)) rfl 2 (by decide) (hts _ q96) (fun _ h => h) rfl dJ2_fastRemove_11 ?_
  refine n_const hx hb 1 dJ2_fastRemove_14 (by decide +kernel) ?_
  refine n_isub hx hb (by omega) dJ2_fastRemove_15 ?_
  refine lv_dup hx hb dJ2_fastRemove_16 rfl ?_
  refine x_istore_n hx hb dJ2_fastRemove_17 rfl hl (by decide) (fun ls hl => ?_)
  refine lv_iload_n hx hb dJ2_fastRemove_18 rfl (lh_at hl rfl) ?_
  refine n_icmp_le (tgt := 34) hx hb dJ2_fastRemove_19 (by decide) (by omega) (by omega) (fun c1 => ?_) (fun c1 => ?_)
  · refine J w2 f _ _ ls hM hS (lh_sub hl _ ⟨rfl, rfl, rfl, rfl, trivial⟩) hd2 k20 (fun k hk hk2 => ?_) ag0
    rw [k6 k hk, List.getElem?_eraseIdx]
    by_cases z : k < i
    · rw [if_pos z]
    · rw [if_neg z, List.getElem?_eq_none (by omega), List.getElem?_eq_none (by omega)]
  · refine lv_aload_n hx hb dJ2_fastRemove_22 rfl (lh_at hl rfl) ?_
    refine lv_iload_n hx hb dJ2_fastRemove_23 rfl (lh_at hl rfl) ?_
    refine n_const hx hb 1 dJ2_fastRemove_24 (by decide +kernel) ?_
    refine n_iadd hx hb dJ2_fastRemove_25 ?_
    refine lv_aload_n hx hb dJ2_fastRemove_26 rfl (lh_at hl rfl) ?_
    refine lv_iload_n hx hb dJ2_fastRemove_27 rfl (lh_at hl rfl) ?_
    refine lv_iload_n hx hb dJ2_fastRemove_28 rfl (lh_at hl rfl) ?_
    refine lv_iload_n hx hb dJ2_fastRemove_29 rfl (lh_at hl rfl) ?_
    refine n_isub hx hb (by omega) dJ2_fastRemove_30 ?_
    refine xr_copyq (ci := ci) (r := r) (n0 := nD) (n1 := nD) hx hb hml hl hts hown hE hM hS q901 hc hca k20 k20 (by omega) (by omega) (by omega) (by omega) ?_ (Nat.le_of_ble_eq_true rfl) (Nat.le_of_ble_eq_true rfl) (Nat.le_of_ble_eq_true rfl) dJ2_fastRemove_31 (fun H locs hM hS => ?_)
    · intro j hj z hz
      rw [k6 _ (by omega)] at hz
      exact xEl_ne (h.elt (List.mem_of_getElem? hz)) hLc hnD ag0
    refine J _ _ _ _ ls hM hS (lh_sub hl _ ⟨rfl, rfl, rfl, rfl, trivial⟩) ((va_up_n (by omega)).trans hd2) va_up_s (fun k hk hk2 => ?_) (fun k z1 z2 => by rw [va_up_n z2]; exact ag0 k z1 z2)
    rw [List.getElem?_eraseIdx]
    unfold va_cpy
    by_cases z : k < i
    · rw [if_neg (by omega), if_pos z]
      exact k6 k hk
    · rw [if_neg z]
      by_cases z2 : k < es.length - 1
      · rw [if_pos (by omega), k6 _ (by omega)]
        congr 1
        omega
      · rw [if_neg (by omega), k6 k hk, List.getElem?_eq_none (by omega), List.getElem?_eq_none (by omega)]
theorem jk_remove (l : Launch) (g : xg) (A : Nat → Prop) (w : xw_W) (nL nD a ci i y : Nat) (mc : Int32) (es : List Nat) (h : xLs g w nL nD a mc ci es) (hi : es[i]? = some y) (hLD : nL ≠ nD) (hob : xOb ci) (hci : ci ≠ 6) :
    Met l yJ2_remove (ws_ yJ2_remove cJ2_remove 4 (some (.object "java/lang/Object"))) (xrm 2 0 0) (xPw g A w [.ref a, .int (nI i)]) (xQwr g A (fun ra u => ra = y ∧ xLs g u nL nD a (mc + 1) ci (es.eraseIdx i) ∧ xAg2 w u nL nD)) 0 0 A := by
  obtain ⟨d, cap, f, h1, h2, h3, h4, h5, h6, h7, h8⟩ := h.data hi
  have hle := h.le
  refine x_start rfl (Nat.le_of_ble_eq_true rfl) ?_
  intro p e s m below meth c hx hb hr hlk hml hown hts hnm hE hM hS ls hl
  have hF : xFix p m c cJ2_remove 4 s _ RJ2 := ⟨hx, hb, hml, hown, hts⟩
  generalize hargs : List.toArray _ = args at hts hF ⊢
  generalize hQ : MQ below _ _ s _ _ A = Q
  refine lv_iload_n hx hb dJ2_remove_0 rfl (lh_at hl rfl) ?_
  refine lv_aload_n hx hb dJ2_remove_1 rfl (lh_at hl rfl) ?_
  refine xr_get (C := RJ2) (T := TJ2) (N := 3) (ci := 6) (n := nL) hx hb hts in_J2 hown hE hM (by first | assumption | exact va_up_s | rfl | (refine (va_up_n ?_).trans ?_; rotate_left; (first | assumption | exact va_up_s | rfl | (refine (va_up_n ?_).trans ?_; rotate_left; (first | assumption | exact va_up_s | rfl | (refine (va_up_n ?_).trans ?_; rotate_left; (first | assumption | exact va_up_s | rfl | (refine (va_up_n ?_).trans ?_; rotate_left; (first | assumption | exact va_up_s | rfl | (refine (va_up_n ?_).trans ?_; rotate_left; (assumption); omega)); omega)); omega)); omega)); omega)) rfl 2 (by decide) (hts _ q96) (fun _ h => h) rfl dJ2_remove_2 ?_
  refine x_calli (x_runS (As := [.int (nI i), .int (nI es.length)]) hF hE hS hM hl (jk_check20 l g A (xw g A w) i es.length h8 (by omega)) q629 q630 q64 q631 ⟨by decide +kernel, by decide +kernel, by show _ = some 2; decide +kernel⟩ rfl rfl ⟨Nat.le_of_ble_eq_true rfl, Nat.le_of_ble_eq_true rfl⟩ rfl (Nat.le_of_ble_eq_true rfl) dJ2_remove_5 ⟨Nat.le_of_ble_eq_true rfl, Nat.le_of_ble_eq_true rfl⟩) hS (fun r uu H locs hq hM hS => ?_)
  refine lv_pop hx hb dJ2_remove_8 rfl ?_
  refine lv_aload_n hx hb dJ2_remove_9 rfl (lh_at hl rfl) ?_
  refine xr_get (C := RJ2) (T := TJ2) (N := 3) (ci := 6) (n := nL) hx hb hts in_J2 hown hE hM (by first | assumption | exact va_up_s | rfl | (refine (va_up_n ?_).trans ?_; rotate_left; (first | assumption | exact va_up_s | rfl | (refine (va_up_n ?_).trans ?_; rotate_left; (first | assumption | exact va_up_s | rfl | (refine (va_up_n ?_).trans ?_; rotate_left; (first | assumption | exact va_up_s | rfl | (refine (va_up_n ?_).trans ?_; rotate_left; (first | assumption | exact va_up_s | rfl | (refine (va_up_n ?_).trans ?_; rotate_left; (assumption); omega)); omega)); omega)); omega)); omega)) rfl 1 (by decide) (hts _ q93) (fun _ h => h) rfl dJ2_remove_10 ?_
  refine x_astore_n hx hb dJ2_remove_13 rfl hl (by decide) (fun ls hl => ?_)
  refine lv_aload_n hx hb dJ2_remove_14 rfl (lh_at hl rfl) ?_
  refine lv_iload_n hx hb dJ2_remove_15 rfl (lh_at hl rfl) ?_
  refine xr_qald (n := nD) hx hb hE hM (by first | assumption | exact va_up_s | rfl | (refine (va_up_n ?_).trans ?_; rotate_left; (first | assumption | exact va_up_s | rfl | (refine (va_up_n ?_).trans ?_; rotate_left; (first | assumption | exact va_up_s | rfl | (refine (va_up_n ?_).trans ?_; rotate_left; (first | assumption | exact va_up_s | rfl | (refine (va_up_n ?_).trans ?_; rotate_left; (first | assumption | exact va_up_s | rfl | (refine (va_up_n ?_).trans ?_; rotate_left; (assumption); omega)); omega)); omega)); omega)); omega)) (by omega) (by first | decide | omega) (by first | assumption | rfl) dJ2_remove_16 ?_
  refine x_astore_n hx hb dJ2_remove_17 rfl hl (by decide) (fun ls hl => ?_)
  refine lv_aload_n hx hb dJ2_remove_18 rfl (lh_at hl rfl) ?_
  refine lv_aload_n hx hb dJ2_remove_19 rfl (lh_at hl rfl) ?_
  refine lv_iload_n hx hb dJ2_remove_20 rfl (lh_at hl rfl) ?_
  refine x_callv (x_runV (As := [.ref d, .int (nI i)]) hF hE hS hM hl (jk_fastRemove l g A w nL nD a d cap ci i mc f es h h1 h8 h2 h3 h4 h5 h6 hLD hob hci) (xw.recv hE hM (by first | assumption | exact va_up_s | rfl | (refine (va_up_n ?_).trans ?_; rotate_left; (first | assumption | exact va_up_s | rfl | (refine (va_up_n ?_).trans ?_; rotate_left; (first | assumption | exact va_up_s | rfl | (refine (va_up_n ?_).trans ?_; rotate_left; (first | assumption | exact va_up_s | rfl | (refine (va_up_n ?_).trans ?_; rotate_left; (first | assumption | exact va_up_s | rfl | (refine (va_up_n ?_).trans ?_; rotate_left; (assumption); omega)); omega)); omega)); omega)); omega)) rfl) q1168 q1170 qs16 q41 q1171 ⟨rfl, by decide +kernel, by decide +kernel, by show _ = some 2; decide +kernel⟩ rfl rfl ⟨Nat.le_of_ble_eq_true rfl, Nat.le_of_ble_eq_true rfl⟩ rfl (Nat.le_of_ble_eq_true rfl) dJ2_remove_21 ⟨Nat.le_of_ble_eq_true rfl, Nat.le_of_ble_eq_true rfl⟩) hS (fun u H locs hq hM hS => ?_)
  refine lv_aload_n hx hb dJ2_remove_24 rfl (lh_at hl rfl) ?_
  exact hQ ▸ x_aret hx hb hr (Or.inl ⟨_, rfl⟩) hlk hS _ trivial ⟨⟨rfl, hq⟩, hM⟩ dJ2_remove_25
section XQ
variable {p : Program} {l : Launch} {e : Env} {R : Room} {s : State} {m : MethodId} {args : Array Value} {below : List Frame} {meth : Method} {c : Code} {H : Heap} {locs : List Loc} {cells slots : Nat} {Q : State → Prop}
variable {cc : ByteArray} {pc nL : Nat} {ls : Array Slot} {rest : List Value} {g : xg} {A : Nat → Prop} {P : Heap → Prop} {index : Nat} {lf : Nat → Option Value} {a b : Nat} {own C : String}
theorem x_equals (hF : xFix p m c cc nL s args own) (hE : xE g A s) (hS : va_S A s.heap H locs) (hP : P H) (hls : lh ls nL lf) (hrv : xRv s H C a) (h1 : Cond.methodLink own index yJ24_equals ∈ lw_all) (h3 : Cond.selects C yJ24_equals yJ24_equals ∈ lw_all)
    (hR : 5 ≤ R.frames ∧ 8 + (2 + 11) + 100 ≤ R.locals) (hcat : (rest.map fun v => v.category).sum ≤ 8) (hdg : decode cc pc = .ok (.invokevirtual index, 3)) (hf : cells ≤ R.cells ∧ slots ≤ R.slots)
    (kk : ∀ (H1 : Heap) (locs1 : List Loc), P H1 → va_S A s.heap H1 locs1 → W p l e R s m args below meth c H1 locs1 cells slots Q (F0 m (pc + 3) ls (.int (if a = b then 1 else 0) :: rest))) : W p l e R s m args below meth c H locs cells slots Q (F0 m pc ls (.ref b :: .ref a :: rest)) := by
  have hM := jk_equals l g A P a b
  refine x_calli (va_runU (C := C) (owner := "java/lang/Object") (x := yJ24_equals) hF hM (va_cwU (x := yJ24_equals) 1 hF.2.2.2.2 ?_ rfl rfl rfl rfl ⟨by decide +kernel, by decide +kernel, by show _ = some 1; decide +kernel⟩ hR) (x_preV hE hS hP hrv) rfl rfl (lh_size hls) rfl (lv_room hcat) hdg hf) hS (fun r u H1 locs1 hr hP1 hS1 => ?_)
  · refine lw_app (fun w hw => ?_) (lw_meth q1236)
    simp only [List.mem_cons, List.not_mem_nil, or_false] at hw
    rcases hw with e | e | e | e | e
    · rw [e]; exact h1
    · rw [e]; exact q1217
    · rw [e]; exact h3
    · rw [e]; exact q1216
    · rw [e]; exact q1571
  · rw [hr]
    exact kk H1 locs1 hP1 hS1
end XQ
theorem jk_indexOfRange (l : Launch) (g : xg) (A : Nat → Prop) (w : xw_W) (nL nD a y : Nat) (mc : Int32) (es : List Nat) (h : xLs g w nL nD a mc 4 es) (hy : xEl w 4 y) (h0 : es ≠ []) :
    Met l yJ2_indexOfRange (ws_ yJ2_indexOfRange cJ2_indexOfRange 6 (some .int)) (xrm 1 0 0) (xPw g A w [.ref a, .ref y, .int (nI 0), .int (nI es.length)]) (zQi A (xw g A w) (fun r => (y ∈ es ∧ ∃ k, k < 40 ∧ r = nI k) ∨ (y ∉ es ∧ r = -1))) 0 0 A := by
  obtain ⟨z0, hz0⟩ : ∃ z0, es[0]? = some z0 := by
    cases es with
    | nil => exact absurd rfl h0
    | cons x t => exact ⟨x, rfl⟩
  obtain ⟨d, cap, f, h1, h2, h3, h4, h5, h6, h7, h8⟩ := h.data hz0
  obtain ⟨nE, fsE, hE1⟩ := hy
  have hle := h.le
  refine x_start rfl (Nat.le_of_ble_eq_true rfl) ?_
  intro p e s m below meth c hx hb hr hlk hml hown hts hnm hE hM hS ls hl
  have hF : xFix p m c cJ2_indexOfRange 6 s _ RJ2 := ⟨hx, hb, hml, hown, hts⟩
  generalize hargs : List.toArray _ = args at hts hF ⊢
  generalize hQ : MQ below _ _ s _ _ A = Q
  have J : ∀ (n k : Nat), n = es.length - k → k ≤ es.length → (∀ j, j < k → es[j]? ≠ some y) → ∀ (H : Heap) (locs : List Loc) (ls : Array Slot), xw g A w H → va_S A s.heap H locs → lh ls 6 (xl [(0, .ref a), (1, .ref y), (2, .int (nI 0)), (3, .int (nI es.length)), (4, .ref d), (5, .int (nI k))]) → W p l e (xrm 1 0 0) s m args below meth c H locs 0 0 Q (F0 m 42 ls []) := by
    intro n
    induction n with
    | zero =>
      intro k hk1 hk2 hk3 H locs ls hM hS hl
      refine lv_iload hx hb dJ2_indexOfRange_42 (lh_at hl rfl) ?_
      refine lv_iload_n hx hb dJ2_indexOfRange_44 rfl (lh_at hl rfl) ?_
      refine n_icmp_ge (tgt := 69) hx hb dJ2_indexOfRange_45 (by decide) (by omega) (by omega) (fun c1 => ?_) (fun c1 => ?_)
      · refine lv_iconst (v := -1) hx hb dJ2_indexOfRange_69 (by decide +kernel) ?_
        refine hQ ▸ x_iret hx hb hr hlk hS () (Or.inr ⟨fun hm => ?_, rfl⟩) hM dJ2_indexOfRange_70
        obtain ⟨j, hj⟩ := List.getElem?_of_mem hm
        exact hk3 j (by have := (List.getElem?_eq_some_iff.mp hj).1; omega) hj
      · omega
    | succ n ih =>
      intro k hk1 hk2 hk3 H locs ls hM hS hl
      have hk4 : k < es.length := by omega
      refine lv_iload hx hb dJ2_indexOfRange_42 (lh_at hl rfl) ?_
      refine lv_iload_n hx hb dJ2_indexOfRange_44 rfl (lh_at hl rfl) ?_
      refine n_icmp_ge (tgt := 69) hx hb dJ2_indexOfRange_45 (by decide) (by omega) (by omega) (fun c1 => ?_) (fun c1 => ?_)
      · omega
      · refine lv_aload_n hx hb dJ2_indexOfRange_48 rfl (lh_at hl rfl) ?_
        refine lv_aload hx hb dJ2_indexOfRange_49 (lh_at hl rfl) ?_
        refine lv_iload hx hb dJ2_indexOfRange_51 (lh_at hl rfl) ?_
        refine xr_qald (n := nD) hx hb hE hM (by first | assumption | exact va_up_s | rfl | (refine (va_up_n ?_).trans ?_; rotate_left; (first | assumption | exact va_up_s | rfl | (refine (va_up_n ?_).trans ?_; rotate_left; (first | assumption | exact va_up_s | rfl | (refine (va_up_n ?_).trans ?_; rotate_left; (first | assumption | exact va_up_s | rfl | (refine (va_up_n ?_).trans ?_; rotate_left; (first | assumption | exact va_up_s | rfl | (refine (va_up_n ?_).trans ?_; rotate_left; (assumption); omega)); omega)); omega)); omega)); omega)) (by omega) (by first | decide | omega) (by (rw [h6 k (by omega)]; exact List.getElem?_eq_getElem hk4)) dJ2_indexOfRange_53 ?_
        refine x_equals (P := xw g A w) hF hE hS hM hl (xw.recv hE hM hE1 rfl) q1215 q1220 (by constructor <;> exact Nat.le_of_ble_eq_true rfl) (Nat.le_of_ble_eq_true rfl) dJ2_indexOfRange_54 (by constructor <;> exact Nat.le_of_ble_eq_true rfl) (fun H locs hM hS => ?_)
        by_cases hyk : y = es[k]
        · rw [if_pos hyk]
          refine lv_if_eq (tgt := 63) hx hb dJ2_indexOfRange_57 (by decide) (fun c2 => ?_) (fun c2 => ?_)
          · exact absurd c2 (by decide)
          · refine lv_iload hx hb dJ2_indexOfRange_60 (lh_at hl rfl) ?_
            exact hQ ▸ x_iret hx hb hr hlk hS () (Or.inl ⟨by rw [hyk]; exact List.getElem_mem hk4, k, by omega, rfl⟩) hM dJ2_indexOfRange_62
        · rw [if_neg hyk]
          refine lv_if_eq (tgt := 63) hx hb dJ2_indexOfRange_57 (by decide) (fun c2 => ?_) (fun c2 => ?_)
          · refine n_iinc hx hb 1 dJ2_indexOfRange_63 hl rfl (by decide +kernel) (by decide) (fun ls hl => ?_)
            refine lv_goto (tgt := 42) hx hb dJ2_indexOfRange_66 (by decide) ?_
            refine ih (k + 1) (by omega) (by omega) (fun j hj => ?_) H locs ls hM hS (lh_sub hl _ ⟨rfl, rfl, rfl, rfl, rfl, rfl, trivial⟩)
            by_cases hjk : j = k
            · rw [hjk, List.getElem?_eq_getElem hk4]
              exact fun z => hyk (Option.some.inj z).symm
            · exact hk3 j (by omega)
          · exact absurd rfl c2
  refine lv_aload_n hx hb dJ2_indexOfRange_0 rfl (lh_at hl rfl) ?_
  refine xr_get (C := RJ2) (T := TJ2) (N := 3) (ci := 6) (n := nL) hx hb hts in_J2 hown hE hM (by first | assumption | exact va_up_s | rfl | (refine (va_up_n ?_).trans ?_; rotate_left; (first | assumption | exact va_up_s | rfl | (refine (va_up_n ?_).trans ?_; rotate_left; (first | assumption | exact va_up_s | rfl | (refine (va_up_n ?_).trans ?_; rotate_left; (first | assumption | exact va_up_s | rfl | (refine (va_up_n ?_).trans ?_; rotate_left; (first | assumption | exact va_up_s | rfl | (refine (va_up_n ?_).trans ?_; rotate_left; (assumption); omega)); omega)); omega)); omega)); omega)) rfl 1 (by decide) (hts _ q93) (fun _ h => h) rfl dJ2_indexOfRange_1 ?_
  refine x_astore hx hb dJ2_indexOfRange_4 hl (by decide) (fun ls hl => ?_)
  refine lv_aload_n hx hb dJ2_indexOfRange_6 rfl (lh_at hl rfl) ?_
  refine lv_ifnonnull (tgt := 39) hx hb dJ2_indexOfRange_7 (by decide) ?_
  refine lv_iload_n hx hb dJ2_indexOfRange_39 rfl (lh_at hl rfl) ?_
  refine x_istore hx hb dJ2_indexOfRange_40 hl (by decide) (fun ls hl => ?_)
  exact J es.length 0 (by omega) (by omega) (fun j hj => absurd hj (by omega)) _ _ ls hM hS (lh_sub hl _ ⟨rfl, rfl, rfl, rfl, rfl, rfl, trivial⟩)
theorem jk_indexOf (l : Launch) (g : xg) (A : Nat → Prop) (w : xw_W) (nL nD a y : Nat) (mc : Int32) (es : List Nat) (h : xLs g w nL nD a mc 4 es) (hy : xEl w 4 y) (h0 : es ≠ []) :
    Met l yJ2_indexOf (ws_ yJ2_indexOf cJ2_indexOf 2 (some .int)) (xrm 2 0 0) (xPw g A w [.ref a, .ref y]) (zQi A (xw g A w) (fun r => (y ∈ es ∧ ∃ k, k < 40 ∧ r = nI k) ∨ (y ∉ es ∧ r = -1))) 0 0 A := by
  obtain ⟨d, hd⟩ := h.size
  refine x_start rfl (Nat.le_of_ble_eq_true rfl) ?_
  intro p e s m below meth c hx hb hr hlk hml hown hts hnm hE hM hS ls hl
  have hF : xFix p m c cJ2_indexOf 2 s _ RJ2 := ⟨hx, hb, hml, hown, hts⟩
  generalize hargs : List.toArray _ = args at hts hF ⊢
  generalize hQ : MQ below _ _ s _ _ A = Q
  refine lv_aload_n hx hb dJ2_indexOf_0 rfl (lh_at hl rfl) ?_
  refine lv_aload_n hx hb dJ2_indexOf_1 rfl (lh_at hl rfl) ?_
  refine n_const hx hb 0 dJ2_indexOf_2 (by decide +kernel) ?_
  refine lv_aload_n hx hb dJ2_indexOf_3 rfl (lh_at hl rfl) ?_
  refine xr_get (C := RJ2) (T := TJ2) (N := 3) (ci := 6) (n := nL) hx hb hts in_J2 hown hE hM (by first | assumption | exact va_up_s | rfl | (refine (va_up_n ?_).trans ?_; rotate_left; (first | assumption | exact va_up_s | rfl | (refine (va_up_n ?_).trans ?_; rotate_left; (first | assumption | exact va_up_s | rfl | (refine (va_up_n ?_).trans ?_; rotate_left; (first | assumption | exact va_up_s | rfl | (refine (va_up_n ?_).trans ?_; rotate_left; (first | assumption | exact va_up_s | rfl | (refine (va_up_n ?_).trans ?_; rotate_left; (assumption); omega)); omega)); omega)); omega)); omega)) rfl 2 (by decide) (hts _ q96) (fun _ h => h) rfl dJ2_indexOf_4 ?_
  refine x_calli (x_runV (As := [.ref y, .int (nI 0), .int (nI es.length)]) hF hE hS hM hl (jk_indexOfRange l g A w nL nD a y mc es h hy h0) (xw.recv hE hM (by first | assumption | exact va_up_s | rfl | (refine (va_up_n ?_).trans ?_; rotate_left; (first | assumption | exact va_up_s | rfl | (refine (va_up_n ?_).trans ?_; rotate_left; (first | assumption | exact va_up_s | rfl | (refine (va_up_n ?_).trans ?_; rotate_left; (first | assumption | exact va_up_s | rfl | (refine (va_up_n ?_).trans ?_; rotate_left; (first | assumption | exact va_up_s | rfl | (refine (va_up_n ?_).trans ?_; rotate_left; (assumption); omega)); omega)); omega)); omega)); omega)) rfl) q1210 q1211 q1212 q41 q1213 ⟨rfl, by decide +kernel, by decide +kernel, by show _ = some 3; decide +kernel⟩ rfl rfl ⟨Nat.le_of_ble_eq_true rfl, Nat.le_of_ble_eq_true rfl⟩ rfl (Nat.le_of_ble_eq_true rfl) dJ2_indexOf_7 ⟨Nat.le_of_ble_eq_true rfl, Nat.le_of_ble_eq_true rfl⟩) hS (fun r uu H locs hq hM hS => ?_)
  exact hQ ▸ x_iret hx hb hr hlk hS () hq hM dJ2_indexOf_10
theorem jk_contains (l : Launch) (g : xg) (A : Nat → Prop) (w : xw_W) (nL nD a y : Nat) (mc : Int32) (es : List Nat) (h : xLs g w nL nD a mc 4 es) (hy : xEl w 4 y) (h0 : es ≠ []) :
    Met l yJ2_contains (ws_ yJ2_contains cJ2_contains 2 (some .boolean)) (xrm 3 0 0) (xPw g A w [.ref a, .ref y]) (zQi A (xw g A w) (fun r => r = if y ∈ es then 1 else 0)) 0 0 A := by
  obtain ⟨d, hd⟩ := h.size
  refine x_start rfl (Nat.le_of_ble_eq_true rfl) ?_
  intro p e s m below meth c hx hb hr hlk hml hown hts hnm hE hM hS ls hl
  have hF : xFix p m c cJ2_contains 2 s _ RJ2 := ⟨hx, hb, hml, hown, hts⟩
  generalize hargs : List.toArray _ = args at hts hF ⊢
  generalize hQ : MQ below _ _ s _ _ A = Q
  refine lv_aload_n hx hb dJ2_contains_0 rfl (lh_at hl rfl) ?_
  refine lv_aload_n hx hb dJ2_contains_1 rfl (lh_at hl rfl) ?_
  refine x_calli (x_runV (As := [.ref y]) hF hE hS hM hl (jk_indexOf l g A w nL nD a y mc es h hy h0) (xw.recv hE hM (by first | assumption | exact va_up_s | rfl | (refine (va_up_n ?_).trans ?_; rotate_left; (first | assumption | exact va_up_s | rfl | (refine (va_up_n ?_).trans ?_; rotate_left; (first | assumption | exact va_up_s | rfl | (refine (va_up_n ?_).trans ?_; rotate_left; (first | assumption | exact va_up_s | rfl | (refine (va_up_n ?_).trans ?_; rotate_left; (first | assumption | exact va_up_s | rfl | (refine (va_up_n ?_).trans ?_; rotate_left; (assumption); omega)); omega)); omega)); omega)); omega)) rfl) q1206 q1207 q1208 q41 q1209 ⟨rfl, by decide +kernel, by decide +kernel, by show _ = some 1; decide +kernel⟩ rfl rfl ⟨Nat.le_of_ble_eq_true rfl, Nat.le_of_ble_eq_true rfl⟩ rfl (Nat.le_of_ble_eq_true rfl) dJ2_contains_2 ⟨Nat.le_of_ble_eq_true rfl, Nat.le_of_ble_eq_true rfl⟩) hS (fun r uu H locs hq hM hS => ?_)
  rcases hq with ⟨h1, k, hk, rfl⟩ | ⟨h1, rfl⟩
  · refine n_if_lt (tgt := 12) hx hb dJ2_contains_5 (by decide) (by omega) (fun c1 => ?_) (fun c1 => ?_)
    · omega
    · refine lv_iconst (v := 1) hx hb dJ2_contains_8 (by decide +kernel) ?_
      refine lv_goto (tgt := 13) hx hb dJ2_contains_9 (by decide) ?_
      exact hQ ▸ x_zret hx hb hr hlk hS () rfl (by rw [if_pos h1]) hM dJ2_contains_13
  · refine lv_if_lt (tgt := 12) hx hb dJ2_contains_5 (by decide) (fun c1 => ?_) (fun c1 => ?_)
    · refine lv_iconst (v := 0) hx hb dJ2_contains_12 (by decide +kernel) ?_
      exact hQ ▸ x_zret hx hb hr hlk hS () rfl (by rw [if_neg h1]) hM dJ2_contains_13
    · exact absurd (by decide) c1
/-! the iterator -/
abbrev xIt (q : Nat) (cur last mc : Int32) (a : Nat) : Nat × va_E := (q, .inr (7, [.int cur, .int last, .int mc, .ref a]))
theorem jk_itInit (l : Launch) (g : xg) (A : Nat → Prop) (w : xw_W) (nL nD nI_ q a ci : Nat) (mc : Int32) (es : List Nat) (h : xLs g w nL nD a mc ci es) (hq : w nI_ = some (q, .inr (7, [.int 0, .int 0, .int 0, .null]))) (hne : nL ≠ nI_) :
    Met l yJ23_init (ws_ yJ23_init cJ23_init 2 none) (xrm 1 0 0) (xPw g A w [.ref q, .ref a]) (xQwv g A (fun u => u nI_ = some (xIt q 0 (-1) mc a) ∧ xAg1 w u nI_)) 0 0 A := by
  obtain ⟨d, hd⟩ := h.size
  refine x_start rfl (Nat.le_of_ble_eq_true rfl) ?_
  intro p e s m below meth c hx hb hr hlk hml hown hts hnm hE hM hS ls hl
  have hF : xFix p m c cJ23_init 2 s _ RJ23 := ⟨hx, hb, hml, hown, hts⟩
  generalize hargs : List.toArray _ = args at hts hF ⊢
  generalize hQ : MQ below _ _ s _ _ A = Q
  refine lv_aload_n hx hb dJ23_init_0 rfl (lh_at hl rfl) ?_
  refine lv_aload_n hx hb dJ23_init_1 rfl (lh_at hl rfl) ?_
  refine xr_putF (C := RJ23) (T := TJ23) (N := 4) (ci := 7) (n := nI_) hx hb hts in_J23 tyJ23 tyJ23_ok nmJ23 hown hE hM hS (by first | assumption | exact va_up_s | rfl | (refine (va_up_n ?_).trans ?_; rotate_left; (first | assumption | exact va_up_s | rfl | (refine (va_up_n ?_).trans ?_; rotate_left; (first | assumption | exact va_up_s | rfl | (refine (va_up_n ?_).trans ?_; rotate_left; (first | assumption | exact va_up_s | rfl | (refine (va_up_n ?_).trans ?_; rotate_left; (first | assumption | exact va_up_s | rfl | (refine (va_up_n ?_).trans ?_; rotate_left; (assumption); omega)); omega)); omega)); omega)); omega)) rfl 3 (by decide) (hts _ q1066) (fun _ h => h) rfl hnm rfl (tyJ23_ok 3 (by decide)) rfl rfl (Nat.le_of_ble_eq_true rfl) dJ23_init_2 (fun H locs hM hS => ?_)
  refine lv_aload_n hx hb dJ23_init_5 rfl (lh_at hl rfl) ?_
  refine x_obj hx hb hml hown (hts _ q1062) (hts _ q77) (hts _ q78) hl dJ23_init_6 (Nat.le_of_ble_eq_true rfl) (Nat.le_of_ble_eq_true rfl) ?_
  refine lv_aload_n hx hb dJ23_init_9 rfl (lh_at hl rfl) ?_
  refine lv_iconst (v := -1) hx hb dJ23_init_10 (by decide +kernel) ?_
  refine xr_put (C := RJ23) (T := TJ23) (N := 4) (ci := 7) (n := nI_) hx hb hts in_J23 tyJ23 tyJ23_ok nmJ23 hown hE hM hS (by first | assumption | exact va_up_s | rfl | (refine (va_up_n ?_).trans ?_; rotate_left; (first | assumption | exact va_up_s | rfl | (refine (va_up_n ?_).trans ?_; rotate_left; (first | assumption | exact va_up_s | rfl | (refine (va_up_n ?_).trans ?_; rotate_left; (first | assumption | exact va_up_s | rfl | (refine (va_up_n ?_).trans ?_; rotate_left; (first | assumption | exact va_up_s | rfl | (refine (va_up_n ?_).trans ?_; rotate_left; (assumption); omega)); omega)); omega)); omega)); omega)) rfl 1 (by decide) (hts _ q1064) (fun _ h => h) rfl (tyJ23_ok 1 (by decide)) rfl rfl (Nat.le_of_ble_eq_true rfl) dJ23_init_11 (fun H locs hM hS => ?_)
  refine lv_aload_n hx hb dJ23_init_14 rfl (lh_at hl rfl) ?_
  refine lv_aload_n hx hb dJ23_init_15 rfl (lh_at hl rfl) ?_
  refine xr_get (C := RJ23) (T := TJ23) (N := 4) (ci := 7) (n := nI_) hx hb hts in_J23 hown hE hM (by first | assumption | exact va_up_s | rfl | (refine (va_up_n ?_).trans ?_; rotate_left; (first | assumption | exact va_up_s | rfl | (refine (va_up_n ?_).trans ?_; rotate_left; (first | assumption | exact va_up_s | rfl | (refine (va_up_n ?_).trans ?_; rotate_left; (first | assumption | exact va_up_s | rfl | (refine (va_up_n ?_).trans ?_; rotate_left; (first | assumption | exact va_up_s | rfl | (refine (va_up_n ?_).trans ?_; rotate_left; (assumption); omega)); omega)); omega)); omega)); omega)) rfl 3 (by decide) (hts _ q1066) (fun _ h => h) rfl dJ23_init_16 ?_
  refine xr_get (C := RJ2) (T := TJ2) (N := 3) (ci := 6) (n := nL) hx hb hts in_J2 hown hE hM (by first | assumption | exact va_up_s | rfl | (refine (va_up_n ?_).trans ?_; rotate_left; (first | assumption | exact va_up_s | rfl | (refine (va_up_n ?_).trans ?_; rotate_left; (first | assumption | exact va_up_s | rfl | (refine (va_up_n ?_).trans ?_; rotate_left; (first | assumption | exact va_up_s | rfl | (refine (va_up_n ?_).trans ?_; rotate_left; (first | assumption | exact va_up_s | rfl | (refine (va_up_n ?_).trans ?_; rotate_left; (assumption); omega)); omega)); omega)); omega)); omega)) rfl 0 (by decide) (hts _ q98) (fun x h => u_same (hts _ q99) x h) rfl dJ23_init_19 ?_
  refine xr_put (C := RJ23) (T := TJ23) (N := 4) (ci := 7) (n := nI_) hx hb hts in_J23 tyJ23 tyJ23_ok nmJ23 hown hE hM hS (by first | assumption | exact va_up_s | rfl | (refine (va_up_n ?_).trans ?_; rotate_left; (first | assumption | exact va_up_s | rfl | (refine (va_up_n ?_).trans ?_; rotate_left; (first | assumption | exact va_up_s | rfl | (refine (va_up_n ?_).trans ?_; rotate_left; (first | assumption | exact va_up_s | rfl | (refine (va_up_n ?_).trans ?_; rotate_left; (first | assumption | exact va_up_s | rfl | (refine (va_up_n ?_).trans ?_; rotate_left; (assumption); omega)); omega)); omega)); omega)); omega)) rfl 2 (by decide) (hts _ q1065) (fun _ h => h) rfl (tyJ23_ok 2 (by decide)) rfl rfl (Nat.le_of_ble_eq_true rfl) dJ23_init_22 (fun H locs hM hS => ?_)
  exact hQ ▸ x_vret hx hb hr hlk hS _ ⟨va_up_s, fun k g1 => by rw [va_up_n g1, va_up_n g1, va_up_n g1]⟩ hM dJ23_init_25
theorem jk_iterator (l : Launch) (g : xg) (A : Nat → Prop) (w : xw_W) (nL nD nI_ a ci : Nat) (mc : Int32) (es : List Nat) (h : xLs g w nL nD a mc ci es) (hne : nL ≠ nI_) (hI : ∀ q, w nI_ = some q → ∀ z, q.2 ≠ .inl z) (hIc : ∀ q fs, w nI_ ≠ some (q, .inr (ci, fs))) :
    Met l yJ2_iterator (ws_ yJ2_iterator cJ2_iterator 1 (some (.object "java/util/Iterator"))) (xrm 2 1 4) (xPw g A w [.ref a]) (xQwr g A (fun ra u => u nI_ = some (xIt ra 0 (-1) mc a) ∧ xAg1 w u nI_)) 1 4 A := by
  obtain ⟨d, h1, h2, h3, h4⟩ := id h
  refine x_start rfl (Nat.le_of_ble_eq_true rfl) ?_
  intro p e s m below meth c hx hb hr hlk hml hown hts hnm hE hM hS ls hl
  have hF : xFix p m c cJ2_iterator 1 s _ RJ2 := ⟨hx, hb, hml, hown, hts⟩
  generalize hargs : List.toArray _ = args at hts hF ⊢
  generalize hQ : MQ below _ _ s _ _ A = Q
  refine xr_new hx hb hts in_J23 tyJ23 tyJ23_ok hown (hts _ q1057) (hts _ q1058) (hts _ q69) hE hM hS nI_ (ci := 7) (fs := [.int 0, .int 0, .int 0, .null]) rfl (by decide) (Nat.le_of_ble_eq_true rfl) (Nat.le_of_ble_eq_true rfl) dJ2_iterator_0 (fun q H hq hM hS => ?_)
  have hL2 : xLs g (va_up w nI_ (some (q, .inr (7, [.int 0, .int 0, .int 0, .null])))) nL nD a mc ci es := by
    refine ⟨d, (va_up_n hne).trans h1, h2, fun y hy => (h3 y hy).keep (fun n fs e => va_up_n (fun z => hIc _ _ (by rw [← z]; exact e))), ?_⟩
    rcases h4 with h4 | ⟨cap, f, h5, h6⟩
    · exact Or.inl h4
    · exact Or.inr ⟨cap, f, (va_up_n (fun z => hI _ (by rw [← z]; exact h5) _ rfl)).trans h5, h6⟩
  refine lv_dup hx hb dJ2_iterator_3 rfl ?_
  refine lv_aload_n hx hb dJ2_iterator_4 rfl (lh_at hl rfl) ?_
  refine x_callv (x_runI (As := [.ref a]) hF hE hS hM hl (jk_itInit l g A _ nL nD nI_ q a ci mc es hL2 va_up_s hne) q1059 q1060 q69 q1061 rfl ⟨by decide +kernel, by decide +kernel, by show _ = some 1; decide +kernel⟩ rfl rfl ⟨Nat.le_of_ble_eq_true rfl, Nat.le_of_ble_eq_true rfl⟩ rfl (Nat.le_of_ble_eq_true rfl) dJ2_iterator_5 ⟨Nat.le_of_ble_eq_true rfl, Nat.le_of_ble_eq_true rfl⟩) hS (fun u H locs hq1 hM hS => ?_)
  refine hQ ▸ x_aret hx hb hr (Or.inl ⟨_, rfl⟩) hlk hS _ trivial ⟨⟨hq1.1, fun k g1 => ?_⟩, hM⟩ dJ2_iterator_8
  rw [hq1.2 k g1, va_up_n g1]
theorem jk_hasNext (l : Launch) (g : xg) (A : Nat → Prop) (w : xw_W) (nL nD nI_ q a ci k : Nat) (mc last : Int32) (es : List Nat) (h : xLs g w nL nD a mc ci es) (hq : w nI_ = some (xIt q (nI k) last mc a)) (hk : k ≤ es.length) :
    Met l yJ23_hasNext (ws_ yJ23_hasNext cJ23_hasNext 1 (some .boolean)) (xrm 0 0 0) (xPw g A w [.ref q]) (zQi A (xw g A w) (fun r => r = if k = es.length then 0 else 1)) 0 0 A := by
  obtain ⟨d, hd⟩ := h.size
  have hle := h.le
  refine x_start rfl (Nat.le_of_ble_eq_true rfl) ?_
  intro p e s m below meth c hx hb hr hlk hml hown hts hnm hE hM hS ls hl
  have hF : xFix p m c cJ23_hasNext 1 s _ RJ23 := ⟨hx, hb, hml, hown, hts⟩
  generalize hargs : List.toArray _ = args at hts hF ⊢
  generalize hQ : MQ below _ _ s _ _ A = Q
  refine lv_aload_n hx hb dJ23_hasNext_0 rfl (lh_at hl rfl) ?_
  refine xr_get (C := RJ23) (T := TJ23) (N := 4) (ci := 7) (n := nI_) hx hb hts in_J23 hown hE hM (by first | assumption | exact va_up_s | rfl | (refine (va_up_n ?_).trans ?_; rotate_left; (first | assumption | exact va_up_s | rfl | (refine (va_up_n ?_).trans ?_; rotate_left; (first | assumption | exact va_up_s | rfl | (refine (va_up_n ?_).trans ?_; rotate_left; (first | assumption | exact va_up_s | rfl | (refine (va_up_n ?_).trans ?_; rotate_left; (first | assumption | exact va_up_s | rfl | (refine (va_up_n ?_).trans ?_; rotate_left; (assumption); omega)); omega)); omega)); omega)); omega)) rfl 0 (by decide) (hts _ q1063) (fun _ h => h) rfl dJ23_hasNext_1 ?_
  refine lv_aload_n hx hb dJ23_hasNext_4 rfl (lh_at hl rfl) ?_
  refine xr_get (C := RJ23) (T := TJ23) (N := 4) (ci := 7) (n := nI_) hx hb hts in_J23 hown hE hM (by first | assumption | exact va_up_s | rfl | (refine (va_up_n ?_).trans ?_; rotate_left; (first | assumption | exact va_up_s | rfl | (refine (va_up_n ?_).trans ?_; rotate_left; (first | assumption | exact va_up_s | rfl | (refine (va_up_n ?_).trans ?_; rotate_left; (first | assumption | exact va_up_s | rfl | (refine (va_up_n ?_).trans ?_; rotate_left; (first | assumption | exact va_up_s | rfl | (refine (va_up_n ?_).trans ?_; rotate_left; (assumption); omega)); omega)); omega)); omega)); omega)) rfl 3 (by decide) (hts _ q1066) (fun _ h => h) rfl dJ23_hasNext_5 ?_
  refine xr_getN (C := RJ2) (T := TJ2) (N := 3) (ci := 6) (n := nL) hx hb hts in_J2 hown hE hM (by first | assumption | exact va_up_s | rfl | (refine (va_up_n ?_).trans ?_; rotate_left; (first | assumption | exact va_up_s | rfl | (refine (va_up_n ?_).trans ?_; rotate_left; (first | assumption | exact va_up_s | rfl | (refine (va_up_n ?_).trans ?_; rotate_left; (first | assumption | exact va_up_s | rfl | (refine (va_up_n ?_).trans ?_; rotate_left; (first | assumption | exact va_up_s | rfl | (refine (va_up_n ?_).trans ?_; rotate_left; (assumption); omega)); omega)); omega)); omega)); omega)) rfl 2 (by decide) q95 (fun _ h => h) rfl dJ23_hasNext_8 ?_
  refine n_icmp_eq (tgt := 18) hx hb dJ23_hasNext_11 (by decide) (by omega) (by omega) (fun c1 => ?_) (fun c1 => ?_)
  · refine lv_iconst (v := 0) hx hb dJ23_hasNext_18 (by decide +kernel) ?_
    exact hQ ▸ x_zret hx hb hr hlk hS () rfl (by rw [if_pos c1]) hM dJ23_hasNext_19
  · refine lv_iconst (v := 1) hx hb dJ23_hasNext_14 (by decide +kernel) ?_
    refine lv_goto (tgt := 19) hx hb dJ23_hasNext_15 (by decide) ?_
    exact hQ ▸ x_zret hx hb hr hlk hS () rfl (by rw [if_neg c1]) hM dJ23_hasNext_19
theorem jk_checkForComod (l : Launch) (g : xg) (A : Nat → Prop) (w : xw_W) (nL nD nI_ q a ci : Nat) (mc cur last : Int32) (es : List Nat) (h : xLs g w nL nD a mc ci es) (hq : w nI_ = some (xIt q cur last mc a)) :
    Met l yJ23_checkForComodification (ws_ yJ23_checkForComodification cJ23_checkForComodification 1 none) (xrm 0 0 0) (xPw g A w [.ref q]) (zQv A (xw g A w)) 0 0 A := by
  obtain ⟨d, hd⟩ := h.size
  refine x_start rfl (Nat.le_of_ble_eq_true rfl) ?_
  intro p e s m below meth c hx hb hr hlk hml hown hts hnm hE hM hS ls hl
  have hF : xFix p m c cJ23_checkForComodification 1 s _ RJ23 := ⟨hx, hb, hml, hown, hts⟩
  generalize hargs : List.toArray _ = args at hts hF ⊢
  generalize hQ : MQ below _ _ s _ _ A = Q
  refine lv_aload_n hx hb dJ23_checkForComodification_0 rfl (lh_at hl rfl) ?_
  refine xr_get (C := RJ23) (T := TJ23) (N := 4) (ci := 7) (n := nI_) hx hb hts in_J23 hown hE hM (by first | assumption | exact va_up_s | rfl | (refine (va_up_n ?_).trans ?_; rotate_left; (first | assumption | exact va_up_s | rfl | (refine (va_up_n ?_).trans ?_; rotate_left; (first | assumption | exact va_up_s | rfl | (refine (va_up_n ?_).trans ?_; rotate_left; (first | assumption | exact va_up_s | rfl | (refine (va_up_n ?_).trans ?_; rotate_left; (first | assumption | exact va_up_s | rfl | (refine (va_up_n ?_).trans ?_; rotate_left; (assumption); omega)); omega)); omega)); omega)); omega)) rfl 3 (by decide) (hts _ q1066) (fun _ h => h) rfl dJ23_checkForComodification_1 ?_
  refine xr_get (C := RJ2) (T := TJ2) (N := 3) (ci := 6) (n := nL) hx hb hts in_J2 hown hE hM (by first | assumption | exact va_up_s | rfl | (refine (va_up_n ?_).trans ?_; rotate_left; (first | assumption | exact va_up_s | rfl | (refine (va_up_n ?_).trans ?_; rotate_left; (first | assumption | exact va_up_s | rfl | (refine (va_up_n ?_).trans ?_; rotate_left; (first | assumption | exact va_up_s | rfl | (refine (va_up_n ?_).trans ?_; rotate_left; (first | assumption | exact va_up_s | rfl | (refine (va_up_n ?_).trans ?_; rotate_left; (assumption); omega)); omega)); omega)); omega)); omega)) rfl 0 (by decide) (hts _ q98) (fun x h => u_same (hts _ q99) x h) rfl dJ23_checkForComodification_4 ?_
  refine lv_aload_n hx hb dJ23_checkForComodification_7 rfl (lh_at hl rfl) ?_
  refine xr_get (C := RJ23) (T := TJ23) (N := 4) (ci := 7) (n := nI_) hx hb hts in_J23 hown hE hM (by first | assumption | exact va_up_s | rfl | (refine (va_up_n ?_).trans ?_; rotate_left; (first | assumption | exact va_up_s | rfl | (refine (va_up_n ?_).trans ?_; rotate_left; (first | assumption | exact va_up_s | rfl | (refine (va_up_n ?_).trans ?_; rotate_left; (first | assumption | exact va_up_s | rfl | (refine (va_up_n ?_).trans ?_; rotate_left; (first | assumption | exact va_up_s | rfl | (refine (va_up_n ?_).trans ?_; rotate_left; (assumption); omega)); omega)); omega)); omega)); omega)) rfl 2 (by decide) (hts _ q1065) (fun _ h => h) rfl dJ23_checkForComodification_8 ?_
  refine lv_icmp_eq (tgt := 22) hx hb dJ23_checkForComodification_11 (by decide) (fun c1 => ?_) (fun c1 => ?_)
  · exact hQ ▸ x_vret hx hb hr hlk hS () trivial hM dJ23_checkForComodification_22
  · exact absurd rfl c1
theorem jk_next (l : Launch) (g : xg) (A : Nat → Prop) (w : xw_W) (nL nD nI_ q a ci k y : Nat) (mc last : Int32) (es : List Nat) (h : xLs g w nL nD a mc ci es) (hq : w nI_ = some (xIt q (nI k) last mc a)) (hk : es[k]? = some y) :
    Met l yJ23_next (ws_ yJ23_next cJ23_next 3 (some (.object "java/lang/Object"))) (xrm 1 0 0) (xPw g A w [.ref q]) (xQwr g A (fun ra u => ra = y ∧ u = va_up w nI_ (some (xIt q (nI (k + 1)) (nI k) mc a)))) 0 0 A := by
  obtain ⟨d, cap, f, h1, h2, h3, h4, h5, h6, h7, h8⟩ := h.data hk
  have hle := h.le
  have hLI : nL ≠ nI_ := by
    intro z
    rw [z, hq] at h1
    cases h1
  have hDI : nD ≠ nI_ := by
    intro z
    rw [z, hq] at h2
    cases h2
  refine x_start rfl (Nat.le_of_ble_eq_true rfl) ?_
  intro p e s m below meth c hx hb hr hlk hml hown hts hnm hE hM hS ls hl
  have hF : xFix p m c cJ23_next 3 s _ RJ23 := ⟨hx, hb, hml, hown, hts⟩
  generalize hargs : List.toArray _ = args at hts hF ⊢
  generalize hQ : MQ below _ _ s _ _ A = Q
  refine lv_aload_n hx hb dJ23_next_0 rfl (lh_at hl rfl) ?_
  refine x_callv (x_runV (As := []) hF hE hS hM hl (jk_checkForComod l g A w nL nD nI_ q a ci mc (nI k) last es h hq) (xw.recv hE hM (by first | assumption | exact va_up_s | rfl | (refine (va_up_n ?_).trans ?_; rotate_left; (first | assumption | exact va_up_s | rfl | (refine (va_up_n ?_).trans ?_; rotate_left; (first | assumption | exact va_up_s | rfl | (refine (va_up_n ?_).trans ?_; rotate_left; (first | assumption | exact va_up_s | rfl | (refine (va_up_n ?_).trans ?_; rotate_left; (first | assumption | exact va_up_s | rfl | (refine (va_up_n ?_).trans ?_; rotate_left; (assumption); omega)); omega)); omega)); omega)); omega)) rfl) q1095 q1096 q1097 q69 q1098 ⟨rfl, by decide +kernel, by decide +kernel, by show _ = some 0; decide +kernel⟩ rfl rfl ⟨Nat.le_of_ble_eq_true rfl, Nat.le_of_ble_eq_true rfl⟩ rfl (Nat.le_of_ble_eq_true rfl) dJ23_next_1 ⟨Nat.le_of_ble_eq_true rfl, Nat.le_of_ble_eq_true rfl⟩) hS (fun uu H locs hq1 hM hS => ?_)
  refine lv_aload_n hx hb dJ23_next_4 rfl (lh_at hl rfl) ?_
  refine xr_get (C := RJ23) (T := TJ23) (N := 4) (ci := 7) (n := nI_) hx hb hts in_J23 hown hE hM (by first | assumption | exact va_up_s | rfl | (refine (va_up_n ?_).trans ?_; rotate_left; (first | assumption | exact va_up_s | rfl | (refine (va_up_n ?_).trans ?_; rotate_left; (first | assumption | exact va_up_s | rfl | (refine (va_up_n ?_).trans ?_; rotate_left; (first | assumption | exact va_up_s | rfl | (refine (va_up_n ?_).trans ?_; rotate_left; (first | assumption | exact va_up_s | rfl | (refine (va_up_n ?_).trans ?_; rotate_left; (assumption); omega)); omega)); omega)); omega)); omega)) rfl 0 (by decide) (hts _ q1063) (fun _ h => h) rfl dJ23_next_5 ?_
  refine x_istore_n hx hb dJ23_next_8 rfl hl (by decide) (fun ls hl => ?_)
  refine lv_iload_n hx hb dJ23_next_9 rfl (lh_at hl rfl) ?_
  refine lv_aload_n hx hb dJ23_next_10 rfl (lh_at hl rfl) ?_
  refine xr_get (C := RJ23) (T := TJ23) (N := 4) (ci := 7) (n := nI_) hx hb hts in_J23 hown hE hM (by first | assumption | exact va_up_s | rfl | (refine (va_up_n ?_).trans ?_; rotate_left; (first | assumption | exact va_up_s | rfl | (refine (va_up_n ?_).trans ?_; rotate_left; (first | assumption | exact va_up_s | rfl | (refine (va_up_n ?_).trans ?_; rotate_left; (first | assumption | exact va_up_s | rfl | (refine (va_up_n ?_).trans ?_; rotate_left; (first | assumption | exact va_up_s | rfl | (refine (va_up_n ?_).trans ?_; rotate_left; (assumption); omega)); omega)); omega)); omega)); omega)) rfl 3 (by decide) (hts _ q1066) (fun _ h => h) rfl dJ23_next_11 ?_
  refine xr_getN (C := RJ2) (T := TJ2) (N := 3) (ci := 6) (n := nL) hx hb hts in_J2 hown hE hM (by first | assumption | exact va_up_s | rfl | (refine (va_up_n ?_).trans ?_; rotate_left; (first | assumption | exact va_up_s | rfl | (refine (va_up_n ?_).trans ?_; rotate_left; (first | assumption | exact va_up_s | rfl | (refine (va_up_n ?_).trans ?_; rotate_left; (first | assumption | exact va_up_s | rfl | (refine (va_up_n ?_).trans ?_; rotate_left; (first | assumption | exact va_up_s | rfl | (refine (va_up_n ?_).trans ?_; rotate_left; (assumption); omega)); omega)); omega)); omega)); omega)) rfl 2 (by decide) q95 (fun _ h => h) rfl dJ23_next_14 ?_
  refine n_icmp_lt (tgt := 28) hx hb dJ23_next_17 (by decide) (by omega) (by omega) (fun c1 => ?_) (fun c1 => ?_)
  · refine lv_aload_n hx hb dJ23_next_28 rfl (lh_at hl rfl) ?_
    refine xr_get (C := RJ23) (T := TJ23) (N := 4) (ci := 7) (n := nI_) hx hb hts in_J23 hown hE hM (by first | assumption | exact va_up_s | rfl | (refine (va_up_n ?_).trans ?_; rotate_left; (first | assumption | exact va_up_s | rfl | (refine (va_up_n ?_).trans ?_; rotate_left; (first | assumption | exact va_up_s | rfl | (refine (va_up_n ?_).trans ?_; rotate_left; (first | assumption | exact va_up_s | rfl | (refine (va_up_n ?_).trans ?_; rotate_left; (first | assumption | exact va_up_s | rfl | (refine (va_up_n ?_).trans ?_; rotate_left; (assumption); omega)); omega)); omega)); omega)); omega)) rfl 3 (by decide) (hts _ q1066) (fun _ h => h) rfl dJ23_next_29 ?_
    refine xr_get (C := RJ2) (T := TJ2) (N := 3) (ci := 6) (n := nL) hx hb hts in_J2 hown hE hM (by first | assumption | exact va_up_s | rfl | (refine (va_up_n ?_).trans ?_; rotate_left; (first | assumption | exact va_up_s | rfl | (refine (va_up_n ?_).trans ?_; rotate_left; (first | assumption | exact va_up_s | rfl | (refine (va_up_n ?_).trans ?_; rotate_left; (first | assumption | exact va_up_s | rfl | (refine (va_up_n ?_).trans ?_; rotate_left; (first | assumption | exact va_up_s | rfl | (refine (va_up_n ?_).trans ?_; rotate_left; (assumption); omega)); omega)); omega)); omega)); omega)) rfl 1 (by decide) (hts _ q94) (fun _ h => h) rfl dJ23_next_32 ?_
    refine x_astore_n hx hb dJ23_next_35 rfl hl (by decide) (fun ls hl => ?_)
    refine lv_iload_n hx hb dJ23_next_36 rfl (lh_at hl rfl) ?_
    refine lv_aload_n hx hb dJ23_next_37 rfl (lh_at hl rfl) ?_
    refine xr_len (n := nD) hx hb hE hM (by first | assumption | exact va_up_s | rfl | (refine (va_up_n ?_).trans ?_; rotate_left; (first | assumption | exact va_up_s | rfl | (refine (va_up_n ?_).trans ?_; rotate_left; (first | assumption | exact va_up_s | rfl | (refine (va_up_n ?_).trans ?_; rotate_left; (first | assumption | exact va_up_s | rfl | (refine (va_up_n ?_).trans ?_; rotate_left; (first | assumption | exact va_up_s | rfl | (refine (va_up_n ?_).trans ?_; rotate_left; (assumption); omega)); omega)); omega)); omega)); omega)) rfl dJ23_next_38 ?_
    refine n_icmp_lt (tgt := 50) hx hb dJ23_next_39 (by decide) (by omega) (by omega) (fun c2 => ?_) (fun c2 => ?_)
    · refine lv_aload_n hx hb dJ23_next_50 rfl (lh_at hl rfl) ?_
      refine lv_iload_n hx hb dJ23_next_51 rfl (lh_at hl rfl) ?_
      refine n_const hx hb 1 dJ23_next_52 (by decide +kernel) ?_
      refine n_iadd hx hb dJ23_next_53 ?_
      refine xr_put (C := RJ23) (T := TJ23) (N := 4) (ci := 7) (n := nI_) hx hb hts in_J23 tyJ23 tyJ23_ok nmJ23 hown hE hM hS (by first | assumption | exact va_up_s | rfl | (refine (va_up_n ?_).trans ?_; rotate_left; (first | assumption | exact va_up_s | rfl | (refine (va_up_n ?_).trans ?_; rotate_left; (first | assumption | exact va_up_s | rfl | (refine (va_up_n ?_).trans ?_; rotate_left; (first | assumption | exact va_up_s | rfl | (refine (va_up_n ?_).trans ?_; rotate_left; (first | assumption | exact va_up_s | rfl | (refine (va_up_n ?_).trans ?_; rotate_left; (assumption); omega)); omega)); omega)); omega)); omega)) rfl 0 (by decide) (hts _ q1063) (fun _ h => h) rfl (tyJ23_ok 0 (by decide)) rfl rfl (Nat.le_of_ble_eq_true rfl) dJ23_next_54 (fun H locs hM hS => ?_)
      refine lv_aload_n hx hb dJ23_next_57 rfl (lh_at hl rfl) ?_
      refine lv_aload_n hx hb dJ23_next_58 rfl (lh_at hl rfl) ?_
      refine lv_iload_n hx hb dJ23_next_59 rfl (lh_at hl rfl) ?_
      refine lv_dup_x1 hx hb dJ23_next_60 rfl rfl ?_
      refine xr_put (C := RJ23) (T := TJ23) (N := 4) (ci := 7) (n := nI_) hx hb hts in_J23 tyJ23 tyJ23_ok nmJ23 hown hE hM hS (by first | assumption | exact va_up_s | rfl | (refine (va_up_n ?_).trans ?_; rotate_left; (first | assumption | exact va_up_s | rfl | (refine (va_up_n ?_).trans ?_; rotate_left; (first | assumption | exact va_up_s | rfl | (refine (va_up_n ?_).trans ?_; rotate_left; (first | assumption | exact va_up_s | rfl | (refine (va_up_n ?_).trans ?_; rotate_left; (first | assumption | exact va_up_s | rfl | (refine (va_up_n ?_).trans ?_; rotate_left; (assumption); omega)); omega)); omega)); omega)); omega)) rfl 1 (by decide) (hts _ q1064) (fun _ h => h) rfl (tyJ23_ok 1 (by decide)) rfl rfl (Nat.le_of_ble_eq_true rfl) dJ23_next_61 (fun H locs hM hS => ?_)
      refine xr_qald (n := nD) hx hb hE hM (by first | assumption | exact va_up_s | rfl | (refine (va_up_n ?_).trans ?_; rotate_left; (first | assumption | exact va_up_s | rfl | (refine (va_up_n ?_).trans ?_; rotate_left; (first | assumption | exact va_up_s | rfl | (refine (va_up_n ?_).trans ?_; rotate_left; (first | assumption | exact va_up_s | rfl | (refine (va_up_n ?_).trans ?_; rotate_left; (first | assumption | exact va_up_s | rfl | (refine (va_up_n ?_).trans ?_; rotate_left; (assumption); omega)); omega)); omega)); omega)); omega)) (by omega) (by first | decide | omega) (by first | assumption | rfl) dJ23_next_64 ?_
      refine hQ ▸ x_aret hx hb hr (Or.inl ⟨_, rfl⟩) hlk hS _ trivial ⟨⟨rfl, ?_⟩, hM⟩ dJ23_next_65
      funext z
      by_cases hz : z = nI_
      · rw [hz, va_up_s, va_up_s]
        rfl
      · rw [va_up_n hz, va_up_n hz, va_up_n hz]
    · omega
  · omega
