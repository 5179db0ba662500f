/-! Aislewright: joinsBest -/
set_option maxRecDepth 100000
theorem lenN_join {ν : nS} {t : Nat × Nat × Nat} {S : Nat} : lenN (joinS ν t) S = lenN ν S := rfl
theorem suL_ge {f : Nat → Nat} : ∀ {l : List Nat}, (∀ y ∈ l, 1 ≤ f y) → l.length ≤ suL f l
  | [], _ => Nat.zero_le _
  | x :: t, h => by
    have ih := suL_ge (f := f) (l := t) (fun y hy => h y (List.mem_cons_of_mem _ hy))
    have h1 := h x List.mem_cons_self
    show t.length + 1 ≤ f x + suL f t
    omega
theorem rW_ad {g : xg} {w w' : xw_W} {ad ad' : Nat → Nat} {σ : rS} (had : ∀ n, n < 100 ∨ (1000 ≤ n ∧ n < 1512) → ad' n = ad n) {n : Nat} (hn : n = 8 ∨ n = 9 ∨ (1000 ≤ n ∧ n < 1512)) : rW g w' ad' σ n = rW g w ad σ n := by
  unfold rW
  rcases hn with rfl | rfl | hn
  · rw [if_pos rfl, if_pos rfl, had 8 (by omega), had 9 (by omega), had 10 (by omega), had 0 (by omega)]
  · rw [if_neg (by decide), if_pos rfl, if_neg (by decide), if_pos rfl, had 9 (by omega)]
  · rw [if_neg (by omega), if_neg (by omega), if_pos hn, if_neg (by omega), if_neg (by omega), if_pos hn, had n (Or.inr hn)]
def adS (ad adk : Nat → Nat) : Nat → Nat := fun n => if 100 ≤ n ∧ n < 140 then adk (n - 100) else ad n
theorem adS_n {ad adk : Nat → Nat} {n : Nat} (h : n < 100 ∨ 140 ≤ n) : adS ad adk n = ad n := by
  unfold adS
  rw [if_neg (by omega)]
theorem adS_s {ad adk : Nat → Nat} {k : Nat} (h : k < 40) : adS ad adk (100 + k) = adk k := by
  unfold adS
  rw [if_pos (by omega), show 100 + k - 100 = k by omega]
set_option maxHeartbeats 4000000 in
theorem xk_joinsBest (l : Launch) (g : xg) (A : Nat → Prop) (w : xw_W) (ν : nS) (ad : Nat → Nat) (β : Nat → List Nat) (σ : rS) (F : Nat → Nat → Int32) (hO : xOk ν) (hβ : bOk ν β) (hX : XR g ν ad β w) (hs : sOk ν F) :
    Met l yX1_joinsBest (ws_ yX1_joinsBest cX1_joinsBest 6 (some .boolean)) (xrm 9 49 2104) (xPw g A (sW g w ad σ F) [.ref (ad 0)]) (xQi (S := xw_W) (fun r u => (r = 0 ∧ joinsN ν = none ∧ u = sW g w ad σ F) ∨ (r = 1 ∧ ∃ ν', joinsN ν = some ν' ∧ xOk ν' ∧ ∃ ad' β' w' σ' F', ad' 0 = ad 0 ∧ bOk ν' β' ∧ XR g ν' ad' β' w' ∧ sOk ν' F' ∧ u = sW g w' ad' σ' F')) (fun u => xw g A u) A) 49 2104 A := by
  have hV := hO.V
  have hB := hO.B
  have hN := hO.N
  refine x_start rfl (Nat.le_of_ble_eq_true rfl) ?_
  intro p e s m below meth c hx hb hr hlk hml hown hts hnm hE hM hS ls hl
  have hF : xFix p m c cX1_joinsBest 6 s _ RX1 := ⟨hx, hb, hml, hown, hts⟩
  generalize hargs : List.toArray _ = args at hts hF ⊢
  generalize hQ : MQ below _ _ s _ _ A = Q
  have hX1 := hX.sput σ F
  have hrow : ∀ k, k < 40 → sW g w ad σ F (100 + k) = some (ad (100 + k), .inl (g.2 0, 40, .inl (F k))) := fun k hk => sW_s hk
  have hrt : ∀ n, n = 8 ∨ n = 9 ∨ (1000 ≤ n ∧ n < 1512) → sW g w ad σ F n = rW g w ad σ n := fun n hn => sW_n (by omega)
  obtain ⟨W1, hW1⟩ : ∃ W, W = sW g w ad σ F := ⟨_, rfl⟩
  rw [← hW1] at hM hX1 hrow hrt
  have hinj : ∀ o o', o < vC ν 4 → o' < vC ν 4 → ad (2000 + 2 * o) = ad (2000 + 2 * o') → o = o' := fun o o' h1 h2 h3 => hX1.inj hM h1 h2 h3
  have h0 := hX1.obj
  obtain ⟨mcw, hLw⟩ := hX1.wav
  obtain ⟨d5, hd5⟩ := hLw.size
  obtain ⟨so, hso, hsr⟩ := hX1.sav
  have K : ∀ (H : Heap) (locs : List Loc) (ls : Array Slot), xw g A W1 H → va_S A s.heap H locs → lh ls 6 (xl [(0, .ref (ad 0)), (1, .int (nI ((bestO ν (vC ν 5)).2.1 - 1))), (2, .int (nI ((bestO ν (vC ν 5)).2.2 - 1))), (3, .int (nI (bestO ν (vC ν 5)).1))]) → W p l e (xrm 9 49 2104) s m args below meth c H locs 0 0 Q (F0 m 86 ls []) := by
    intro H locs ls hM hS hl
    have hbo := bestO_ok hV hO.W (vC ν 5) (Nat.le_refl _)
    have hjn : joinsN ν = if (bestO ν (vC ν 5)).1 = 0 then none else some (joinS ν (bestO ν (vC ν 5))) := rfl
    generalize bestO ν (vC ν 5) = t at hl hbo hjn
    obtain ⟨ht1, ht2⟩ := hbo
    refine lv_iload_n hx hb dX1_joinsBest_86 rfl (lh_at hl rfl) ?_
    refine n_if_ne (tgt := 92) hx hb dX1_joinsBest_87 (by decide) (by omega) (fun c1 => ?_) (fun c1 => ?_)
    · rw [if_neg c1] at hjn
      have ht3 := ht2.resolve_left (fun z => c1 (by rw [z]))
      obtain ⟨t0, t1, t2⟩ := t
      obtain ⟨hm0, ha0, hac0, hc0, hl9⟩ := ht3
      simp only at *
      obtain ⟨a, rfl⟩ : ∃ a, t1 = a + 1 := ⟨t1 - 1, by omega⟩
      obtain ⟨c', rfl⟩ : ∃ c, t2 = c + 1 := ⟨t2 - 1, by omega⟩
      rw [Nat.add_sub_cancel, Nat.add_sub_cancel] at hl hl9
      have hac : a < c' := by omega
      have haB : a < vC ν 5 := by omega
      have hcB : c' < vC ν 5 := by omega
      obtain ⟨hba, mca, hLa⟩ := hX1.bs haB
      obtain ⟨hbc, mcc, hLc⟩ := hX1.bs hcB
      obtain ⟨pn, pne, pm⟩ := hβ a haB
      obtain ⟨qn, qne, qm⟩ := hβ c' hcB
      have hO' : xOk (joinS ν (t0, a + 1, c' + 1)) := hO.join hac hcB hl9
      have hβ' : bOk (joinS ν (t0, a + 1, c' + 1)) (joinB β a c') := hβ.join hac hcB
      have hla : (bE ad (β a)).length ≤ lAll ν a := by
        rw [← suM_l pn pm]
        refine Nat.le_trans (Nat.le_of_eq (List.length_map _)) (suL_ge (fun o ho => ?_))
        obtain ⟨z1, z2⟩ := (pm o).mp ho
        have := (hO.o z1).2.1 (by omega)
        omega
      have hlc : (bE ad (β c')).length ≤ lAll ν c' := by
        rw [← suM_l qn qm]
        refine Nat.le_trans (Nat.le_of_eq (List.length_map _)) (suL_ge (fun o ho => ?_))
        obtain ⟨z1, z2⟩ := (qm o).mp ho
        have := (hO.o z1).2.1 (by omega)
        omega
      have hbdis : ∀ i j, i < vC ν 5 → j < vC ν 5 → i ≠ j → bN β i ≠ bN β j ∧ bN β i ≠ bN β j + 1 ∧ bN β i ≠ bN β j + 2 ∧ bN β i + 1 ≠ bN β j ∧ bN β i + 1 ≠ bN β j + 1 ∧ bN β i + 1 ≠ bN β j + 2 ∧ bN β i + 2 ≠ bN β j ∧ bN β i + 2 ≠ bN β j + 1 ∧ bN β i + 2 ≠ bN β j + 2 := by
        intro i j hi hj hij
        obtain ⟨-, n2, n3⟩ := hβ i hi
        obtain ⟨-, k2, k3⟩ := hβ j hj
        obtain ⟨y, l1, hy⟩ := List.exists_cons_of_ne_nil n2
        obtain ⟨y2, l2, hy2⟩ := List.exists_cons_of_ne_nil k2
        have m1 := ((n3 y).mp (by rw [hy]; exact List.mem_cons_self)).2
        have m2 := ((k3 y2).mp (by rw [hy2]; exact List.mem_cons_self)).2
        have hyy : y ≠ y2 := fun z => by rw [z] at m1; omega
        unfold bN
        rw [hy, hy2]
        simp only [List.headD_cons]
        omega
      have g3a := bN_ge (β := β) (b := a)
      have g3c := bN_ge (β := β) (b := c')
      obtain ⟨x1, x2, x3, x4, x5, x6, x7, x8, x9⟩ := hbdis a c' haB hcB (by omega)
      refine lv_aload_n hx hb dX1_joinsBest_92 rfl (lh_at hl rfl) ?_
      refine xr_get (C := RX1) (T := TX1) (N := 12) (ci := 0) (n := 0) hx hb hts in_X1 hown hE hM (by first | assumption | exact va_up_s | rfl | (refine (va_up_n ?_).trans ?_; rotate_left; (first | assumption | exact va_up_s | rfl | (refine (va_up_n ?_).trans ?_; rotate_left; (first | assumption | exact va_up_s | rfl | (refine (va_up_n ?_).trans ?_; rotate_left; (first | assumption | exact va_up_s | rfl | (refine (va_up_n ?_).trans ?_; rotate_left; (first | assumption | exact va_up_s | rfl | (refine (va_up_n ?_).trans ?_; rotate_left; (assumption); omega)); omega)); omega)); omega)); omega)) rfl 6 (by decide) (hts _ q147) (fun _ h => h) rfl dX1_joinsBest_93 ?_
      refine lv_iload_n hx hb dX1_joinsBest_96 rfl (lh_at hl rfl) ?_
      refine x_callFr (x_runF (As := [.int (nI a)]) hF hE hS hM hl (jk_get l g A W1 5 6 (ad 5) 5 a (ad (bN β a)) mcw _ hLw (bL_at haB)) (xw.recv hE hM (by first | assumption | exact va_up_s | rfl | (refine (va_up_n ?_).trans ?_; rotate_left; (first | assumption | exact va_up_s | rfl | (refine (va_up_n ?_).trans ?_; rotate_left; (first | assumption | exact va_up_s | rfl | (refine (va_up_n ?_).trans ?_; rotate_left; (first | assumption | exact va_up_s | rfl | (refine (va_up_n ?_).trans ?_; rotate_left; (first | assumption | exact va_up_s | rfl | (refine (va_up_n ?_).trans ?_; rotate_left; (assumption); omega)); omega)); omega)); omega)); omega)) rfl) (xw.at hE (ci := 6) rfl) (List.mem_of_getElem? (i := 2) rfl) q621 q626 q624 q41 q628 ⟨by decide +kernel, by decide +kernel, by show _ = some 1; decide +kernel⟩ rfl rfl ⟨Nat.le_of_ble_eq_true rfl, Nat.le_of_ble_eq_true rfl⟩ rfl (Nat.le_of_ble_eq_true rfl) dX1_joinsBest_97 ⟨Nat.le_of_ble_eq_true rfl, Nat.le_of_ble_eq_true rfl⟩) hS (fun uu ra H locs hq2 hM hS => ?_)
      obtain ⟨hra, hM⟩ := hM
      rw [hra]
      refine xr_cast (n := (bN β a)) (r := (RX6, TX6, 3)) (ci := 5) hx hb hown hE hM (by first | assumption | exact va_up_s | rfl | (refine (va_up_n ?_).trans ?_; rotate_left; (first | assumption | exact va_up_s | rfl | (refine (va_up_n ?_).trans ?_; rotate_left; (first | assumption | exact va_up_s | rfl | (refine (va_up_n ?_).trans ?_; rotate_left; (first | assumption | exact va_up_s | rfl | (refine (va_up_n ?_).trans ?_; rotate_left; (first | assumption | exact va_up_s | rfl | (refine (va_up_n ?_).trans ?_; rotate_left; (assumption); omega)); omega)); omega)); omega)); omega)) rfl (hts _ q1107) dX1_joinsBest_102 ?_
      refine lv_aload_n hx hb dX1_joinsBest_105 rfl (lh_at hl rfl) ?_
      refine xr_get (C := RX1) (T := TX1) (N := 12) (ci := 0) (n := 0) hx hb hts in_X1 hown hE hM (by first | assumption | exact va_up_s | rfl | (refine (va_up_n ?_).trans ?_; rotate_left; (first | assumption | exact va_up_s | rfl | (refine (va_up_n ?_).trans ?_; rotate_left; (first | assumption | exact va_up_s | rfl | (refine (va_up_n ?_).trans ?_; rotate_left; (first | assumption | exact va_up_s | rfl | (refine (va_up_n ?_).trans ?_; rotate_left; (first | assumption | exact va_up_s | rfl | (refine (va_up_n ?_).trans ?_; rotate_left; (assumption); omega)); omega)); omega)); omega)); omega)) rfl 6 (by decide) (hts _ q147) (fun _ h => h) rfl dX1_joinsBest_106 ?_
      refine lv_iload_n hx hb dX1_joinsBest_109 rfl (lh_at hl rfl) ?_
      refine x_callFr (x_runF (As := [.int (nI c')]) hF hE hS hM hl (jk_get l g A W1 5 6 (ad 5) 5 c' (ad (bN β c')) mcw _ hLw (bL_at hcB)) (xw.recv hE hM (by first | assumption | exact va_up_s | rfl | (refine (va_up_n ?_).trans ?_; rotate_left; (first | assumption | exact va_up_s | rfl | (refine (va_up_n ?_).trans ?_; rotate_left; (first | assumption | exact va_up_s | rfl | (refine (va_up_n ?_).trans ?_; rotate_left; (first | assumption | exact va_up_s | rfl | (refine (va_up_n ?_).trans ?_; rotate_left; (first | assumption | exact va_up_s | rfl | (refine (va_up_n ?_).trans ?_; rotate_left; (assumption); omega)); omega)); omega)); omega)); omega)) rfl) (xw.at hE (ci := 6) rfl) (List.mem_of_getElem? (i := 2) rfl) q621 q626 q624 q41 q628 ⟨by decide +kernel, by decide +kernel, by show _ = some 1; decide +kernel⟩ rfl rfl ⟨Nat.le_of_ble_eq_true rfl, Nat.le_of_ble_eq_true rfl⟩ rfl (Nat.le_of_ble_eq_true rfl) dX1_joinsBest_110 ⟨Nat.le_of_ble_eq_true rfl, Nat.le_of_ble_eq_true rfl⟩) hS (fun uu ra2 H locs hq2 hM hS => ?_)
      obtain ⟨hra2, hM⟩ := hM
      rw [hra2]
      refine xr_cast (n := (bN β c')) (r := (RX6, TX6, 3)) (ci := 5) hx hb hown hE hM (by first | assumption | exact va_up_s | rfl | (refine (va_up_n ?_).trans ?_; rotate_left; (first | assumption | exact va_up_s | rfl | (refine (va_up_n ?_).trans ?_; rotate_left; (first | assumption | exact va_up_s | rfl | (refine (va_up_n ?_).trans ?_; rotate_left; (first | assumption | exact va_up_s | rfl | (refine (va_up_n ?_).trans ?_; rotate_left; (first | assumption | exact va_up_s | rfl | (refine (va_up_n ?_).trans ?_; rotate_left; (assumption); omega)); omega)); omega)); omega)); omega)) rfl (hts _ q1107) dX1_joinsBest_115 ?_
      have hes2 : ∀ y ∈ bE ad (β c'), ∃ nO due qa z, W1 nO = some (y, .inr (4, [.int due, qa, .int (nI (ppA ν ad y)), .int z])) ∧ nO ≠ bN β a + 2 ∧ nO ≠ 11 := by
        intro y hy
        obtain ⟨o, h1, rfl⟩ := List.mem_map.mp hy
        have hoN := ((qm o).mp h1).1
        refine ⟨2000 + 2 * o, nI (vDue ν o), .ref (ad (2001 + 2 * o)), nI (vSt ν o), ?_, by omega, by omega⟩
        rw [ppA_eq hinj hoN]
        exact (hX1.os hoN).1
      have hpp2 : ∀ y ∈ bE ad (β c'), ppA ν ad y < 2 ^ 20 := by
        intro y hy
        obtain ⟨o, h1, rfl⟩ := List.mem_map.mp hy
        have hoN := ((qm o).mp h1).1
        rw [ppA_eq hinj hoN]
        exact hO.want hoN
      have h11 : W1 11 = none := hX1.tmp (by decide) (by decide)
      have h12 : W1 12 = none := hX1.tmp (by decide) (by decide)
      have hnDa := hLa.nDa (fun z => pne (List.map_eq_nil_iff.mp z))
      refine x_callv (x_runV (As := [.ref (ad (bN β c'))]) hF hE hS hM hl (xk_takesAll l g A W1 (bN β a) (bN β a + 1) (bN β a + 2) (bN β c') (bN β c' + 1) (bN β c' + 2) 11 12 (ad (bN β a)) (ad (bN β c')) (ad (bN β a + 1)) (ad (bN β c' + 1)) (pAll ν a) (lAll ν a) (nI (pAll ν c')) (nI (lAll ν c')) mca mcc (bE ad (β a)) (bE ad (β c')) (ppA ν ad) hLa hLc (by omega) (by omega) hba hbc hes2 hpp2 (by omega) (by omega) h12 (by decide) (by omega) (by omega) (by omega) (by omega) (by omega) (by omega) (by omega) ⟨by omega, by omega, by omega⟩ ⟨by omega, by omega, by omega⟩ h11 hnDa) (xw.recv hE hM (by first | assumption | exact va_up_s | rfl | (refine (va_up_n ?_).trans ?_; rotate_left; (first | assumption | exact va_up_s | rfl | (refine (va_up_n ?_).trans ?_; rotate_left; (first | assumption | exact va_up_s | rfl | (refine (va_up_n ?_).trans ?_; rotate_left; (first | assumption | exact va_up_s | rfl | (refine (va_up_n ?_).trans ?_; rotate_left; (first | assumption | exact va_up_s | rfl | (refine (va_up_n ?_).trans ?_; rotate_left; (assumption); omega)); omega)); omega)); omega)); omega)) rfl) q1148 q1149 q1150 q70 q1151 ⟨rfl, by decide +kernel, by decide +kernel, by show _ = some 1; decide +kernel⟩ rfl rfl ⟨Nat.le_of_ble_eq_true rfl, Nat.le_of_ble_eq_true rfl⟩ rfl (Nat.le_of_ble_eq_true rfl) dX1_joinsBest_118 ⟨Nat.le_of_ble_eq_true rfl, Nat.le_of_ble_eq_true rfl⟩) hS (fun w2 H locs hq3 hM hS => ?_)
      obtain ⟨⟨mca2, hLa2⟩, hba2, w2k⟩ := hq3
      rw [orL_W hinj (fun o ho => ((qm o).mp ho).1), orW_p qm, smL_W hO hinj (fun o ho => ((qm o).mp ho).1), suM_l qn qm] at hba2
      have hLw2 : xLs g w2 5 6 (ad 5) mcw 5 (bL ad β (vC ν 5)) := hLw.bLk (w2k 5 (by omega) (by omega) (by omega) (by omega)) (w2k 6 (by omega) (by omega) (by omega) (by omega)) (fun i hi => by
        by_cases e : i = a
        · rw [e]
          exact ⟨_, hba2⟩
        · obtain ⟨z1, z2, z3, -⟩ := hbdis i a hi haB e
          rw [w2k _ z2 z3 z1 (bN_ne (by omega))]
          exact ⟨_, (hX1.bs hi).1⟩)
      have h02 : w2 0 = _ := (w2k 0 (by omega) (by omega) (by omega) (by omega)).trans h0
      obtain ⟨d52, hd52⟩ := hLw2.size
      refine lv_aload_n hx hb dX1_joinsBest_121 rfl (lh_at hl rfl) ?_
      refine xr_get (C := RX1) (T := TX1) (N := 12) (ci := 0) (n := 0) hx hb hts in_X1 hown hE hM (by first | assumption | exact va_up_s | rfl | (refine (va_up_n ?_).trans ?_; rotate_left; (first | assumption | exact va_up_s | rfl | (refine (va_up_n ?_).trans ?_; rotate_left; (first | assumption | exact va_up_s | rfl | (refine (va_up_n ?_).trans ?_; rotate_left; (first | assumption | exact va_up_s | rfl | (refine (va_up_n ?_).trans ?_; rotate_left; (first | assumption | exact va_up_s | rfl | (refine (va_up_n ?_).trans ?_; rotate_left; (assumption); omega)); omega)); omega)); omega)); omega)) rfl 6 (by decide) (hts _ q147) (fun _ h => h) rfl dX1_joinsBest_122 ?_
      refine lv_iload_n hx hb dX1_joinsBest_125 rfl (lh_at hl rfl) ?_
      refine x_callFr (x_runF (As := [.int (nI c')]) hF hE hS hM hl (jk_remove l g A w2 5 6 (ad 5) 5 c' (ad (bN β c')) mcw _ hLw2 (bL_at hcB) (by decide) xOb5 (by decide)) (xw.recv hE hM (by first | assumption | exact va_up_s | rfl | (refine (va_up_n ?_).trans ?_; rotate_left; (first | assumption | exact va_up_s | rfl | (refine (va_up_n ?_).trans ?_; rotate_left; (first | assumption | exact va_up_s | rfl | (refine (va_up_n ?_).trans ?_; rotate_left; (first | assumption | exact va_up_s | rfl | (refine (va_up_n ?_).trans ?_; rotate_left; (first | assumption | exact va_up_s | rfl | (refine (va_up_n ?_).trans ?_; rotate_left; (assumption); omega)); omega)); omega)); omega)); omega)) rfl) (xw.at hE (ci := 6) rfl) (List.mem_of_getElem? (i := 6) rfl) q1160 q1165 q1163 q41 q1167 ⟨by decide +kernel, by decide +kernel, by show _ = some 1; decide +kernel⟩ rfl rfl ⟨Nat.le_of_ble_eq_true rfl, Nat.le_of_ble_eq_true rfl⟩ rfl (Nat.le_of_ble_eq_true rfl) dX1_joinsBest_126 ⟨Nat.le_of_ble_eq_true rfl, Nat.le_of_ble_eq_true rfl⟩) hS (fun w3 ra H locs hq9 hM hS => ?_)
      obtain ⟨⟨-, hLr, hag3⟩, hM⟩ := hM
      rw [bL_pick hcB] at hLr
      obtain ⟨w4, hM, hLr, hdat6, hag4⟩ := hLr.clean (by decide) hM
      have w4k : ∀ n, n ≠ 5 → n ≠ 6 → n ≠ bN β a → n ≠ bN β a + 1 → n ≠ bN β a + 2 → n ≠ 11 → w4 n = W1 n := fun n n1 n2 n3 n4 n5 n6 => (hag4 n n2).trans ((hag3 n n1 n2).trans (w2k n n4 n5 n3 n6))
      have w4a : w4 (bN β a) = _ := (hag4 _ (by omega)).trans ((hag3 _ (by omega) (by omega)).trans hba2)
      have w4l : ∀ n, n = bN β a + 1 ∨ n = bN β a + 2 → w4 n = w2 n := fun n hn => (hag4 _ (by omega)).trans (hag3 _ (by omega) (by omega))
      have h04 : w4 0 = _ := (w4k 0 (by omega) (by omega) (by omega) (by omega) (by omega) (by omega)).trans h0
      clear hag3 hag4
      refine lv_pop hx hb dX1_joinsBest_131 rfl ?_
      refine lv_iload_n hx hb dX1_joinsBest_132 rfl (lh_at hl rfl) ?_
      refine x_istore hx hb dX1_joinsBest_133 hl (by decide) (fun ls hl => ?_)
      -- the rows move up
      have L2 : ∀ (cells slots : Nat), cells ≤ 49 → slots ≤ 2104 → ∀ (n k : Nat), k ≤ vC ν 5 - 1 → vC ν 5 - 1 < k + n → ∀ (u : xw_W) (so2 : Nat → Option Nat) (adk : Nat → Nat) (F2 : Nat → Nat → Int32) (H : Heap) (locs : List Loc) (ls : Array Slot), xw g A u H → va_S A s.heap H locs → (∀ n, n ≠ 7 → (n < 100 ∨ 140 ≤ n) → u n = w4 n) → u 12 = none → u 7 = some (ad 7, .inl (g.2 2, aQ 40 so2)) → (∀ i, i < 40 → so2 i = some (adk i) ∧ u (100 + i) = some (adk i, .inl (g.2 0, 40, .inl (F2 i)))) → (∀ i, i < vC ν 5 - 1 → F2 i = if i < k then va_cpy (F (shB c' i)) (F (shB c' i)) (c' + 1) c' (40 - c' - 1) else F (shB c' i)) →
          lh ls 6 (xl [(0, .ref (ad 0)), (1, .int (nI a)), (2, .int (nI c')), (4, .int (nI k))]) → W p l e (xrm 9 49 2104) s m args below meth c H locs cells slots Q (F0 m 180 ls []) := by
        intro cells slots hcl hsl n
        induction n with
        | zero => intro k h1 h2; exact absurd h2 (by omega)
        | succ n ih =>
          intro k k1 k2 u so2 adk F2 H locs ls hM hS hu hu12 hu7 hur hF2 hl
          have u0 : u 0 = _ := (hu 0 (by omega) (by omega)).trans h04
          have hLu : xLs g u 5 6 (ad 5) (mcw + 1) 5 (bL ad (pickB β c') (vC ν 5 - 1)) := hLr.bLk (hu 5 (by omega) (by omega)) (hu 6 (by omega) (by omega)) (fun i hi => by
            have hsl := shB_lt hi hcB
            show ∃ fs, u (bN β (shB c' i)) = some (ad (bN β (shB c' i)), .inr (5, fs))
            have g3i := bN_ge (β := β) (b := shB c' i)
            rw [hu _ (by omega) (by omega)]
            by_cases e : shB c' i = a
            · rw [e]
              exact ⟨_, w4a⟩
            · obtain ⟨z1, z2, z3, -⟩ := hbdis _ a hsl.1 haB e
              rw [w4k _ (by omega) (by omega) z1 z2 z3 (by omega)]
              exact ⟨_, (hX1.bs hsl.1).1⟩)
          obtain ⟨d5u, hd5u⟩ := hLu.size
          refine lv_iload hx hb dX1_joinsBest_180 (lh_at hl rfl) ?_
          refine lv_aload_n hx hb dX1_joinsBest_182 rfl (lh_at hl rfl) ?_
          refine xr_get (C := RX1) (T := TX1) (N := 12) (ci := 0) (n := 0) hx hb hts in_X1 hown hE hM (by first | assumption | exact va_up_s | rfl | (refine (va_up_n ?_).trans ?_; rotate_left; (first | assumption | exact va_up_s | rfl | (refine (va_up_n ?_).trans ?_; rotate_left; (first | assumption | exact va_up_s | rfl | (refine (va_up_n ?_).trans ?_; rotate_left; (first | assumption | exact va_up_s | rfl | (refine (va_up_n ?_).trans ?_; rotate_left; (first | assumption | exact va_up_s | rfl | (refine (va_up_n ?_).trans ?_; rotate_left; (assumption); omega)); omega)); omega)); omega)); omega)) rfl 6 (by decide) (hts _ q147) (fun _ h => h) rfl dX1_joinsBest_183 ?_
          refine x_callFi (x_runF (As := []) hF hE hS hM hl (jk_size l g A u 5 6 (ad 5) 5 (mcw + 1) _ hLu) (xw.recv hE hM (by first | assumption | exact va_up_s | rfl | (refine (va_up_n ?_).trans ?_; rotate_left; (first | assumption | exact va_up_s | rfl | (refine (va_up_n ?_).trans ?_; rotate_left; (first | assumption | exact va_up_s | rfl | (refine (va_up_n ?_).trans ?_; rotate_left; (first | assumption | exact va_up_s | rfl | (refine (va_up_n ?_).trans ?_; rotate_left; (first | assumption | exact va_up_s | rfl | (refine (va_up_n ?_).trans ?_; rotate_left; (assumption); omega)); omega)); omega)); omega)); omega)) rfl) (xw.at hE (ci := 6) rfl) (List.mem_of_getElem? (i := 0) rfl) q183 q189 q187 q41 q191 ⟨by decide +kernel, by decide +kernel, by show _ = some 0; decide +kernel⟩ rfl rfl ⟨Nat.le_of_ble_eq_true rfl, Nat.le_of_ble_eq_true rfl⟩ rfl (Nat.le_of_ble_eq_true rfl) dX1_joinsBest_186 (by show (_ : Nat) ≤ 49 ∧ (_ : Nat) ≤ 2104; omega)) hS (fun r uu H locs hq hM hS => ?_)
          rw [hq, bL_len]
          refine n_icmp_ge (tgt := 227) hx hb dX1_joinsBest_191 (by decide) (by omega) (by omega) (fun c2 => ?_) (fun c2 => ?_)
          · have ek : k = vC ν 5 - 1 := by omega
            subst ek
            refine W.widen (k := 49) (n := 2104) (by show (_ : Nat) ≤ 49; omega) (by show (_ : Nat) ≤ 2104; omega) ?_
            have hF3 : ∀ i j, i < vC ν 5 - 1 → j < vC ν 5 - 1 → F2 i j = F (shB c' i) (shB c' j) := by
              intro i j hi hj
              rw [hF2 i hi, if_pos hi]
              show (if c' ≤ j ∧ j < c' + (40 - c' - 1) then F (shB c' i) (c' + 1 + (j - c')) else F (shB c' i) j) = F (shB c' i) (if j < c' then j else j + 1)
              by_cases e2 : j < c'
              · rw [if_neg (by omega), if_pos e2]
              · rw [if_pos (by omega), if_neg e2, show c' + 1 + (j - c') = j + 1 by omega]
            have kf : ∀ n, n ≠ 5 → n ≠ 6 → n ≠ 7 → n ≠ 11 → (n < 100 ∨ 140 ≤ n) → n ≠ bN β a → n ≠ bN β a + 1 → n ≠ bN β a + 2 → u n = W1 n := fun n n1 n2 n3 n4 n5 n6 n7 n8 => (hu n n3 n5).trans (w4k n n1 n2 n6 n7 n8 n4)
            have hdrop : xw g A (fun n => if n = 11 ∨ n = bN β c' ∨ n = bN β c' + 1 ∨ n = bN β c' + 2 then none else u n) H := hM.mono (fun n q hn => by
              by_cases c : n = 11 ∨ n = bN β c' ∨ n = bN β c' + 1 ∨ n = bN β c' + 2
              · rw [if_pos c] at hn
                cases hn
              · rw [if_neg c] at hn
                exact hn)
            generalize hwf : (fun n => if n = 11 ∨ n = bN β c' ∨ n = bN β c' + 1 ∨ n = bN β c' + 2 then none else u n) = wf at hdrop
            have wn : ∀ n, n ≠ 11 → n ≠ bN β c' → n ≠ bN β c' + 1 → n ≠ bN β c' + 2 → wf n = u n := fun n n1 n2 n3 n4 => by
              rw [← hwf]
              exact if_neg (fun z => by omega)
            have wz : ∀ n, n = 11 ∨ n = bN β c' ∨ n = bN β c' + 1 ∨ n = bN β c' + 2 → wf n = none := fun n n1 => by
              rw [← hwf]
              exact if_pos n1
            have kw : ∀ n, n < 3000 → n ≠ 5 → n ≠ 6 → n ≠ 7 → n ≠ 11 → (n < 100 ∨ 140 ≤ n) → wf n = W1 n := fun n n0 n1 n2 n3 n4 n5 => (wn n n4 (by omega) (by omega) (by omega)).trans (kf n n1 n2 n3 n4 n5 (by omega) (by omega) (by omega))
            have hbj : ∀ i, bN (joinB β a c') i = bN β (shB c' i) := fun i => by rw [joinB_hd hβ hac hcB, sh_a hac]
            have hwb : ∀ i, i < vC ν 5 - 1 → wf (bN β (shB c' i)) = w4 (bN β (shB c' i)) ∧ wf (bN β (shB c' i) + 1) = w4 (bN β (shB c' i) + 1) ∧ wf (bN β (shB c' i) + 2) = w4 (bN β (shB c' i) + 2) := by
              intro i hi
              have hsl := shB_lt hi hcB
              obtain ⟨z1, z2, z3, z4, z5, z6, z7, z8, z9⟩ := hbdis _ c' hsl.1 hcB hsl.2
              have g3i := bN_ge (β := β) (b := shB c' i)
              exact ⟨(wn _ (by omega) z1 z2 z3).trans (hu _ (by omega) (by omega)), (wn _ (by omega) z4 z5 z6).trans (hu _ (by omega) (by omega)), (wn _ (by omega) z7 z8 z9).trans (hu _ (by omega) (by omega))⟩
            have hwc : ∀ i, i < vC ν 5 - 1 → shB c' i ≠ a → ∀ n, n = bN β (shB c' i) ∨ n = bN β (shB c' i) + 1 ∨ n = bN β (shB c' i) + 2 → w4 n = W1 n := by
              intro i hi hia n hn
              have hsl := shB_lt hi hcB
              obtain ⟨z1, z2, z3, z4, z5, z6, z7, z8, z9⟩ := hbdis _ a hsl.1 haB hia
              have g3i := bN_ge (β := β) (b := shB c' i)
              exact w4k n (by omega) (by omega) (by omega) (by omega) (by omega) (by omega)
            have hwo : ∀ o, o < vC ν 4 → wf (2000 + 2 * o) = W1 (2000 + 2 * o) ∧ wf (2001 + 2 * o) = W1 (2001 + 2 * o) := fun o ho => ⟨kw _ (by omega) (by omega) (by omega) (by omega) (by omega) (by omega), kw _ (by omega) (by omega) (by omega) (by omega) (by omega) (by omega)⟩
            have eqo : ∀ n, adS ad adk (2000 + n) = ad (2000 + n) := fun n => adS_n (by omega)
            have hXn : XR g (joinS ν (t0, a + 1, c' + 1)) (adS ad adk) (joinB β a c') wf := by
              refine hX1.lift (fun n hn => adS_n (by omega)) (fun n hn => ?_) ?_ ?_ ?_ ?_ ⟨mcw + 1, ?_⟩ ⟨so2, ?_, fun i hi => ⟨?_, F2 i, ?_⟩⟩ (fun o ho => ?_) (fun i hi => ?_) (fun n hn b9 c fs hne => ?_) (fun n n1 n2 => ?_) (fun n n1 n2 => ?_)
              · by_cases e11 : n = 11
                · rw [e11, wz 11 (Or.inl rfl), h11]
                · exact kw n (by omega) (by omega) (by omega) (by omega) e11 (by omega)
              · rw [kw 0 (by omega) (by omega) (by omega) (by omega) (by omega) (by omega), h0]
                rfl
              · rw [kw 1 (by omega) (by omega) (by omega) (by omega) (by omega) (by omega)]
                exact hX1.pl
              · obtain ⟨f2, g1, g2⟩ := hX1.tu
                refine ⟨f2, (kw 2 (by omega) (by omega) (by omega) (by omega) (by omega) (by omega)).trans g1, fun z hz => (g2 z hz).trans ?_⟩
                exact congrArg nI (turnN_congr (ν := ν) (ν' := joinS ν (t0, a + 1, c' + 1)) (vC ν 4) (fun o _ => ⟨Iff.rfl, fun _ => hasN_congr _ (fun _ _ => ⟨rfl, rfl⟩)⟩)).symm
              · obtain ⟨mco, hx⟩ := hX1.ord
                refine ⟨mco, ?_⟩
                have eo : oL (adS ad adk) (vC (joinS ν (t0, a + 1, c' + 1)) 4) = oL ad (vC ν 4) := by
                  show oL (adS ad adk) (vC ν 4) = _
                  unfold oL
                  exact List.map_congr_left (fun o _ => eqo _)
                rw [eo]
                exact hx.oLk (kw 3 (by omega) (by omega) (by omega) (by omega) (by omega) (by omega)) (kw 4 (by omega) (by omega) (by omega) (by omega) (by omega) (by omega)) (fun o ho => ⟨_, (hwo o ho).1.trans (hX1.os ho).1⟩)
              · have eb : bL (adS ad adk) (joinB β a c') (vC (joinS ν (t0, a + 1, c' + 1)) 5) = bL ad (pickB β c') (vC ν 5 - 1) := by
                  show bL (adS ad adk) (joinB β a c') (vC ν 5 - 1) = _
                  unfold bL
                  refine List.map_congr_left (fun i _ => ?_)
                  have g3i := bN_ge (β := β) (b := shB c' i)
                  rw [hbj i, adS_n (by omega)]
                  rfl
                rw [eb]
                refine hLr.bLk ((wn 5 (by omega) (by omega) (by omega) (by omega)).trans (hu 5 (by omega) (by omega))) ((wn 6 (by omega) (by omega) (by omega) (by omega)).trans (hu 6 (by omega) (by omega))) (fun i hi => ?_)
                show ∃ fs, wf (bN β (shB c' i)) = some (ad (bN β (shB c' i)), .inr (5, fs))
                rw [(hwb i hi).1]
                by_cases e5 : shB c' i = a
                · rw [e5]
                  exact ⟨_, w4a⟩
                · rw [hwc i hi e5 _ (Or.inl rfl)]
                  exact ⟨_, (hX1.bs (shB_lt hi hcB).1).1⟩
              · rw [wn 7 (by omega) (by omega) (by omega) (by omega)]
                exact hu7
              · rw [adS_s hi]
                exact (hur i hi).1
              · rw [adS_s hi, wn (100 + i) (by omega) (by omega) (by omega) (by omega)]
                exact (hur i hi).2
              · have ho : o < vC ν 4 := ho
                obtain ⟨g1, f2, g2, g3⟩ := hX1.os ho
                rw [(hwo o ho).1, (hwo o ho).2, eqo (2 * o), adS_n (show 2001 + 2 * o < 100 ∨ 140 ≤ 2001 + 2 * o by omega)]
                refine ⟨?_, f2, g2, fun q hq => (g3 q hq).trans (congrArg nI (hasN_congr (ν := ν) (ν' := joinS ν (t0, a + 1, c' + 1)) (o := o) _ (fun _ _ => ⟨rfl, rfl⟩)).symm)⟩
                rw [g1]
                unfold oFs
                rw [adS_n (show 2001 + 2 * o < 100 ∨ 140 ≤ 2001 + 2 * o by omega)]
                rfl
              · have hi : i < vC ν 5 - 1 := hi
                have hsl := shB_lt hi hcB
                have g3i := bN_ge (β := β) (b := shB c' i)
                obtain ⟨y1, y2, y3⟩ := hwb i hi
                unfold bFs
                rw [hbj i, adS_n (show bN β (shB c' i) < 100 ∨ 140 ≤ bN β (shB c' i) by omega), adS_n (show bN β (shB c' i) + 1 < 100 ∨ 140 ≤ bN β (shB c' i) + 1 by omega), y1]
                have ebE : ∀ es, bE (adS ad adk) es = bE ad es := fun es => by
                  unfold bE
                  exact List.map_congr_left (fun o _ => eqo _)
                rw [ebE]
                by_cases e5 : i = a
                · have e6 : shB c' i = a := by
                    rw [e5]
                    unfold shB
                    rw [if_pos hac]
                  rw [e6] at y2 y3 ⊢
                  rw [w4a, e5, join_pa hac, join_la hac]
                  refine ⟨rfl, mca2, ?_⟩
                  have ej : joinB β a c' a = β a ++ β c' := by
                    unfold joinB
                    rw [if_pos rfl]
                  have ek2 : bE ad (β a) ++ bE ad (β c') = bE ad (β a ++ β c') := by
                    unfold bE
                    rw [List.map_append]
                  rw [ek2] at hLa2
                  rw [ej]
                  refine hLa2.bEk (y2.trans (w4l _ (Or.inl rfl))) (y3.trans (w4l _ (Or.inr rfl))) (fun o ho => ?_)
                  have ho4 : o < vC ν 4 := (List.mem_append.mp ho).elim (fun z => ((pm o).mp z).1) (fun z => ((qm o).mp z).1)
                  exact ⟨_, (hwo o ho4).1.trans (hX1.os ho4).1⟩
                · have e6 : shB c' i ≠ a := by
                    unfold shB
                    split <;> omega
                  obtain ⟨g1, mc9, g2⟩ := hX1.bs hsl.1
                  rw [hwc i hi e6 _ (Or.inl rfl), g1, join_p hac e5, join_l hac e5]
                  refine ⟨rfl, mc9, ?_⟩
                  have ej : joinB β a c' i = β (shB c' i) := by
                    unfold joinB
                    rw [if_neg e5]
                  rw [ej]
                  refine g2.bEk (y2.trans (hwc i hi e6 _ (Or.inr (Or.inl rfl)))) (y3.trans (hwc i hi e6 _ (Or.inr (Or.inr rfl)))) (fun o ho => ?_)
                  have ho4 := (((hβ _ hsl.1).2.2 o).mp ho).1
                  exact ⟨_, (hwo o ho4).1.trans (hX1.os ho4).1⟩
              · rcases hn with rfl | rfl
                · rw [kw 4 (by omega) (by omega) (by omega) (by omega) (by omega) (by omega)] at hne
                  exact hX1.dat (Or.inl rfl) _ _ _ hne
                · rw [wn 6 (by omega) (by omega) (by omega) (by omega), hu 6 (by omega) (by omega)] at hne
                  exact hdat6 _ _ _ hne
              · have n1 : 2000 + 2 * vC ν 4 ≤ n := n1
                rw [kw n (by omega) (by omega) (by omega) (by omega) (by omega) (by omega)]
                exact hX1.ono n1 n2
              · by_cases e7 : n = bN β c' ∨ n = bN β c' + 1 ∨ n = bN β c' + 2
                · exact wz n (Or.inr e7)
                · have hall : ∀ b, b < vC ν 5 → n ≠ bN β b ∧ n ≠ bN β b + 1 ∧ n ≠ bN β b + 2 := by
                    intro b hb9
                    by_cases e8 : b = c'
                    · rw [e8]
                      omega
                    · have := n2 (if b < c' then b else b - 1) (by show _ < vC ν 5 - 1; split <;> omega)
                      rw [hbj] at this
                      have es : shB c' (if b < c' then b else b - 1) = b := by
                        unfold shB
                        by_cases hbc2 : b < c'
                        · rw [if_pos hbc2, if_pos hbc2]
                        · rw [if_neg hbc2, if_neg (by omega)]
                          omega
                      rw [es] at this
                      exact this
                  have hna := hall a haB
                  rw [wn n (by omega) (by omega) (by omega) (by omega), kf n (by omega) (by omega) (by omega) (by omega) (by omega) hna.1 hna.2.1 hna.2.2]
                  exact hX1.bno n1 hall
            have hsw : sW g wf (adS ad adk) σ F2 = wf := by
              funext n
              unfold sW
              by_cases e2 : 100 ≤ n ∧ n < 140
              · rw [if_pos e2, wn n (by omega) (by omega) (by omega) (by omega)]
                have := (hur (n - 100) (by omega)).2
                rw [show 100 + (n - 100) = n by omega] at this
                rw [this]
                congr 2
                unfold adS
                rw [if_pos e2]
              · rw [if_neg e2]
                by_cases hrn : n = 8 ∨ n = 9 ∨ (1000 ≤ n ∧ n < 1512)
                · rw [rW_ad (w := w) (ad := ad) (fun n hn => adS_n (by omega)) hrn, ← hrt n hrn, kw n (by omega) (by omega) (by omega) (by omega) (by omega) (by omega)]
                · exact rW_n (by omega) (by omega) (by omega)
            have hM : xw g A (sW g wf (adS ad adk) σ F2) H := by
              rw [hsw]
              exact hdrop
            have h0s := (hXn.sput σ F2).obj
            refine lv_aload_n hx hb dX1_joinsBest_227 rfl (lh_at hl rfl) ?_
            refine lv_iload_n hx hb dX1_joinsBest_228 rfl (lh_at hl rfl) ?_
            refine x_callv (x_runV (As := [.int (nI a)]) hF hE hS hM hl (xk_reckons l g A wf (joinS ν (t0, a + 1, c' + 1)) (adS ad adk) (joinB β a c') σ F2 a hO' hXn (by show a < vC ν 5 - 1; omega)) (by exact xw.recv hE hM h0s rfl) q1136 q1138 qs13 q38 q1139 ⟨rfl, by decide +kernel, by decide +kernel, by show _ = some 1; decide +kernel⟩ rfl rfl ⟨Nat.le_of_ble_eq_true rfl, Nat.le_of_ble_eq_true rfl⟩ rfl (Nat.le_of_ble_eq_true rfl) dX1_joinsBest_229 ⟨Nat.le_of_ble_eq_true rfl, Nat.le_of_ble_eq_true rfl⟩) hS (fun σ3 H locs hq9 hM hS => ?_)
            refine lv_iconst (v := 1) hx hb dX1_joinsBest_232 (by decide +kernel) ?_
            have hs' : sOk (joinS ν (t0, a + 1, c' + 1)) (rkF (joinS ν (t0, a + 1, c' + 1)) a F2 (vC (joinS ν (t0, a + 1, c' + 1)) 5)) := by
              intro i j hi hj hij
              have hi2 : i < vC ν 5 - 1 := hi
              have hj2 : j < vC ν 5 - 1 := hj
              unfold rkF
              by_cases ei : i = a
              · rw [if_pos ⟨ei, hj⟩, if_neg (fun z => hij (ei.trans z.symm)), ei]
              · rw [if_neg (fun z => ei z.1)]
                by_cases ej : j = a
                · rw [if_pos ⟨ej, hi⟩, if_neg ei, ej, savI_comm]
                · rw [if_neg (fun z => ej z.1), hF3 i j hi2 hj2, hs _ _ (shB_lt hi2 hcB).1 (shB_lt hj2 hcB).1 (by unfold shB; split <;> split <;> omega)]
                  unfold savI
                  rw [join_p hac ei, join_p hac ej, join_l hac ei, join_l hac ej]
                  rfl
            exact hQ ▸ x_zret hx hb hr hlk hS _ rfl (Or.inr ⟨rfl, _, hjn, hO', adS ad adk, joinB β a c', wf, σ3, _, adS_n (by omega), hβ', hXn, hs', rfl⟩) hM dX1_joinsBest_233
          · have hk : k < vC ν 5 - 1 := by omega
            obtain ⟨s1, s2⟩ := hur k (by omega)
            refine lv_aload_n hx hb dX1_joinsBest_194 rfl (lh_at hl rfl) ?_
            refine xr_get (C := RX1) (T := TX1) (N := 12) (ci := 0) (n := 0) hx hb hts in_X1 hown hE hM (by first | assumption | exact va_up_s | rfl | (refine (va_up_n ?_).trans ?_; rotate_left; (first | assumption | exact va_up_s | rfl | (refine (va_up_n ?_).trans ?_; rotate_left; (first | assumption | exact va_up_s | rfl | (refine (va_up_n ?_).trans ?_; rotate_left; (first | assumption | exact va_up_s | rfl | (refine (va_up_n ?_).trans ?_; rotate_left; (first | assumption | exact va_up_s | rfl | (refine (va_up_n ?_).trans ?_; rotate_left; (assumption); omega)); omega)); omega)); omega)); omega)) rfl 7 (by decide) (hts _ q148) (fun _ h => h) rfl dX1_joinsBest_195 ?_
            refine lv_iload hx hb dX1_joinsBest_198 (lh_at hl rfl) ?_
            refine xr_iiald (n := 7) hx hb hE hM (by first | assumption | exact va_up_s | rfl | (refine (va_up_n ?_).trans ?_; rotate_left; (first | assumption | exact va_up_s | rfl | (refine (va_up_n ?_).trans ?_; rotate_left; (first | assumption | exact va_up_s | rfl | (refine (va_up_n ?_).trans ?_; rotate_left; (first | assumption | exact va_up_s | rfl | (refine (va_up_n ?_).trans ?_; rotate_left; (first | assumption | exact va_up_s | rfl | (refine (va_up_n ?_).trans ?_; rotate_left; (assumption); omega)); omega)); omega)); omega)); omega)) (by omega) (by first | decide | omega) (by exact s1) dX1_joinsBest_200 ?_
            refine lv_iload_n hx hb dX1_joinsBest_201 rfl (lh_at hl rfl) ?_
            refine n_const hx hb 1 dX1_joinsBest_202 (by decide +kernel) ?_
            refine n_iadd hx hb dX1_joinsBest_203 ?_
            refine lv_aload_n hx hb dX1_joinsBest_204 rfl (lh_at hl rfl) ?_
            refine xr_get (C := RX1) (T := TX1) (N := 12) (ci := 0) (n := 0) hx hb hts in_X1 hown hE hM (by first | assumption | exact va_up_s | rfl | (refine (va_up_n ?_).trans ?_; rotate_left; (first | assumption | exact va_up_s | rfl | (refine (va_up_n ?_).trans ?_; rotate_left; (first | assumption | exact va_up_s | rfl | (refine (va_up_n ?_).trans ?_; rotate_left; (first | assumption | exact va_up_s | rfl | (refine (va_up_n ?_).trans ?_; rotate_left; (first | assumption | exact va_up_s | rfl | (refine (va_up_n ?_).trans ?_; rotate_left; (assumption); omega)); omega)); omega)); omega)); omega)) rfl 7 (by decide) (hts _ q148) (fun _ h => h) rfl dX1_joinsBest_205 ?_
            refine lv_iload hx hb dX1_joinsBest_208 (lh_at hl rfl) ?_
            refine xr_iiald (n := 7) hx hb hE hM (by first | assumption | exact va_up_s | rfl | (refine (va_up_n ?_).trans ?_; rotate_left; (first | assumption | exact va_up_s | rfl | (refine (va_up_n ?_).trans ?_; rotate_left; (first | assumption | exact va_up_s | rfl | (refine (va_up_n ?_).trans ?_; rotate_left; (first | assumption | exact va_up_s | rfl | (refine (va_up_n ?_).trans ?_; rotate_left; (first | assumption | exact va_up_s | rfl | (refine (va_up_n ?_).trans ?_; rotate_left; (assumption); omega)); omega)); omega)); omega)); omega)) (by omega) (by first | decide | omega) (by exact s1) dX1_joinsBest_210 ?_
            refine lv_iload_n hx hb dX1_joinsBest_211 rfl (lh_at hl rfl) ?_
            refine n_bipush hx hb 40 dX1_joinsBest_212 (by decide +kernel) ?_
            refine lv_iload_n hx hb dX1_joinsBest_214 rfl (lh_at hl rfl) ?_
            refine n_isub hx hb (by omega) dX1_joinsBest_215 ?_
            refine n_const hx hb 1 dX1_joinsBest_216 (by decide +kernel) ?_
            refine n_isub hx hb (by omega) dX1_joinsBest_217 ?_
            refine xr_copyi (sp := c' + 1) (dp := c') (n0 := 100 + k) (n1 := 100 + k) hx hb hml hl hts hown hE hM hS q1177 s2 s2 (by omega) (by omega) (by omega) (by omega) (Nat.le_of_ble_eq_true rfl) (Nat.le_of_ble_eq_true rfl) (Nat.le_of_ble_eq_true rfl) dX1_joinsBest_218 (fun H locs hM hS => ?_)
            refine n_iinc hx hb 1 dX1_joinsBest_221 hl rfl (by decide +kernel) (by decide) (fun ls hl => ?_)
            refine lv_goto (tgt := 180) hx hb dX1_joinsBest_224 (by decide) ?_
            refine ih (k + 1) (by omega) (by omega) _ so2 adk (va_up F2 k (va_cpy (F2 k) (F2 k) (c' + 1) c' (40 - c' - 1))) H locs _ hM hS (fun n n1 n2 => (va_up_n (by omega)).trans (hu n n1 n2)) ((va_up_n (by omega)).trans hu12) ((va_up_n (by omega)).trans hu7) (fun i hi => ⟨(hur i hi).1, ?_⟩) (fun i hi => ?_) (lh_sub hl _ ⟨rfl, rfl, rfl, rfl, trivial⟩)
            · by_cases e : i = k
              · rw [e, va_up_s, va_up_s]
              · rw [va_up_n (by omega), va_up_n e]
                exact (hur i hi).2
            · by_cases e : i = k
              · rw [e, va_up_s, if_pos (by omega), hF2 k hk, if_neg (Nat.lt_irrefl k)]
              · rw [va_up_n e, hF2 i hi]
                by_cases e2 : i < k
                · rw [if_pos e2, if_pos (by omega)]
                · rw [if_neg e2, if_neg (by omega)]
      have L1 : ∀ (n k : Nat), c' ≤ k → k ≤ vC ν 5 - 1 → vC ν 5 - 1 < k + n → ∀ (cells slots : Nat) (u : xw_W) (so2 : Nat → Option Nat) (adk : Nat → Nat) (H : Heap) (locs : List Loc) (ls : Array Slot), cells ≤ 10 + (k - c') → slots ≤ 544 + 40 * (k - c') → xw g A u H → va_S A s.heap H locs → (∀ n, n ≠ 7 → (n < 100 ∨ 140 ≤ n) → u n = w4 n) → u 12 = none → u 7 = some (ad 7, .inl (g.2 2, aQ 40 so2)) → (∀ i, i < 40 → so2 i = some (adk i) ∧ u (100 + i) = some (adk i, .inl (g.2 0, 40, .inl (if c' ≤ i ∧ i < k then F (i + 1) else F i)))) →
          lh ls 6 (xl [(0, .ref (ad 0)), (1, .int (nI a)), (2, .int (nI c')), (4, .int (nI k))]) → W p l e (xrm 9 49 2104) s m args below meth c H locs cells slots Q (F0 m 135 ls []) := by
        intro n
        induction n with
        | zero => intro k h0 h1 h2; exact absurd h2 (by omega)
        | succ n ih =>
          intro k k0 k1 k2 cells slots u so2 adk H locs ls hcl hsl hM hS hu hu12 hu7 hur hl
          have u0 : u 0 = _ := (hu 0 (by omega) (by omega)).trans h04
          have hLu : xLs g u 5 6 (ad 5) (mcw + 1) 5 (bL ad (pickB β c') (vC ν 5 - 1)) := hLr.bLk (hu 5 (by omega) (by omega)) (hu 6 (by omega) (by omega)) (fun i hi => by
            have hsl := shB_lt hi hcB
            show ∃ fs, u (bN β (shB c' i)) = some (ad (bN β (shB c' i)), .inr (5, fs))
            have g3i := bN_ge (β := β) (b := shB c' i)
            rw [hu _ (by omega) (by omega)]
            by_cases e : shB c' i = a
            · rw [e]
              exact ⟨_, w4a⟩
            · obtain ⟨z1, z2, z3, -⟩ := hbdis _ a hsl.1 haB e
              rw [w4k _ (by omega) (by omega) z1 z2 z3 (by omega)]
              exact ⟨_, (hX1.bs hsl.1).1⟩)
          obtain ⟨d5u, hd5u⟩ := hLu.size
          refine lv_iload hx hb dX1_joinsBest_135 (lh_at hl rfl) ?_
          refine lv_aload_n hx hb dX1_joinsBest_137 rfl (lh_at hl rfl) ?_
          refine xr_get (C := RX1) (T := TX1) (N := 12) (ci := 0) (n := 0) hx hb hts in_X1 hown hE hM (by first | assumption | exact va_up_s | rfl | (refine (va_up_n ?_).trans ?_; rotate_left; (first | assumption | exact va_up_s | rfl | (refine (va_up_n ?_).trans ?_; rotate_left; (first | assumption | exact va_up_s | rfl | (refine (va_up_n ?_).trans ?_; rotate_left; (first | assumption | exact va_up_s | rfl | (refine (va_up_n ?_).trans ?_; rotate_left; (first | assumption | exact va_up_s | rfl | (refine (va_up_n ?_).trans ?_; rotate_left; (assumption); omega)); omega)); omega)); omega)); omega)) rfl 6 (by decide) (hts _ q147) (fun _ h => h) rfl dX1_joinsBest_138 ?_
          refine x_callFi (x_runF (As := []) hF hE hS hM hl (jk_size l g A u 5 6 (ad 5) 5 (mcw + 1) _ hLu) (xw.recv hE hM (by first | assumption | exact va_up_s | rfl | (refine (va_up_n ?_).trans ?_; rotate_left; (first | assumption | exact va_up_s | rfl | (refine (va_up_n ?_).trans ?_; rotate_left; (first | assumption | exact va_up_s | rfl | (refine (va_up_n ?_).trans ?_; rotate_left; (first | assumption | exact va_up_s | rfl | (refine (va_up_n ?_).trans ?_; rotate_left; (first | assumption | exact va_up_s | rfl | (refine (va_up_n ?_).trans ?_; rotate_left; (assumption); omega)); omega)); omega)); omega)); omega)) rfl) (xw.at hE (ci := 6) rfl) (List.mem_of_getElem? (i := 0) rfl) q183 q189 q187 q41 q191 ⟨by decide +kernel, by decide +kernel, by show _ = some 0; decide +kernel⟩ rfl rfl ⟨Nat.le_of_ble_eq_true rfl, Nat.le_of_ble_eq_true rfl⟩ rfl (Nat.le_of_ble_eq_true rfl) dX1_joinsBest_141 (by show (_ : Nat) ≤ 49 ∧ (_ : Nat) ≤ 2104; omega)) hS (fun r uu H locs hq hM hS => ?_)
          rw [hq, bL_len]
          refine n_icmp_ge (tgt := 177) hx hb dX1_joinsBest_146 (by decide) (by omega) (by omega) (fun c2 => ?_) (fun c2 => ?_)
          · have ek : k = vC ν 5 - 1 := by omega
            subst ek
            refine n_const hx hb 0 dX1_joinsBest_177 (by decide +kernel) ?_
            refine x_istore hx hb dX1_joinsBest_178 hl (by decide) (fun ls hl => ?_)
            refine L2 _ _ (by omega) (by omega) (vC ν 5) 0 (by omega) (by omega) u so2 adk (fun i => if c' ≤ i ∧ i < vC ν 5 - 1 then F (i + 1) else F i) H locs _ hM hS hu hu12 hu7 hur (fun i hi => ?_) (lh_sub hl _ ⟨rfl, rfl, rfl, rfl, trivial⟩)
            rw [if_neg (Nat.not_lt_zero i)]
            unfold shB
            by_cases e : i < c'
            · rw [if_pos e, if_neg (by omega)]
            · rw [if_neg e, if_pos (by omega)]
          · have hk : k < vC ν 5 - 1 := by omega
            obtain ⟨s1, s2⟩ := hur (k + 1) (by omega)
            refine lv_aload_n hx hb dX1_joinsBest_149 rfl (lh_at hl rfl) ?_
            refine xr_get (C := RX1) (T := TX1) (N := 12) (ci := 0) (n := 0) hx hb hts in_X1 hown hE hM (by first | assumption | exact va_up_s | rfl | (refine (va_up_n ?_).trans ?_; rotate_left; (first | assumption | exact va_up_s | rfl | (refine (va_up_n ?_).trans ?_; rotate_left; (first | assumption | exact va_up_s | rfl | (refine (va_up_n ?_).trans ?_; rotate_left; (first | assumption | exact va_up_s | rfl | (refine (va_up_n ?_).trans ?_; rotate_left; (first | assumption | exact va_up_s | rfl | (refine (va_up_n ?_).trans ?_; rotate_left; (assumption); omega)); omega)); omega)); omega)); omega)) rfl 7 (by decide) (hts _ q148) (fun _ h => h) rfl dX1_joinsBest_150 ?_
            refine lv_iload hx hb dX1_joinsBest_153 (lh_at hl rfl) ?_
            refine lv_aload_n hx hb dX1_joinsBest_155 rfl (lh_at hl rfl) ?_
            refine xr_get (C := RX1) (T := TX1) (N := 12) (ci := 0) (n := 0) hx hb hts in_X1 hown hE hM (by first | assumption | exact va_up_s | rfl | (refine (va_up_n ?_).trans ?_; rotate_left; (first | assumption | exact va_up_s | rfl | (refine (va_up_n ?_).trans ?_; rotate_left; (first | assumption | exact va_up_s | rfl | (refine (va_up_n ?_).trans ?_; rotate_left; (first | assumption | exact va_up_s | rfl | (refine (va_up_n ?_).trans ?_; rotate_left; (first | assumption | exact va_up_s | rfl | (refine (va_up_n ?_).trans ?_; rotate_left; (assumption); omega)); omega)); omega)); omega)); omega)) rfl 7 (by decide) (hts _ q148) (fun _ h => h) rfl dX1_joinsBest_156 ?_
            refine lv_iload hx hb dX1_joinsBest_159 (lh_at hl rfl) ?_
            refine n_const hx hb 1 dX1_joinsBest_161 (by decide +kernel) ?_
            refine n_iadd hx hb dX1_joinsBest_162 ?_
            refine xr_iiald (n := 7) hx hb hE hM (by first | assumption | exact va_up_s | rfl | (refine (va_up_n ?_).trans ?_; rotate_left; (first | assumption | exact va_up_s | rfl | (refine (va_up_n ?_).trans ?_; rotate_left; (first | assumption | exact va_up_s | rfl | (refine (va_up_n ?_).trans ?_; rotate_left; (first | assumption | exact va_up_s | rfl | (refine (va_up_n ?_).trans ?_; rotate_left; (first | assumption | exact va_up_s | rfl | (refine (va_up_n ?_).trans ?_; rotate_left; (assumption); omega)); omega)); omega)); omega)); omega)) (by omega) (by first | decide | omega) (by exact s1) dX1_joinsBest_163 ?_
            refine xr_clone hx hb hml hl hts hown hE hM hS q1172 q373 q374 12 s2 (Nat.le_of_ble_eq_true rfl) (Nat.le_of_ble_eq_true rfl) (Nat.le_of_ble_eq_true rfl) (by show (_ : Nat) ≤ 49; omega) (by show (_ : Nat) ≤ 2104; omega) dX1_joinsBest_164 (fun q9 H hM hS => ?_)
            refine xr_castI (n := 12) hx hb hown hE hM (by first | assumption | exact va_up_s | rfl | (refine (va_up_n ?_).trans ?_; rotate_left; (first | assumption | exact va_up_s | rfl | (refine (va_up_n ?_).trans ?_; rotate_left; (first | assumption | exact va_up_s | rfl | (refine (va_up_n ?_).trans ?_; rotate_left; (first | assumption | exact va_up_s | rfl | (refine (va_up_n ?_).trans ?_; rotate_left; (first | assumption | exact va_up_s | rfl | (refine (va_up_n ?_).trans ?_; rotate_left; (assumption); omega)); omega)); omega)); omega)); omega)) (hts _ q1176) dX1_joinsBest_167 ?_
            have v7 : va_up u 12 (some (q9, .inl (g.2 0, 40, .inl (if c' ≤ k + 1 ∧ k + 1 < k then F (k + 1 + 1) else F (k + 1))))) 7 = some (ad 7, .inl (g.2 2, aQ 40 so2)) := (va_up_n (by decide)).trans hu7
            refine xr_iiast (n := 7) (n2 := 12) hx hb hE hM hS (by first | assumption | exact va_up_s | rfl | (refine (va_up_n ?_).trans ?_; rotate_left; (first | assumption | exact va_up_s | rfl | (refine (va_up_n ?_).trans ?_; rotate_left; (first | assumption | exact va_up_s | rfl | (refine (va_up_n ?_).trans ?_; rotate_left; (first | assumption | exact va_up_s | rfl | (refine (va_up_n ?_).trans ?_; rotate_left; (first | assumption | exact va_up_s | rfl | (refine (va_up_n ?_).trans ?_; rotate_left; (assumption); omega)); omega)); omega)); omega)); omega)) (by omega) (by first | decide | omega) (by first | assumption | exact va_up_s | rfl | (refine (va_up_n ?_).trans ?_; rotate_left; (first | assumption | exact va_up_s | rfl | (refine (va_up_n ?_).trans ?_; rotate_left; (first | assumption | exact va_up_s | rfl | (refine (va_up_n ?_).trans ?_; rotate_left; (first | assumption | exact va_up_s | rfl | (refine (va_up_n ?_).trans ?_; rotate_left; (first | assumption | exact va_up_s | rfl | (refine (va_up_n ?_).trans ?_; rotate_left; (assumption); omega)); omega)); omega)); omega)); omega)) dX1_joinsBest_170 (fun H locs hM hS => ?_)
            have hM := xw.ren hM (100 + k) (n1 := 12) ((va_up_n (by decide)).trans va_up_s)
            refine n_iinc hx hb 1 dX1_joinsBest_171 hl rfl (by decide +kernel) (by decide) (fun ls hl => ?_)
            refine lv_goto (tgt := 135) hx hb dX1_joinsBest_174 (by decide) ?_
            have hz : va_up (va_up (va_up (va_up u 12 (some (q9, .inl (g.2 0, 40, .inl (if c' ≤ k + 1 ∧ k + 1 < k then F (k + 1 + 1) else F (k + 1)))))) 7 (some (ad 7, .inl (g.2 2, aQ 40 (va_up so2 k (some q9)))))) 12 none) (100 + k) (some (q9, .inl (g.2 0, 40, .inl (if c' ≤ k + 1 ∧ k + 1 < k then F (k + 1 + 1) else F (k + 1))))) 7 = some (ad 7, .inl (g.2 2, aQ 40 (va_up so2 k (some q9)))) := by
              rw [va_up_n (by omega), va_up_n (by decide), va_up_s]
            refine ih (k + 1) (by omega) (by omega) (by omega) _ _ _ (va_up so2 k (some q9)) (va_up adk k q9) H locs _ (by omega) (by omega) hM hS (fun n n1 n2 => ?_) ?_ hz (fun i hi => ⟨?_, ?_⟩) (lh_sub hl _ ⟨rfl, rfl, rfl, rfl, trivial⟩)
            · rw [va_up_n (by omega)]
              by_cases e : n = 12
              · rw [e, va_up_s, ← hu 12 (by omega) (by omega), hu12]
              · rw [va_up_n e, va_up_n n1, va_up_n e]
                exact hu n n1 n2
            · rw [va_up_n (by omega), va_up_s]
            · by_cases e : i = k
              · rw [e, va_up_s, va_up_s]
              · rw [va_up_n e, va_up_n e]
                exact (hur i hi).1
            · by_cases e : i = k
              · rw [e, va_up_s, va_up_s, if_neg (show ¬ (c' ≤ k + 1 ∧ k + 1 < k) by omega), if_pos (show c' ≤ k ∧ k < k + 1 by omega)]
              · rw [va_up_n (by omega), va_up_n (by omega), va_up_n (by omega), va_up_n (by omega), va_up_n e, (hur i hi).2]
                by_cases e2 : c' ≤ i ∧ i < k
                · rw [if_pos e2, if_pos (by omega)]
                · rw [if_neg e2, if_neg (by omega)]
      refine L1 (vC ν 5) c' (Nat.le_refl _) (by omega) (by omega) _ _ w4 so (fun i => ad (100 + i)) H locs _ (by show (_ : Nat) ≤ 10 + (c' - c'); omega) (by show (_ : Nat) ≤ 544 + 40 * (c' - c'); omega) hM hS (fun n _ _ => rfl) ((w4k 12 (by omega) (by omega) (by omega) (by omega) (by omega) (by omega)).trans h12) ((w4k 7 (by omega) (by omega) (by omega) (by omega) (by omega) (by omega)).trans hso) (fun i hi => ⟨(hsr i hi).1, ?_⟩) (lh_sub hl _ ⟨rfl, rfl, rfl, rfl, trivial⟩)
      rw [w4k (100 + i) (by omega) (by omega) (by omega) (by omega) (by omega) (by omega), hrow i hi, if_neg (by omega)]
    · rw [if_pos (by omega)] at hjn
      refine lv_iconst (v := 0) hx hb dX1_joinsBest_90 (by decide +kernel) ?_
      refine W.widen (k := 49) (n := 2104) (Nat.le_of_ble_eq_true rfl) (Nat.le_of_ble_eq_true rfl) ?_
      exact hQ ▸ x_zret hx hb hr hlk hS W1 rfl (Or.inl ⟨rfl, hjn, hW1⟩) hM dX1_joinsBest_91
  have J : ∀ (n k : Nat), k ≤ vC ν 5 → vC ν 5 < k + n → ∀ (H : Heap) (locs : List Loc) (ls : Array Slot), xw g A W1 H → va_S A s.heap H locs → lh ls 6 (xl [(0, .ref (ad 0)), (1, .int (nI ((bestO ν k).2.1 - 1))), (2, .int (nI ((bestO ν k).2.2 - 1))), (3, .int (nI (bestO ν k).1)), (4, .int (nI k))]) → W p l e (xrm 9 49 2104) s m args below meth c H locs 0 0 Q (F0 m 9 ls []) := by
    intro n
    induction n with
    | zero => intro k h1 h2; exact absurd h2 (by omega)
    | succ n ih =>
      intro k h1 h2 H locs ls hM hS hl
      refine lv_iload hx hb dX1_joinsBest_9 (lh_at hl rfl) ?_
      refine lv_aload_n hx hb dX1_joinsBest_11 rfl (lh_at hl rfl) ?_
      refine xr_get (C := RX1) (T := TX1) (N := 12) (ci := 0) (n := 0) hx hb hts in_X1 hown hE hM (by first | assumption | exact va_up_s | rfl | (refine (va_up_n ?_).trans ?_; rotate_left; (first | assumption | exact va_up_s | rfl | (refine (va_up_n ?_).trans ?_; rotate_left; (first | assumption | exact va_up_s | rfl | (refine (va_up_n ?_).trans ?_; rotate_left; (first | assumption | exact va_up_s | rfl | (refine (va_up_n ?_).trans ?_; rotate_left; (first | assumption | exact va_up_s | rfl | (refine (va_up_n ?_).trans ?_; rotate_left; (assumption); omega)); omega)); omega)); omega)); omega)) rfl 6 (by decide) (hts _ q147) (fun _ h => h) rfl dX1_joinsBest_12 ?_
      refine x_callFi (x_runF (As := []) hF hE hS hM hl (jk_size l g A W1 5 6 (ad 5) 5 mcw _ hLw) (xw.recv hE hM (by first | assumption | exact va_up_s | rfl | (refine (va_up_n ?_).trans ?_; rotate_left; (first | assumption | exact va_up_s | rfl | (refine (va_up_n ?_).trans ?_; rotate_left; (first | assumption | exact va_up_s | rfl | (refine (va_up_n ?_).trans ?_; rotate_left; (first | assumption | exact va_up_s | rfl | (refine (va_up_n ?_).trans ?_; rotate_left; (first | assumption | exact va_up_s | rfl | (refine (va_up_n ?_).trans ?_; rotate_left; (assumption); omega)); omega)); omega)); omega)); omega)) rfl) (xw.at hE (ci := 6) rfl) (List.mem_of_getElem? (i := 0) rfl) q183 q189 q187 q41 q191 ⟨by decide +kernel, by decide +kernel, by show _ = some 0; decide +kernel⟩ rfl rfl ⟨Nat.le_of_ble_eq_true rfl, Nat.le_of_ble_eq_true rfl⟩ rfl (Nat.le_of_ble_eq_true rfl) dX1_joinsBest_15 ⟨Nat.le_of_ble_eq_true rfl, Nat.le_of_ble_eq_true rfl⟩) hS (fun r uu H locs hq hM hS => ?_)
      rw [hq, bL_len]
      refine n_icmp_ge (tgt := 86) hx hb dX1_joinsBest_20 (by decide) (by omega) (by omega) (fun c1 => ?_) (fun c1 => ?_)
      · have ek : k = vC ν 5 := by omega
        rw [ek] at hl
        exact K H locs _ hM hS (lh_sub hl _ ⟨rfl, rfl, rfl, rfl, trivial⟩)
      · have hk : k < vC ν 5 := by omega
        have hbk := bestO_ok hV hO.W k (by omega)
        refine lv_iload hx hb dX1_joinsBest_23 (lh_at hl rfl) ?_
        refine n_const hx hb 1 dX1_joinsBest_25 (by decide +kernel) ?_
        refine n_iadd hx hb dX1_joinsBest_26 ?_
        refine x_istore hx hb dX1_joinsBest_27 hl (by decide) (fun ls hl => ?_)
        have I : ∀ (n2 q : Nat), k + 1 + q ≤ vC ν 5 → vC ν 5 < k + 1 + q + n2 → ∀ (H : Heap) (locs : List Loc) (ls : Array Slot), xw g A W1 H → va_S A s.heap H locs → lh ls 6 (xl [(0, .ref (ad 0)), (1, .int (nI ((bestI ν (bestO ν k) k q).2.1 - 1))), (2, .int (nI ((bestI ν (bestO ν k) k q).2.2 - 1))), (3, .int (nI (bestI ν (bestO ν k) k q).1)), (4, .int (nI k)), (5, .int (nI (k + 1 + q)))]) → W p l e (xrm 9 49 2104) s m args below meth c H locs 0 0 Q (F0 m 29 ls []) := by
          intro n2
          induction n2 with
          | zero => intro q h1 h2; exact absurd h2 (by omega)
          | succ n2 ih2 =>
            intro q e1 e2 H locs ls hM hS hl
            refine lv_iload hx hb dX1_joinsBest_29 (lh_at hl rfl) ?_
            refine lv_aload_n hx hb dX1_joinsBest_31 rfl (lh_at hl rfl) ?_
            refine xr_get (C := RX1) (T := TX1) (N := 12) (ci := 0) (n := 0) hx hb hts in_X1 hown hE hM (by first | assumption | exact va_up_s | rfl | (refine (va_up_n ?_).trans ?_; rotate_left; (first | assumption | exact va_up_s | rfl | (refine (va_up_n ?_).trans ?_; rotate_left; (first | assumption | exact va_up_s | rfl | (refine (va_up_n ?_).trans ?_; rotate_left; (first | assumption | exact va_up_s | rfl | (refine (va_up_n ?_).trans ?_; rotate_left; (first | assumption | exact va_up_s | rfl | (refine (va_up_n ?_).trans ?_; rotate_left; (assumption); omega)); omega)); omega)); omega)); omega)) rfl 6 (by decide) (hts _ q147) (fun _ h => h) rfl dX1_joinsBest_32 ?_
            refine x_callFi (x_runF (As := []) hF hE hS hM hl (jk_size l g A W1 5 6 (ad 5) 5 mcw _ hLw) (xw.recv hE hM (by first | assumption | exact va_up_s | rfl | (refine (va_up_n ?_).trans ?_; rotate_left; (first | assumption | exact va_up_s | rfl | (refine (va_up_n ?_).trans ?_; rotate_left; (first | assumption | exact va_up_s | rfl | (refine (va_up_n ?_).trans ?_; rotate_left; (first | assumption | exact va_up_s | rfl | (refine (va_up_n ?_).trans ?_; rotate_left; (first | assumption | exact va_up_s | rfl | (refine (va_up_n ?_).trans ?_; rotate_left; (assumption); omega)); omega)); omega)); omega)); omega)) rfl) (xw.at hE (ci := 6) rfl) (List.mem_of_getElem? (i := 0) rfl) q183 q189 q187 q41 q191 ⟨by decide +kernel, by decide +kernel, by show _ = some 0; decide +kernel⟩ rfl rfl ⟨Nat.le_of_ble_eq_true rfl, Nat.le_of_ble_eq_true rfl⟩ rfl (Nat.le_of_ble_eq_true rfl) dX1_joinsBest_35 ⟨Nat.le_of_ble_eq_true rfl, Nat.le_of_ble_eq_true rfl⟩) hS (fun r uu H locs hq7 hM hS => ?_)
            rw [hq7, bL_len]
            refine n_icmp_ge (tgt := 80) hx hb dX1_joinsBest_40 (by decide) (by omega) (by omega) (fun c2 => ?_) (fun c2 => ?_)
            · have ee : q = vC ν 5 - (k + 1) := by omega
              have hbe : bestO ν (k + 1) = bestI ν (bestO ν k) k q := by rw [ee]; rfl
              rw [← hbe] at hl
              refine n_iinc hx hb 1 dX1_joinsBest_80 hl rfl (by decide +kernel) (by decide) (fun ls hl => ?_)
              refine lv_goto (tgt := 9) hx hb dX1_joinsBest_83 (by decide) ?_
              exact ih (k + 1) (by omega) (by omega) H locs _ hM hS (lh_sub hl _ ⟨rfl, rfl, rfl, rfl, rfl, trivial⟩)
            · have hj : k + 1 + q < vC ν 5 := by omega
              have hbi := bestI_ok hV hO.W hbk q (by omega)
              have hbe : bestI ν (bestO ν k) k (q + 1) = stepJ ν (bestI ν (bestO ν k) k q) k (k + 1 + q) := rfl
              obtain ⟨sg1, sg2⟩ := savI_gt hO hk hj hbi.1
              have hsk := hs k (k + 1 + q) hk hj (by omega)
              have hrk := hrow k (by omega)
              refine lv_aload_n hx hb dX1_joinsBest_43 rfl (lh_at hl rfl) ?_
              refine xr_get (C := RX1) (T := TX1) (N := 12) (ci := 0) (n := 0) hx hb hts in_X1 hown hE hM (by first | assumption | exact va_up_s | rfl | (refine (va_up_n ?_).trans ?_; rotate_left; (first | assumption | exact va_up_s | rfl | (refine (va_up_n ?_).trans ?_; rotate_left; (first | assumption | exact va_up_s | rfl | (refine (va_up_n ?_).trans ?_; rotate_left; (first | assumption | exact va_up_s | rfl | (refine (va_up_n ?_).trans ?_; rotate_left; (first | assumption | exact va_up_s | rfl | (refine (va_up_n ?_).trans ?_; rotate_left; (assumption); omega)); omega)); omega)); omega)); omega)) rfl 7 (by decide) (hts _ q148) (fun _ h => h) rfl dX1_joinsBest_44 ?_
              refine lv_iload hx hb dX1_joinsBest_47 (lh_at hl rfl) ?_
              refine xr_iiald (n := 7) hx hb hE hM (by first | assumption | exact va_up_s | rfl | (refine (va_up_n ?_).trans ?_; rotate_left; (first | assumption | exact va_up_s | rfl | (refine (va_up_n ?_).trans ?_; rotate_left; (first | assumption | exact va_up_s | rfl | (refine (va_up_n ?_).trans ?_; rotate_left; (first | assumption | exact va_up_s | rfl | (refine (va_up_n ?_).trans ?_; rotate_left; (first | assumption | exact va_up_s | rfl | (refine (va_up_n ?_).trans ?_; rotate_left; (assumption); omega)); omega)); omega)); omega)); omega)) (by omega) (by first | decide | omega) (by exact (hsr k (by omega)).1) dX1_joinsBest_49 ?_
              refine lv_iload hx hb dX1_joinsBest_50 (lh_at hl rfl) ?_
              refine xr_iald (n := (100 + k)) hx hb hE hM (by first | assumption | exact va_up_s | rfl | (refine (va_up_n ?_).trans ?_; rotate_left; (first | assumption | exact va_up_s | rfl | (refine (va_up_n ?_).trans ?_; rotate_left; (first | assumption | exact va_up_s | rfl | (refine (va_up_n ?_).trans ?_; rotate_left; (first | assumption | exact va_up_s | rfl | (refine (va_up_n ?_).trans ?_; rotate_left; (first | assumption | exact va_up_s | rfl | (refine (va_up_n ?_).trans ?_; rotate_left; (assumption); omega)); omega)); omega)); omega)); omega)) (by omega) (by first | decide | omega) (by exact hsk) dX1_joinsBest_52 ?_
              refine lv_iload_n hx hb dX1_joinsBest_53 rfl (lh_at hl rfl) ?_
              refine lv_icmp_le (tgt := 74) hx hb dX1_joinsBest_54 (by decide) (fun c3 => ?_) (fun c3 => ?_)
              · have hno : ¬ (lAll ν k + lAll ν (k + 1 + q) ≤ vC ν 3 ∧ lenN ν (pAll ν k ||| pAll ν (k + 1 + q)) + (bestI ν (bestO ν k) k q).1 < lenN ν (pAll ν k) + lenN ν (pAll ν (k + 1 + q))) := fun z => sg1.mpr z c3
                have hst : stepJ ν (bestI ν (bestO ν k) k q) k (k + 1 + q) = bestI ν (bestO ν k) k q := by
                  unfold stepJ
                  rw [if_neg hno]
                refine n_iinc hx hb 1 dX1_joinsBest_74 hl rfl (by decide +kernel) (by decide) (fun ls hl => ?_)
                refine lv_goto (tgt := 29) hx hb dX1_joinsBest_77 (by decide) ?_
                exact ih2 (q + 1) (by omega) (by omega) H locs _ hM hS (lh_sub hl _ ⟨rfl, by rw [hbe, hst]; rfl, by rw [hbe, hst]; rfl, by rw [hbe, hst]; rfl, rfl, rfl, trivial⟩)
              · have hyes := sg1.mp c3
                have hst : stepJ ν (bestI ν (bestO ν k) k q) k (k + 1 + q) = (lenN ν (pAll ν k) + lenN ν (pAll ν (k + 1 + q)) - lenN ν (pAll ν k ||| pAll ν (k + 1 + q)), k + 1, k + 1 + q + 1) := by
                  unfold stepJ
                  rw [if_pos hyes]
                refine lv_iload hx hb dX1_joinsBest_57 (lh_at hl rfl) ?_
                refine x_istore_n hx hb dX1_joinsBest_59 rfl hl (by decide) (fun ls hl => ?_)
                refine lv_iload hx hb dX1_joinsBest_60 (lh_at hl rfl) ?_
                refine x_istore_n hx hb dX1_joinsBest_62 rfl hl (by decide) (fun ls hl => ?_)
                refine lv_aload_n hx hb dX1_joinsBest_63 rfl (lh_at hl rfl) ?_
                refine xr_get (C := RX1) (T := TX1) (N := 12) (ci := 0) (n := 0) hx hb hts in_X1 hown hE hM (by first | assumption | exact va_up_s | rfl | (refine (va_up_n ?_).trans ?_; rotate_left; (first | assumption | exact va_up_s | rfl | (refine (va_up_n ?_).trans ?_; rotate_left; (first | assumption | exact va_up_s | rfl | (refine (va_up_n ?_).trans ?_; rotate_left; (first | assumption | exact va_up_s | rfl | (refine (va_up_n ?_).trans ?_; rotate_left; (first | assumption | exact va_up_s | rfl | (refine (va_up_n ?_).trans ?_; rotate_left; (assumption); omega)); omega)); omega)); omega)); omega)) rfl 7 (by decide) (hts _ q148) (fun _ h => h) rfl dX1_joinsBest_64 ?_
                refine lv_iload hx hb dX1_joinsBest_67 (lh_at hl rfl) ?_
                refine xr_iiald (n := 7) hx hb hE hM (by first | assumption | exact va_up_s | rfl | (refine (va_up_n ?_).trans ?_; rotate_left; (first | assumption | exact va_up_s | rfl | (refine (va_up_n ?_).trans ?_; rotate_left; (first | assumption | exact va_up_s | rfl | (refine (va_up_n ?_).trans ?_; rotate_left; (first | assumption | exact va_up_s | rfl | (refine (va_up_n ?_).trans ?_; rotate_left; (first | assumption | exact va_up_s | rfl | (refine (va_up_n ?_).trans ?_; rotate_left; (assumption); omega)); omega)); omega)); omega)); omega)) (by omega) (by first | decide | omega) (by exact (hsr k (by omega)).1) dX1_joinsBest_69 ?_
                refine lv_iload hx hb dX1_joinsBest_70 (lh_at hl rfl) ?_
                refine xr_iald (n := (100 + k)) hx hb hE hM (by first | assumption | exact va_up_s | rfl | (refine (va_up_n ?_).trans ?_; rotate_left; (first | assumption | exact va_up_s | rfl | (refine (va_up_n ?_).trans ?_; rotate_left; (first | assumption | exact va_up_s | rfl | (refine (va_up_n ?_).trans ?_; rotate_left; (first | assumption | exact va_up_s | rfl | (refine (va_up_n ?_).trans ?_; rotate_left; (first | assumption | exact va_up_s | rfl | (refine (va_up_n ?_).trans ?_; rotate_left; (assumption); omega)); omega)); omega)); omega)); omega)) (by omega) (by first | decide | omega) (by exact hsk.trans (sg2 hyes)) dX1_joinsBest_72 ?_
                refine x_istore_n hx hb dX1_joinsBest_73 rfl hl (by decide) (fun ls hl => ?_)
                refine n_iinc hx hb 1 dX1_joinsBest_74 hl rfl (by decide +kernel) (by decide) (fun ls hl => ?_)
                refine lv_goto (tgt := 29) hx hb dX1_joinsBest_77 (by decide) ?_
                exact ih2 (q + 1) (by omega) (by omega) H locs _ hM hS (lh_sub hl _ ⟨rfl, by rw [hbe, hst]; rfl, by rw [hbe, hst]; rfl, by rw [hbe, hst]; rfl, rfl, rfl, trivial⟩)
        exact I (vC ν 5) 0 (by omega) (by omega) H locs _ hM hS (lh_sub hl _ ⟨rfl, rfl, rfl, rfl, rfl, rfl, trivial⟩)
  refine n_const hx hb 0 dX1_joinsBest_0 (by decide +kernel) ?_
  refine x_istore_n hx hb dX1_joinsBest_1 rfl hl (by decide) (fun ls hl => ?_)
  refine n_const hx hb 0 dX1_joinsBest_2 (by decide +kernel) ?_
  refine x_istore_n hx hb dX1_joinsBest_3 rfl hl (by decide) (fun ls hl => ?_)
  refine n_const hx hb 0 dX1_joinsBest_4 (by decide +kernel) ?_
  refine x_istore_n hx hb dX1_joinsBest_5 rfl hl (by decide) (fun ls hl => ?_)
  refine n_const hx hb 0 dX1_joinsBest_6 (by decide +kernel) ?_
  refine x_istore hx hb dX1_joinsBest_7 hl (by decide) (fun ls hl => ?_)
  exact J (vC ν 5 + 1) 0 (by omega) (by omega) _ _ _ hM hS (lh_sub hl _ ⟨rfl, rfl, rfl, rfl, rfl, trivial⟩)
