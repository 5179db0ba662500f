/-! Aislewright: pick -/
set_option maxRecDepth 100000
section PL
variable {g : xg} {ν : nS} {ad : Nat → Nat} {β : Nat → List Nat} {w u : xw_W} {nL nD a : Nat} {mc : Int32}
theorem xLs.bEk {l : List Nat} (h : xLs g w nL nD a mc 4 (bE ad l)) (h1 : u nL = w nL) (h2 : u nD = w nD) (ho : ∀ o ∈ l, ∃ fs, u (2000 + 2 * o) = some (ad (2000 + 2 * o), .inr (4, fs))) : xLs g u nL nD a mc 4 (bE ad l) :=
  h.keep2 h1 h2 (fun y hy k fs e => by
    obtain ⟨o, h3, rfl⟩ := List.mem_map.mp hy
    obtain ⟨fs', h4⟩ := ho o h3
    exact ⟨_, fs', h4⟩)
theorem xLs.oLk {n : Nat} (h : xLs g w nL nD a mc 4 (oL ad n)) (h1 : u nL = w nL) (h2 : u nD = w nD) (ho : ∀ o, o < n → ∃ fs, u (2000 + 2 * o) = some (ad (2000 + 2 * o), .inr (4, fs))) : xLs g u nL nD a mc 4 (oL ad n) :=
  h.keep2 h1 h2 (fun y hy k fs e => by
    obtain ⟨o, h3, rfl⟩ := List.mem_map.mp hy
    obtain ⟨fs', h4⟩ := ho o (List.mem_range.mp h3)
    exact ⟨_, fs', h4⟩)
theorem xLs.bLk {n : Nat} (h : xLs g w nL nD a mc 5 (bL ad β n)) (h1 : u nL = w nL) (h2 : u nD = w nD) (ho : ∀ b, b < n → ∃ fs, u (bN β b) = some (ad (bN β b), .inr (5, fs))) : xLs g u nL nD a mc 5 (bL ad β n) :=
  h.keep2 h1 h2 (fun y hy k fs e => by
    obtain ⟨o, h3, rfl⟩ := List.mem_map.mp hy
    obtain ⟨fs', h4⟩ := ho o (List.mem_range.mp h3)
    exact ⟨_, fs', h4⟩)
theorem erase_map {α : Type} {f : Nat → α} {n b : Nat} (hb : b < n) : ((List.range n).map f).eraseIdx b = (List.range (n - 1)).map (fun c => f (if c < b then c else c + 1)) := by
  refine List.ext_getElem? (fun i => ?_)
  rw [List.getElem?_eraseIdx]
  by_cases h1 : i < b
  · rw [if_pos h1, List.getElem?_map, List.getElem?_map, List.getElem?_range (by omega), List.getElem?_range (by omega)]
    simp [h1]
  · rw [if_neg h1]
    by_cases h2 : i < n - 1
    · rw [List.getElem?_map, List.getElem?_map, List.getElem?_range (by omega), List.getElem?_range h2]
      simp [h1]
    · rw [List.getElem?_eq_none (by simp; omega), List.getElem?_eq_none (by simp; omega)]
theorem bL_pick {b n : Nat} (hb : b < n) : (bL ad β n).eraseIdx b = bL ad (pickB β b) (n - 1) := by
  unfold bL
  rw [erase_map hb]
  rfl
theorem rW_id {σ : rS} (h : ∀ n, n = 8 ∨ n = 9 ∨ (1000 ≤ n ∧ n < 1512) → u n = rW g w ad σ n) : ∀ n, rW g u ad σ n = u n := by
  intro n
  by_cases hn : n = 8 ∨ n = 9 ∨ (1000 ≤ n ∧ n < 1512)
  · rw [h n hn]
    unfold rW
    rcases hn with rfl | rfl | hn
    · rfl
    · rfl
    · rw [if_neg (by omega), if_neg (by omega), if_pos hn, if_neg (by omega), if_neg (by omega), if_pos hn]
  · exact rW_n (by omega) (by omega) (by omega)
/-- at the router's names another base doesn't matter -/
theorem rW_base {σ : rS} {n : Nat} (hn : n = 8 ∨ n = 9 ∨ (1000 ≤ n ∧ n < 1512)) : rW g u ad σ n = rW g w ad σ n := by
  unfold rW
  rcases hn with rfl | rfl | hn
  · rfl
  · rfl
  · rw [if_neg (by omega), if_neg (by omega), if_pos hn, if_neg (by omega), if_neg (by omega), if_pos hn]
end PL
/-- a list's array, or no name for it -/
theorem xLs.clean {g : xg} {A : Nat → Prop} {H : Heap} {w : xw_W} {nL nD a ci : Nat} {mc : Int32} {es : List Nat} (h : xLs g w nL nD a mc ci es) (hne : nL ≠ nD) (hM : xw g A w H) : ∃ w', xw g A w' H ∧ xLs g w' nL nD a mc ci es ∧ (∀ b c fs, w' nD = some (b, .inr (c, fs)) → False) ∧ xAg1 w w' nD := by
  obtain ⟨d, h1, h2, h3, h4⟩ := id h
  rcases h4 with ⟨h5, h6⟩ | ⟨cap, f, h5, h6⟩
  · refine ⟨va_up w nD none, hM.mono (fun n q e => ?_), ⟨d, (va_up_n hne).trans h1, h2, fun y hy => ?_, Or.inl ⟨h5, h6⟩⟩, fun b c fs e => ?_, fun n hn => va_up_n hn⟩
    · by_cases c : n = nD
      · rw [c, va_up_s] at e
        cases e
      · rw [va_up_n c] at e
        exact e
    · rw [h5] at hy
      exact absurd hy List.not_mem_nil
    · rw [va_up_s] at e
      cases e
  · refine ⟨w, hM, h, fun b c fs e => ?_, fun n hn => rfl⟩
    rw [h5] at e
    cases e
theorem take_not {l : List Nat} (h : l.Nodup) {k : Nat} (hk : k < l.length) : l[k] ∉ l.take k := by
  intro hm
  obtain ⟨j, hj⟩ := List.getElem?_of_mem hm
  have hjl := (List.getElem?_eq_some_iff.mp hj).1
  rw [List.length_take] at hjl
  rw [List.getElem?_take_of_lt (by omega)] at hj
  have e : l[j]? = l[k]? := by rw [hj, List.getElem?_eq_getElem hk]
  have := (List.getElem?_inj (by omega) h).mp e
  omega
set_option maxHeartbeats 2000000 in
theorem xk_pick (l : Launch) (hlt : l.stackTraces = false) (g : xg) (A : Nat → Prop) (w : xw_W) (ν : nS) (x0 : Nat) (p0 : Int32) (h : xI g ν x0 w) :
    vx_Met l yX1_pick (ws_ yX1_pick cX1_pick 7 (some .int)) (xrm 8 10 1534) (xPw g A w [.ref x0, .int p0]) (opQi g A x0 (opPick ν p0)) (opQX g A w [eIB] (opPick ν p0)) 10 1534 A := by
  obtain ⟨hO, ad, β, rfl, hβ, hX⟩ := id h
  have h0 := hX.obj
  have hN := hO.N
  have hB := hO.B
  have hV := hO.V
  obtain ⟨f1, hf1, hf1v⟩ := hX.pl
  obtain ⟨ft0, hft0, hft0v⟩ := hX.tu
  obtain ⟨ro, hro, hrov⟩ := hX.rst
  refine x_startX rfl (Nat.le_of_ble_eq_true rfl) ?_
  intro p e s m below meth c hx hb hr hlk hml hxt hown hts hnm hE hM hS ls hl
  have hF : xFix p m c cX1_pick 7 s _ RX1 := ⟨hx, hb, hml, hown, hts⟩
  generalize hargs : List.toArray _ = args at hts hF ⊢
  generalize hQ : vx_MQ below _ _ _ s _ _ A = Q
  refine lv_aload_n hx hb dX1_pick_0 rfl (lh_at hl rfl) ?_
  refine lv_iload_n hx hb dX1_pick_1 rfl (lh_at hl rfl) ?_
  refine x_tcallr (x_runVX (As := [.int p0]) hF hE hS hM hl (xk_batch l hlt g A w ν ad β p0 hO hX) (xw.recv hE hM (by first | assumption | exact va_up_s | rfl | (refine (va_up_n ?_).trans ?_; rotate_left; (first | assumption | exact va_up_s | rfl | (refine (va_up_n ?_).trans ?_; rotate_left; (first | assumption | exact va_up_s | rfl | (refine (va_up_n ?_).trans ?_; rotate_left; (first | assumption | exact va_up_s | rfl | (refine (va_up_n ?_).trans ?_; rotate_left; (first | assumption | exact va_up_s | rfl | (refine (va_up_n ?_).trans ?_; rotate_left; (assumption); omega)); omega)); omega)); omega)); omega)) rfl) q1185 q1187 qs17 q38 q1188 ⟨rfl, by decide +kernel, by decide +kernel, by show _ = some 1; decide +kernel⟩ rfl rfl ⟨Nat.le_of_ble_eq_true rfl, Nat.le_of_ble_eq_true rfl⟩ rfl (Nat.le_of_ble_eq_true rfl) dX1_pick_2 ⟨Nat.le_of_ble_eq_true rfl, Nat.le_of_ble_eq_true rfl⟩) hS hQ hxt hlk (Nat.le_of_ble_eq_true rfl) (Nat.le_of_ble_eq_true rfl) (fun E9 H9 hE9 hP9 => ?_) (fun uu ra H locs hq hM hS => ?_)
  · exact ⟨⟨xCode.at (by unfold opPick; rw [hE9.2]) rfl hE9.1, rfl⟩, hP9⟩
  · obtain ⟨⟨b, hb0, hra⟩, hM⟩ := hM
    rw [hra]
    have hbB := (xr_some (by omega) hb0).1
    obtain ⟨-, hpb⟩ := xr_some (by omega) hb0
    have hop : opPick ν p0 = (0, nI (lenN ν (pAll ν b)), pickS ν b) := by
      unfold opPick
      rw [hb0]
    obtain ⟨hb2, mc2, hL2⟩ := hX.bs hbB
    obtain ⟨hnd, hne, hmem⟩ := hβ b hbB
    have hbN3 := bN_ge (β := β) (b := b)
    have hblt : ∀ o ∈ β b, o < vC ν 4 := fun o ho => ((hmem o).mp ho).1
    refine x_astore_n hx hb dX1_pick_5 rfl hl (by decide) (fun ls hl => ?_)
    refine lv_aload_n hx hb dX1_pick_6 rfl (lh_at hl rfl) ?_
    refine xr_get (C := RX1) (T := TX1) (N := 12) (ci := 0) (n := 0) hx hb hts in_X1 hown hE hM (by first | assumption | exact va_up_s | rfl | (refine (va_up_n ?_).trans ?_; rotate_left; (first | assumption | exact va_up_s | rfl | (refine (va_up_n ?_).trans ?_; rotate_left; (first | assumption | exact va_up_s | rfl | (refine (va_up_n ?_).trans ?_; rotate_left; (first | assumption | exact va_up_s | rfl | (refine (va_up_n ?_).trans ?_; rotate_left; (first | assumption | exact va_up_s | rfl | (refine (va_up_n ?_).trans ?_; rotate_left; (assumption); omega)); omega)); omega)); omega)); omega)) rfl 8 (by decide) (hts _ q149) (fun _ h => h) rfl dX1_pick_7 ?_
    refine lv_aload_n hx hb dX1_pick_10 rfl (lh_at hl rfl) ?_
    refine xr_getN (C := RX6) (T := TX6) (N := 3) (ci := 5) (n := (bN β b)) hx hb hts in_X6 hown hE hM (by first | assumption | exact va_up_s | rfl | (refine (va_up_n ?_).trans ?_; rotate_left; (first | assumption | exact va_up_s | rfl | (refine (va_up_n ?_).trans ?_; rotate_left; (first | assumption | exact va_up_s | rfl | (refine (va_up_n ?_).trans ?_; rotate_left; (first | assumption | exact va_up_s | rfl | (refine (va_up_n ?_).trans ?_; rotate_left; (first | assumption | exact va_up_s | rfl | (refine (va_up_n ?_).trans ?_; rotate_left; (assumption); omega)); omega)); omega)); omega)); omega)) rfl 1 (by decide) q1125 (fun _ h => h) rfl dX1_pick_11 ?_
    obtain ⟨σ0, hM, hX0⟩ := hX.rget hM
    refine x_calli (x_runV (As := [.int (nI (pAll ν b))]) hF hE hS hM hl (xk_length l g A w ad σ0 ν (pAll ν b) hX.rB hV (hO.pset hbB)) (by exact xw.recv hE hM rW_8 rfl) q1021 q1022 q1023 q42 q1024 ⟨rfl, by decide +kernel, by decide +kernel, by show _ = some 1; decide +kernel⟩ rfl rfl ⟨Nat.le_of_ble_eq_true rfl, Nat.le_of_ble_eq_true rfl⟩ rfl (Nat.le_of_ble_eq_true rfl) dX1_pick_14 ⟨Nat.le_of_ble_eq_true rfl, Nat.le_of_ble_eq_true rfl⟩) hS (fun r σ1 H locs hq1 hM hS => ?_)
    rw [hq1.1]
    clear hq1
    have hX1 := hX.rput σ1
    have hb21 := (hX1.bs hbB).1
    obtain ⟨-, mc2, hL21⟩ := hX1.bs hbB
    obtain ⟨dl, hdl⟩ := hL21.size
    have h111 : rW g w ad σ1 11 = none := hX1.tmp (by decide) (by decide)
    refine x_istore_n hx hb dX1_pick_17 rfl hl (by decide) (fun ls hl => ?_)
    refine lv_aload_n hx hb dX1_pick_18 rfl (lh_at hl rfl) ?_
    refine xr_getN (C := RX6) (T := TX6) (N := 3) (ci := 5) (n := (bN β b)) hx hb hts in_X6 hown hE hM (by first | assumption | exact va_up_s | rfl | (refine (va_up_n ?_).trans ?_; rotate_left; (first | assumption | exact va_up_s | rfl | (refine (va_up_n ?_).trans ?_; rotate_left; (first | assumption | exact va_up_s | rfl | (refine (va_up_n ?_).trans ?_; rotate_left; (first | assumption | exact va_up_s | rfl | (refine (va_up_n ?_).trans ?_; rotate_left; (first | assumption | exact va_up_s | rfl | (refine (va_up_n ?_).trans ?_; rotate_left; (assumption); omega)); omega)); omega)); omega)); omega)) rfl 0 (by decide) q1123 (fun _ h => h) rfl dX1_pick_19 ?_
    refine x_callFr (x_runF (As := []) hF hE hS hM hl (jk_iterator l g A (rW g w ad σ1) (bN β b + 1) (bN β b + 2) 11 (ad (bN β b + 1)) 4 mc2 _ hL21 (by omega) (fun q hq => by rw [h111] at hq; cases hq) (fun q fs e => by rw [h111] at e; cases e)) (xw.recv hE hM (by first | assumption | exact va_up_s | rfl | (refine (va_up_n ?_).trans ?_; rotate_left; (first | assumption | exact va_up_s | rfl | (refine (va_up_n ?_).trans ?_; rotate_left; (first | assumption | exact va_up_s | rfl | (refine (va_up_n ?_).trans ?_; rotate_left; (first | assumption | exact va_up_s | rfl | (refine (va_up_n ?_).trans ?_; rotate_left; (first | assumption | exact va_up_s | rfl | (refine (va_up_n ?_).trans ?_; rotate_left; (assumption); omega)); omega)); omega)); omega)); omega)) rfl) (xw.at hE (ci := 6) rfl) (List.mem_of_getElem? (i := 5) rfl) q1049 q1054 q1052 q41 q1056 ⟨by decide +kernel, by decide +kernel, by show _ = some 0; decide +kernel⟩ rfl rfl ⟨Nat.le_of_ble_eq_true rfl, Nat.le_of_ble_eq_true rfl⟩ rfl (Nat.le_of_ble_eq_true rfl) dX1_pick_22 ⟨Nat.le_of_ble_eq_true rfl, Nat.le_of_ble_eq_true rfl⟩) hS (fun u0 it H locs hq2 hM hS => ?_)
    obtain ⟨⟨hit, hag⟩, hM⟩ := hM
    rw [hag.eq hit] at hM
    clear hag hit
    refine x_astore hx hb dX1_pick_27 hl (by decide) (fun ls hl => ?_)
    have J : ∀ (n k : Nat), k ≤ (β b).length → (β b).length < k + n → ∀ (σ : rS) (u : xw_W) (ft : Nat → Int32) (last : Int32) (H : Heap) (locs : List Loc) (ls : Array Slot), xw g A u H → va_S A s.heap H locs →
        u 0 = some (ad 0, .inr (0, fX ad ν (nI (vC ν 6)) (nI (vC ν 7 + suL (fun o => lenN ν (wantN ν o)) ((β b).take k))))) → u 2 = some (ad 2, .inl (g.2 0, 20, .inl ft)) → (∀ q, q < 20 → ft q = nI (turnN ν q (vC ν 4) + suL (fun o => hasN ν o q (vMn ν o)) ((β b).take k))) → u 11 = some (xIt it (nI k) last mc2 (ad (bN β b + 1))) →
        (∀ o, o < vC ν 4 → u (2000 + 2 * o) = some (ad (2000 + 2 * o), .inr (4, if o ∈ (β b).take k then (oFs ν ad o).set 3 (.int (nI 2)) else oFs ν ad o))) → (∀ n, n ≠ 0 → n ≠ 2 → n ≠ 11 → (∀ o, o < vC ν 4 → n ≠ 2000 + 2 * o) → u n = rW g w ad σ n) →
        lh ls 7 (xl [(0, .ref (ad 0)), (1, .int p0), (2, .ref (ad (bN β b))), (3, .int (nI (lenN ν (pAll ν b)))), (4, .ref it)]) → W p l e (xrm 8 10 1534) s m args below meth c H locs 10 1534 Q (F0 m 29 ls []) := by
      intro n
      induction n with
      | zero => intro k h1 h2; exact absurd h2 (by omega)
      | succ n ih =>
        intro k h1 h2 σ u ft last H locs ls hM hS hu0 hu2 hft hu11 huo huk hl
        have hXσ := hX.rput σ
        have ukn : ∀ n, n ≠ 0 → n ≠ 2 → n ≠ 11 → (n < 2000 ∨ 3000 ≤ n ∨ n % 2 = 1) → u n = rW g w ad σ n := fun n n1 n2 n3 n4 => huk n n1 n2 n3 (fun o ho => by omega)
        have hoc : ∀ o, o < vC ν 4 → ∃ fs, u (2000 + 2 * o) = some (ad (2000 + 2 * o), .inr (4, fs)) := fun o ho => ⟨_, huo o ho⟩
        obtain ⟨-, mcz, hLz⟩ := hXσ.bs hbB
        have hLu : xLs g u (bN β b + 1) (bN β b + 2) (ad (bN β b + 1)) mc2 4 (bE ad (β b)) := hL21.bEk (by rw [ukn _ (by omega) (by omega) (by omega) (by omega), rW_n (by omega) (by omega) (by omega), rW_n (by omega) (by omega) (by omega)]) (by rw [ukn _ (by omega) (by omega) (by omega) (by omega), rW_n (by omega) (by omega) (by omega), rW_n (by omega) (by omega) (by omega)]) (fun o ho => hoc o (hblt o ho))
        have hlen9 : (bE ad (β b)).length = (β b).length := List.length_map _
        refine lv_aload hx hb dX1_pick_29 (lh_at hl rfl) ?_
        refine x_callFi (x_runF (As := []) hF hE hS hM hl (jk_hasNext l g A u (bN β b + 1) (bN β b + 2) 11 it (ad (bN β b + 1)) 4 k mc2 last _ hLu hu11 (by rw [hlen9]; exact h1)) (xw.recv hE hM (by first | assumption | exact va_up_s | rfl | (refine (va_up_n ?_).trans ?_; rotate_left; (first | assumption | exact va_up_s | rfl | (refine (va_up_n ?_).trans ?_; rotate_left; (first | assumption | exact va_up_s | rfl | (refine (va_up_n ?_).trans ?_; rotate_left; (first | assumption | exact va_up_s | rfl | (refine (va_up_n ?_).trans ?_; rotate_left; (first | assumption | exact va_up_s | rfl | (refine (va_up_n ?_).trans ?_; rotate_left; (assumption); omega)); omega)); omega)); omega)); omega)) rfl) (xw.at hE (ci := 7) rfl) (List.mem_of_getElem? (i := 8) rfl) q1077 q1083 q1081 q69 q1085 ⟨by decide +kernel, by decide +kernel, by show _ = some 0; decide +kernel⟩ rfl rfl ⟨Nat.le_of_ble_eq_true rfl, Nat.le_of_ble_eq_true rfl⟩ rfl (Nat.le_of_ble_eq_true rfl) dX1_pick_31 ⟨Nat.le_of_ble_eq_true rfl, Nat.le_of_ble_eq_true rfl⟩) hS (fun r uu H locs hq hM hS => ?_)
        rw [hlen9] at hq
        by_cases hkB : k = (β b).length
        · rw [if_pos hkB] at hq
          rw [hq]
          rw [hkB, List.take_length] at hu0 hft huo
          refine lv_if_eq (tgt := 115) hx hb dX1_pick_36 (by decide) (fun c1 => ?_) (fun c1 => ?_)
          · obtain ⟨mcw, hLw⟩ := hXσ.wav
            have hLwu : xLs g u 5 6 (ad 5) mcw 5 (bL ad β (vC ν 5)) := hLw.bLk (ukn 5 (by omega) (by omega) (by omega) (by omega)) (ukn 6 (by omega) (by omega) (by omega) (by omega)) (fun c hc => ⟨_, (ukn _ (bN_ne (by omega)) (bN_ne (by omega)) (bN_ne (by omega)) (Or.inr (Or.inl bN_ge))).trans (hXσ.bs hc).1⟩)
            obtain ⟨d5, hd5⟩ := hLwu.size
            refine lv_aload_n hx hb dX1_pick_115 rfl (lh_at hl rfl) ?_
            refine xr_get (C := RX1) (T := TX1) (N := 12) (ci := 0) (n := 0) hx hb hts in_X1 hown hE hM (by first | assumption | exact va_up_s | rfl | (refine (va_up_n ?_).trans ?_; rotate_left; (first | assumption | exact va_up_s | rfl | (refine (va_up_n ?_).trans ?_; rotate_left; (first | assumption | exact va_up_s | rfl | (refine (va_up_n ?_).trans ?_; rotate_left; (first | assumption | exact va_up_s | rfl | (refine (va_up_n ?_).trans ?_; rotate_left; (first | assumption | exact va_up_s | rfl | (refine (va_up_n ?_).trans ?_; rotate_left; (assumption); omega)); omega)); omega)); omega)); omega)) rfl 6 (by decide) (hts _ q147) (fun _ h => h) rfl dX1_pick_116 ?_
            rw [hpb] at hl
            refine lv_iload_n hx hb dX1_pick_119 rfl (lh_at hl rfl) ?_
            refine x_callFr (x_runF (As := [.int (nI b)]) hF hE hS hM hl (jk_remove l g A u 5 6 (ad 5) 5 b (ad (bN β b)) mcw _ hLwu (bL_at hbB) (by decide) xOb5 (by decide)) (xw.recv hE hM (by first | assumption | exact va_up_s | rfl | (refine (va_up_n ?_).trans ?_; rotate_left; (first | assumption | exact va_up_s | rfl | (refine (va_up_n ?_).trans ?_; rotate_left; (first | assumption | exact va_up_s | rfl | (refine (va_up_n ?_).trans ?_; rotate_left; (first | assumption | exact va_up_s | rfl | (refine (va_up_n ?_).trans ?_; rotate_left; (first | assumption | exact va_up_s | rfl | (refine (va_up_n ?_).trans ?_; rotate_left; (assumption); omega)); omega)); omega)); omega)); omega)) rfl) (xw.at hE (ci := 6) rfl) (List.mem_of_getElem? (i := 6) rfl) q1160 q1165 q1163 q41 q1167 ⟨by decide +kernel, by decide +kernel, by show _ = some 1; decide +kernel⟩ rfl rfl ⟨Nat.le_of_ble_eq_true rfl, Nat.le_of_ble_eq_true rfl⟩ rfl (Nat.le_of_ble_eq_true rfl) dX1_pick_120 ⟨Nat.le_of_ble_eq_true rfl, Nat.le_of_ble_eq_true rfl⟩) hS (fun v9 ra H locs hq9 hM hS => ?_)
            obtain ⟨⟨-, hLr, hag9⟩, hM⟩ := hM
            rw [bL_pick hbB] at hLr
            obtain ⟨v8, hM, hLr, hdat6, hag8⟩ := hLr.clean (by decide) hM
            have hag9 : ∀ n, n ≠ 5 → n ≠ 6 → v8 n = u n := fun n n1 n2 => (hag8 n n2).trans (hag9 n n1 n2)
            clear hag8
            have h09 : v8 0 = _ := (hag9 0 (by decide) (by decide)).trans hu0
            refine lv_pop hx hb dX1_pick_125 rfl ?_
            refine lv_aload_n hx hb dX1_pick_126 rfl (lh_at hl rfl) ?_
            refine lv_dup hx hb dX1_pick_127 rfl ?_
            refine xr_get (C := RX1) (T := TX1) (N := 12) (ci := 0) (n := 0) hx hb hts in_X1 hown hE hM (by first | assumption | exact va_up_s | rfl | (refine (va_up_n ?_).trans ?_; rotate_left; (first | assumption | exact va_up_s | rfl | (refine (va_up_n ?_).trans ?_; rotate_left; (first | assumption | exact va_up_s | rfl | (refine (va_up_n ?_).trans ?_; rotate_left; (first | assumption | exact va_up_s | rfl | (refine (va_up_n ?_).trans ?_; rotate_left; (first | assumption | exact va_up_s | rfl | (refine (va_up_n ?_).trans ?_; rotate_left; (assumption); omega)); omega)); omega)); omega)); omega)) rfl 10 (by decide) (hts _ q151) (fun _ h => h) rfl dX1_pick_128 ?_
            refine lv_iload_n hx hb dX1_pick_131 rfl (lh_at hl rfl) ?_
            refine n_iadd hx hb dX1_pick_132 ?_
            refine xr_put (C := RX1) (T := TX1) (N := 12) (ci := 0) (n := 0) hx hb hts in_X1 tyX1 tyX1_ok nmX1 hown hE hM hS (by first | assumption | exact va_up_s | rfl | (refine (va_up_n ?_).trans ?_; rotate_left; (first | assumption | exact va_up_s | rfl | (refine (va_up_n ?_).trans ?_; rotate_left; (first | assumption | exact va_up_s | rfl | (refine (va_up_n ?_).trans ?_; rotate_left; (first | assumption | exact va_up_s | rfl | (refine (va_up_n ?_).trans ?_; rotate_left; (first | assumption | exact va_up_s | rfl | (refine (va_up_n ?_).trans ?_; rotate_left; (assumption); omega)); omega)); omega)); omega)); omega)) rfl 10 (by decide) (hts _ q151) (fun _ h => h) rfl (tyX1_ok 10 (by decide)) rfl rfl (Nat.le_of_ble_eq_true rfl) dX1_pick_133 (fun H locs hM hS => ?_)
            refine lv_iload_n hx hb dX1_pick_136 rfl (lh_at hl rfl) ?_
            generalize he0 : (some (ad 0, .inr (0, (fX ad ν (nI (vC ν 6)) (nI (vC ν 7 + suL (fun o => lenN ν (wantN ν o)) (β b)))).set 10 (.int (nI (vC ν 6 + lenN ν (pAll ν b)))))) : Option (Nat × va_E)) = e0 at hM
            have kf : ∀ n, n ≠ 0 → n ≠ 5 → n ≠ 6 → n ≠ 2 → n ≠ 11 → (n < 2000 ∨ 3000 ≤ n ∨ n % 2 = 1) → va_up v8 0 e0 n = rW g w ad σ n := fun n n1 n2 n3 n4 n5 n6 => by rw [va_up_n n1, hag9 n n2 n3]; exact ukn n n1 n4 n5 n6
            have ko : ∀ o, o < vC ν 4 → va_up v8 0 e0 (2000 + 2 * o) = some (ad (2000 + 2 * o), .inr (4, if o ∈ β b then (oFs ν ad o).set 3 (.int (nI 2)) else oFs ν ad o)) := fun o ho => by rw [va_up_n (by omega), hag9 _ (by omega) (by omega)]; exact huo o ho
            have ko2 : ∀ n, 2000 + 2 * vC ν 4 ≤ n → n < 3000 → va_up v8 0 e0 n = rW g w ad σ n := fun n n1 n2 => by rw [va_up_n (by omega), hag9 n (by omega) (by omega)]; exact huk n (by omega) (by omega) (by omega) (fun o ho => by omega)
            have hdrop : xw g A (fun n => if n = 11 ∨ n = bN β b ∨ n = bN β b + 1 ∨ n = bN β b + 2 then none else va_up v8 0 e0 n) H := hM.mono (fun n q e => by
              by_cases c : n = 11 ∨ n = bN β b ∨ n = bN β b + 1 ∨ n = bN β b + 2
              · rw [if_pos c] at e
                cases e
              · rw [if_neg c] at e
                exact e)
            generalize hwf : (fun n => if n = 11 ∨ n = bN β b ∨ n = bN β b + 1 ∨ n = bN β b + 2 then none else va_up v8 0 e0 n) = wf at hdrop
            have wn : ∀ n, n ≠ 11 → n ≠ bN β b → n ≠ bN β b + 1 → n ≠ bN β b + 2 → wf n = va_up v8 0 e0 n := fun n n1 n2 n3 n4 => by
              rw [← hwf]
              exact if_neg (fun z => by omega)
            have wz : ∀ n, n = 11 ∨ n = bN β b ∨ n = bN β b + 1 ∨ n = bN β b + 2 → wf n = none := fun n n1 => by
              rw [← hwf]
              exact if_pos n1
            have hperm : List.Perm (β b) ((List.range (vC ν 4)).filter (bP ν b)) := perm_of hnd (fun o => by rw [hmem o]; simp)
            have hst2 : ∀ o, o < vC ν 4 → vBt ν o = b + 1 → vSt ν o ≠ 2 := fun o ho e => by
              have := (hO.o ho).1.mpr (by omega)
              omega
            have hbne : ∀ c, c < vC ν 5 - 1 → bN (pickB β b) c = bN β (if c < b then c else c + 1) := fun c hc => rfl
            have hbdis : ∀ c, c < vC ν 5 → c ≠ b → bN β c ≠ bN β b ∧ bN β c ≠ bN β b + 1 ∧ bN β c ≠ bN β b + 2 ∧ bN β c + 1 ≠ bN β b ∧ bN β c + 1 ≠ bN β b + 1 ∧ bN β c + 1 ≠ bN β b + 2 ∧ bN β c + 2 ≠ bN β b ∧ bN β c + 2 ≠ bN β b + 1 ∧ bN β c + 2 ≠ bN β b + 2 := by
              intro c hc hcb
              obtain ⟨-, n2, n3⟩ := hβ c hc
              obtain ⟨y, t, hy⟩ := List.exists_cons_of_ne_nil n2
              obtain ⟨y2, t2, hy2⟩ := List.exists_cons_of_ne_nil hne
              have m1 := ((n3 y).mp (by rw [hy]; exact List.mem_cons_self)).2
              have m2 := ((hmem y2).mp (by rw [hy2]; exact List.mem_cons_self)).2
              have hyy : y ≠ y2 := fun z => by rw [z] at m1; omega
              unfold bN
              rw [hy, hy2]
              simp only [List.headD_cons]
              omega
            have hXn : XR g (pickS ν b) ad (pickB β b) wf := by
              refine hXσ.lift (fun _ _ => rfl) (fun n hn => ?_) ?_ ?_ ⟨ft, ?_, fun q hq => ?_⟩ ?_ ⟨mcw + 1, ?_⟩ ?_ (fun o ho => ?_) (fun c hc => ?_) (fun n hn b9 c fs e => ?_) (fun n n1 n2 => ?_) (fun n n1 n2 => ?_)
              · by_cases e11 : n = 11
                · rw [e11, wz 11 (Or.inl rfl), hXσ.tmp (by decide) (by decide)]
                · rw [wn n e11 (by omega) (by omega) (by omega), kf n (by omega) (by omega) (by omega) (by omega) e11 (by omega)]
              · rw [wn 0 (by omega) (by omega) (by omega) (by omega), va_up_s, ← he0, pickS_7, aloneN_su, ← suL_perm hperm]
                rfl
              · rw [wn 1 (by omega) (by omega) (by omega) (by omega), kf 1 (by omega) (by omega) (by omega) (by omega) (by omega) (by omega)]
                exact hXσ.pl
              · rw [wn 2 (by omega) (by omega) (by omega) (by omega), va_up_n (by omega), hag9 2 (by omega) (by omega)]
                exact hu2
              · rw [hft q hq, pickS_4, pickS_turn hst2 _ (Nat.le_refl _), ← suL_perm hperm]
              · obtain ⟨mco, hx⟩ := hXσ.ord
                refine ⟨mco, hx.oLk ?_ ?_ (fun o ho => ?_)⟩
                · rw [wn 3 (by omega) (by omega) (by omega) (by omega)]
                  exact kf 3 (by omega) (by omega) (by omega) (by omega) (by omega) (by omega)
                · rw [wn 4 (by omega) (by omega) (by omega) (by omega)]
                  exact kf 4 (by omega) (by omega) (by omega) (by omega) (by omega) (by omega)
                · rw [wn _ (by omega) (by omega) (by omega) (by omega)]
                  exact ⟨_, ko o ho⟩
              · rw [pickS_5]
                refine hLr.bLk ?_ ?_ (fun c hc => ?_)
                · rw [wn 5 (by omega) (by omega) (by omega) (by omega), va_up_n (by omega)]
                · rw [wn 6 (by omega) (by omega) (by omega) (by omega), va_up_n (by omega)]
                · have hc2 : (if c < b then c else c + 1) < vC ν 5 := by split <;> omega
                  have hcb : (if c < b then c else c + 1) ≠ b := by split <;> omega
                  obtain ⟨d1, d2, d3, -⟩ := hbdis _ hc2 hcb
                  have hg3 := bN_ge (β := β) (b := if c < b then c else c + 1)
                  rw [hbne c hc, wn _ (by omega) d1 d2 d3, kf _ (by omega) (by omega) (by omega) (by omega) (by omega) (by omega)]
                  exact ⟨_, (hXσ.bs hc2).1⟩
              · obtain ⟨so, g1, g2⟩ := hXσ.sav
                refine ⟨so, ?_, fun k9 hk9 => ⟨(g2 k9 hk9).1, ?_⟩⟩
                · rw [wn 7 (by omega) (by omega) (by omega) (by omega), kf 7 (by omega) (by omega) (by omega) (by omega) (by omega) (by omega)]
                  exact g1
                · rw [wn (100 + k9) (by omega) (by omega) (by omega) (by omega), kf (100 + k9) (by omega) (by omega) (by omega) (by omega) (by omega) (by omega)]
                  exact (g2 k9 hk9).2
              · rw [pickS_4] at ho
                obtain ⟨-, f2, g2, g3⟩ := hXσ.os ho
                rw [wn (2000 + 2 * o) (by omega) (by omega) (by omega) (by omega), wn (2001 + 2 * o) (by omega) (by omega) (by omega) (by omega), kf (2001 + 2 * o) (by omega) (by omega) (by omega) (by omega) (by omega) (by omega)]
                refine ⟨?_, f2, g2, fun q hq => (g3 q hq).trans (congrArg nI (hasN_congr (ν := ν) (ν' := pickS ν b) (o := o) _ (fun _ _ => ⟨rfl, rfl⟩)).symm)⟩
                rw [ko o ho]
                unfold oFs
                rw [pickS_st ho]
                by_cases e : vBt ν o = b + 1
                · rw [if_pos ((hmem o).mpr ⟨ho, e⟩), if_pos e]
                  rfl
                · rw [if_neg (fun z => e ((hmem o).mp z).2), if_neg e]
                  rfl
              · rw [pickS_5] at hc
                have hc2 : (if c < b then c else c + 1) < vC ν 5 := by split <;> omega
                have hcb : (if c < b then c else c + 1) ≠ b := by split <;> omega
                obtain ⟨d1, d2, d3, d4, d5, d6, d7, d8, d9⟩ := hbdis _ hc2 hcb
                have hg3 := bN_ge (β := β) (b := if c < b then c else c + 1)
                obtain ⟨g1, mc9, g2⟩ := hXσ.bs hc2
                rw [hbne c hc, wn _ (by omega) d1 d2 d3, kf _ (by omega) (by omega) (by omega) (by omega) (by omega) (by omega)]
                refine ⟨?_, mc9, ?_⟩
                · rw [g1]
                  unfold bFs
                  rw [pickS_p, pickS_l]
                  rfl
                · refine g2.bEk ?_ ?_ (fun o ho => ?_)
                  · rw [wn _ (by omega) d4 d5 d6]
                    exact kf _ (by omega) (by omega) (by omega) (by omega) (by omega) (by omega)
                  · rw [wn _ (by omega) d7 d8 d9]
                    exact kf _ (by omega) (by omega) (by omega) (by omega) (by omega) (by omega)
                  · have ho4 := (((hβ _ hc2).2.2 o).mp ho).1
                    rw [wn _ (by omega) (by omega) (by omega) (by omega)]
                    exact ⟨_, ko o ho4⟩
              · rcases hn with rfl | rfl
                · rw [wn 4 (by omega) (by omega) (by omega) (by omega), kf 4 (by omega) (by omega) (by omega) (by omega) (by omega) (by omega)] at e
                  exact hXσ.dat (Or.inl rfl) _ _ _ e
                · rw [wn 6 (by omega) (by omega) (by omega) (by omega), va_up_n (by omega)] at e
                  exact hdat6 _ _ _ e
              · rw [pickS_4] at n1
                rw [wn n (by omega) (by omega) (by omega) (by omega), ko2 n n1 n2]
                exact hXσ.ono n1 n2
              · by_cases e1 : n = bN β b ∨ n = bN β b + 1 ∨ n = bN β b + 2
                · exact wz n (Or.inr e1)
                · rw [wn n (by omega) (by omega) (by omega) (by omega), kf n (by omega) (by omega) (by omega) (by omega) (by omega) (by omega)]
                  refine hXσ.bno n1 (fun c hc => ?_)
                  by_cases e2 : c = b
                  · rw [e2]
                    omega
                  · by_cases e3 : c < b
                    · have := n2 c (by rw [pickS_5]; omega)
                      rw [hbne c (by omega), if_pos e3] at this
                      exact this
                    · have := n2 (c - 1) (by rw [pickS_5]; omega)
                      rw [hbne (c - 1) (by omega), if_neg (by omega), show c - 1 + 1 = c by omega] at this
                      exact this
            exact hQ ▸ vx_ret (x_iret hx hb hr hlk hS wf ⟨by rw [hop], by rw [hop], by rw [hop]; exact fun hV2 => ⟨hO.pick hβ hbB hV2, ad, _, rfl, hβ.pick hbB, hXn⟩⟩ hdrop dX1_pick_137)
          · exact absurd rfl c1
        · rw [if_neg hkB] at hq
          rw [hq]
          have hk : k < (β b).length := by omega
          have hon : (β b)[k] ∉ (β b).take k := take_not hnd hk
          have hget : (β b)[k]? = some (β b)[k] := List.getElem?_eq_getElem hk
          have ho : (β b)[k] < vC ν 4 := hblt _ (List.getElem_mem hk)
          generalize (β b)[k] = o at hon hget ho
          have huO : u (2000 + 2 * o) = some (ad (2000 + 2 * o), .inr (4, oFs ν ad o)) := by
            rw [huo o ho, if_neg hon]
          obtain ⟨-, fq, hfq, hfqv⟩ := hXσ.os ho
          have htk : ∀ f, suL f ((β b).take (k + 1)) = suL f ((β b).take k) + f o := fun f => by rw [take_snoc hget, suL_snoc]
          have hbe : (bE ad (β b))[k]? = some (ad (2000 + 2 * o)) := by
            unfold bE
            rw [List.getElem?_map, hget]
            rfl
          refine lv_if_eq (tgt := 115) hx hb dX1_pick_36 (by decide) (fun c1 => ?_) (fun c1 => ?_)
          · exact absurd c1 (by decide)
          · refine lv_aload hx hb dX1_pick_39 (lh_at hl rfl) ?_
            refine x_callFr (x_runF (As := []) hF hE hS hM hl (jk_next l g A u (bN β b + 1) (bN β b + 2) 11 it (ad (bN β b + 1)) 4 k (ad (2000 + 2 * o)) mc2 last _ hLu hu11 hbe) (xw.recv hE hM (by first | assumption | exact va_up_s | rfl | (refine (va_up_n ?_).trans ?_; rotate_left; (first | assumption | exact va_up_s | rfl | (refine (va_up_n ?_).trans ?_; rotate_left; (first | assumption | exact va_up_s | rfl | (refine (va_up_n ?_).trans ?_; rotate_left; (first | assumption | exact va_up_s | rfl | (refine (va_up_n ?_).trans ?_; rotate_left; (first | assumption | exact va_up_s | rfl | (refine (va_up_n ?_).trans ?_; rotate_left; (assumption); omega)); omega)); omega)); omega)); omega)) rfl) (xw.at hE (ci := 7) rfl) (List.mem_of_getElem? (i := 9) rfl) q1087 q1092 q1090 q69 q1094 ⟨by decide +kernel, by decide +kernel, by show _ = some 0; decide +kernel⟩ rfl rfl ⟨Nat.le_of_ble_eq_true rfl, Nat.le_of_ble_eq_true rfl⟩ rfl (Nat.le_of_ble_eq_true rfl) dX1_pick_41 ⟨Nat.le_of_ble_eq_true rfl, Nat.le_of_ble_eq_true rfl⟩) hS (fun u1 ra H locs hq2 hM hS => ?_)
            obtain ⟨⟨hra, hu1⟩, hM⟩ := hM
            rw [hu1] at hM
            rw [hra]
            have a1 : va_up u 11 (some (xIt it (nI (k + 1)) (nI k) mc2 (ad (bN β b + 1)))) (2000 + 2 * o) = some (ad (2000 + 2 * o), .inr (4, oFs ν ad o)) := (va_up_n (by omega)).trans huO
            refine xr_cast (n := (2000 + 2 * o)) (r := (RX5, TX5, 4)) (ci := 4) hx hb hown hE hM (by first | assumption | exact va_up_s | rfl | (refine (va_up_n ?_).trans ?_; rotate_left; (first | assumption | exact va_up_s | rfl | (refine (va_up_n ?_).trans ?_; rotate_left; (first | assumption | exact va_up_s | rfl | (refine (va_up_n ?_).trans ?_; rotate_left; (first | assumption | exact va_up_s | rfl | (refine (va_up_n ?_).trans ?_; rotate_left; (first | assumption | exact va_up_s | rfl | (refine (va_up_n ?_).trans ?_; rotate_left; (assumption); omega)); omega)); omega)); omega)); omega)) rfl (hts _ q947) dX1_pick_46 ?_
            refine x_astore hx hb dX1_pick_49 hl (by decide) (fun ls hl => ?_)
            refine lv_aload hx hb dX1_pick_51 (lh_at hl rfl) ?_
            refine n_const hx hb 2 dX1_pick_53 (by decide +kernel) ?_
            refine xr_putN (C := RX5) (T := TX5) (N := 4) (ci := 4) (n := (2000 + 2 * o)) hx hb hts in_X5 tyX5 tyX5_ok nmX5 hown hE hM hS (by first | assumption | exact va_up_s | rfl | (refine (va_up_n ?_).trans ?_; rotate_left; (first | assumption | exact va_up_s | rfl | (refine (va_up_n ?_).trans ?_; rotate_left; (first | assumption | exact va_up_s | rfl | (refine (va_up_n ?_).trans ?_; rotate_left; (first | assumption | exact va_up_s | rfl | (refine (va_up_n ?_).trans ?_; rotate_left; (first | assumption | exact va_up_s | rfl | (refine (va_up_n ?_).trans ?_; rotate_left; (assumption); omega)); omega)); omega)); omega)); omega)) rfl 3 (by decide) q961 (fun _ h => h) rfl (tyX5_ok 3 (by decide)) rfl rfl (Nat.le_of_ble_eq_true rfl) dX1_pick_54 (fun H locs hM hS => ?_)
            generalize hv1 : va_up (va_up u 11 (some (xIt it (nI (k + 1)) (nI k) mc2 (ad (bN β b + 1))))) (2000 + 2 * o) (some (ad (2000 + 2 * o), .inr (4, (oFs ν ad o).set 3 (.int (nI 2))))) = v1 at hM
            have v1k : ∀ n, n ≠ 11 → n ≠ 2000 + 2 * o → v1 n = u n := fun n n1 n2 => by rw [← hv1, va_up_n n2, va_up_n n1]
            have v1o : v1 (2000 + 2 * o) = some (ad (2000 + 2 * o), .inr (4, (oFs ν ad o).set 3 (.int (nI 2)))) := by rw [← hv1, va_up_s]
            have v1i : v1 11 = some (xIt it (nI (k + 1)) (nI k) mc2 (ad (bN β b + 1))) := by rw [← hv1, va_up_n (by omega), va_up_s]
            have v10 := (v1k 0 (by omega) (by omega)).trans hu0
            have v1x : ∀ n, n ≠ 0 → n ≠ 2 → n ≠ 11 → (n < 2000 ∨ 3000 ≤ n ∨ n % 2 = 1) → v1 n = rW g w ad σ n := fun n n1 n2 n3 n4 => (v1k n n3 (by omega)).trans (ukn n n1 n2 n3 n4)
            refine lv_aload_n hx hb dX1_pick_57 rfl (lh_at hl rfl) ?_
            refine lv_dup hx hb dX1_pick_58 rfl ?_
            refine xr_get (C := RX1) (T := TX1) (N := 12) (ci := 0) (n := 0) hx hb hts in_X1 hown hE hM (by first | assumption | exact va_up_s | rfl | (refine (va_up_n ?_).trans ?_; rotate_left; (first | assumption | exact va_up_s | rfl | (refine (va_up_n ?_).trans ?_; rotate_left; (first | assumption | exact va_up_s | rfl | (refine (va_up_n ?_).trans ?_; rotate_left; (first | assumption | exact va_up_s | rfl | (refine (va_up_n ?_).trans ?_; rotate_left; (first | assumption | exact va_up_s | rfl | (refine (va_up_n ?_).trans ?_; rotate_left; (assumption); omega)); omega)); omega)); omega)); omega)) rfl 11 (by decide) (hts _ q152) (fun _ h => h) rfl dX1_pick_59 ?_
            refine lv_aload_n hx hb dX1_pick_62 rfl (lh_at hl rfl) ?_
            refine xr_get (C := RX1) (T := TX1) (N := 12) (ci := 0) (n := 0) hx hb hts in_X1 hown hE hM (by first | assumption | exact va_up_s | rfl | (refine (va_up_n ?_).trans ?_; rotate_left; (first | assumption | exact va_up_s | rfl | (refine (va_up_n ?_).trans ?_; rotate_left; (first | assumption | exact va_up_s | rfl | (refine (va_up_n ?_).trans ?_; rotate_left; (first | assumption | exact va_up_s | rfl | (refine (va_up_n ?_).trans ?_; rotate_left; (first | assumption | exact va_up_s | rfl | (refine (va_up_n ?_).trans ?_; rotate_left; (assumption); omega)); omega)); omega)); omega)); omega)) rfl 8 (by decide) (hts _ q149) (fun _ h => h) rfl dX1_pick_63 ?_
            refine lv_aload hx hb dX1_pick_66 (lh_at hl rfl) ?_
            refine xr_getN (C := RX5) (T := TX5) (N := 4) (ci := 4) (n := (2000 + 2 * o)) hx hb hts in_X5 hown hE hM (by first | assumption | exact va_up_s | rfl | (refine (va_up_n ?_).trans ?_; rotate_left; (first | assumption | exact va_up_s | rfl | (refine (va_up_n ?_).trans ?_; rotate_left; (first | assumption | exact va_up_s | rfl | (refine (va_up_n ?_).trans ?_; rotate_left; (first | assumption | exact va_up_s | rfl | (refine (va_up_n ?_).trans ?_; rotate_left; (first | assumption | exact va_up_s | rfl | (refine (va_up_n ?_).trans ?_; rotate_left; (assumption); omega)); omega)); omega)); omega)); omega)) rfl 2 (by decide) q959 (fun _ h => h) rfl dX1_pick_68 ?_
            have hMr : xw g A (rW g v1 ad σ) H := hM.eq (rW_id (fun n hn => v1x n (by omega) (by omega) (by omega) (by omega)))
            have hBr : rB g v1 ad ν := ⟨⟨_, _, v10⟩, ⟨f1, (v1x 1 (by omega) (by omega) (by omega) (by omega)).trans ((rW_n (by omega) (by omega) (by omega)).trans hf1), hf1v⟩, ro, (v1x 10 (by omega) (by omega) (by omega) (by omega)).trans ((rW_n (by omega) (by omega) (by omega)).trans hro), hrov⟩
            refine x_calli (x_runV (As := [.int (nI (wantN ν o))]) hF hE hS hMr hl (xk_length l g A v1 ad σ ν (wantN ν o) hBr hV (want_okSet hV ho)) (by exact xw.recv hE hMr rW_8 rfl) q1021 q1022 q1023 q42 q1024 ⟨rfl, by decide +kernel, by decide +kernel, by show _ = some 1; decide +kernel⟩ rfl rfl ⟨Nat.le_of_ble_eq_true rfl, Nat.le_of_ble_eq_true rfl⟩ rfl (Nat.le_of_ble_eq_true rfl) dX1_pick_71 ⟨Nat.le_of_ble_eq_true rfl, Nat.le_of_ble_eq_true rfl⟩) hS (fun r σ2 H locs hq3 hM hS => ?_)
            rw [hq3.1]
            clear hq3
            have r0 : rW g v1 ad σ2 0 = _ := (rW_n (by omega) (by omega) (by omega)).trans v10
            refine n_iadd hx hb dX1_pick_74 ?_
            refine xr_put (C := RX1) (T := TX1) (N := 12) (ci := 0) (n := 0) hx hb hts in_X1 tyX1 tyX1_ok nmX1 hown hE hM hS (by first | assumption | exact va_up_s | rfl | (refine (va_up_n ?_).trans ?_; rotate_left; (first | assumption | exact va_up_s | rfl | (refine (va_up_n ?_).trans ?_; rotate_left; (first | assumption | exact va_up_s | rfl | (refine (va_up_n ?_).trans ?_; rotate_left; (first | assumption | exact va_up_s | rfl | (refine (va_up_n ?_).trans ?_; rotate_left; (first | assumption | exact va_up_s | rfl | (refine (va_up_n ?_).trans ?_; rotate_left; (assumption); omega)); omega)); omega)); omega)); omega)) rfl 11 (by decide) (hts _ q152) (fun _ h => h) rfl (tyX1_ok 11 (by decide)) rfl rfl (Nat.le_of_ble_eq_true rfl) dX1_pick_75 (fun H locs hM hS => ?_)
            generalize hv3 : va_up (rW g v1 ad σ2) 0 _ = v3 at hM
            have v30 : v3 0 = some (ad 0, .inr (0, fX ad ν (nI (vC ν 6)) (nI (vC ν 7 + suL (fun o => lenN ν (wantN ν o)) ((β b).take (k + 1)))))) := by
              rw [← hv3, va_up_s, htk, ← Nat.add_assoc]
              rfl
            have v3k : ∀ n, n ≠ 0 → n < 1000 ∨ 1512 ≤ n → n ≠ 8 → n ≠ 9 → v3 n = v1 n := fun n n1 n2 n3 n4 => by rw [← hv3, va_up_n n1, rW_n n3 n4 n2]
            have v3r : ∀ n, n = 8 ∨ n = 9 ∨ (1000 ≤ n ∧ n < 1512) → v3 n = rW g w ad σ2 n := fun n hn => by rw [← hv3, va_up_n (by omega), rW_base hn]
            have v32 : v3 2 = some (ad 2, .inl (g.2 0, 20, .inl ft)) := (v3k 2 (by omega) (by omega) (by omega) (by omega)).trans ((v1k 2 (by omega) (by omega)).trans hu2)
            have v3o : v3 (2000 + 2 * o) = some (ad (2000 + 2 * o), .inr (4, (oFs ν ad o).set 3 (.int (nI 2)))) := (v3k _ (by omega) (by omega) (by omega) (by omega)).trans v1o
            have v3q : v3 (2001 + 2 * o) = some (ad (2001 + 2 * o), .inl (g.2 0, 20, .inl fq)) := (v3k _ (by omega) (by omega) (by omega) (by omega)).trans ((v1x _ (by omega) (by omega) (by omega) (by omega)).trans hfq)
            refine n_const hx hb 0 dX1_pick_78 (by decide +kernel) ?_
            refine x_istore hx hb dX1_pick_79 hl (by decide) (fun ls hl => ?_)
            have I : ∀ (n2 q : Nat), q ≤ 20 → 20 < q + n2 → ∀ (f' : Nat → Int32) (H : Heap) (locs : List Loc) (ls : Array Slot), (∀ p, p < 20 → f' p = nI (turnN ν p (vC ν 4) + suL (fun o => hasN ν o p (vMn ν o)) ((β b).take k) + if p < q then hasN ν o p (vMn ν o) else 0)) → xw g A (va_up v3 2 (some (ad 2, .inl (g.2 0, 20, .inl f')))) H → va_S A s.heap H locs →
                lh ls 7 (xl [(0, .ref (ad 0)), (1, .int p0), (2, .ref (ad (bN β b))), (3, .int (nI (lenN ν (pAll ν b)))), (4, .ref it), (5, .ref (ad (2000 + 2 * o))), (6, .int (nI q))]) → W p l e (xrm 8 10 1534) s m args below meth c H locs 10 1534 Q (F0 m 81 ls []) := by
              intro n2
              induction n2 with
              | zero => intro q h1 h2; exact absurd h2 (by omega)
              | succ n2 ih2 =>
                intro q q1 q2 f' H locs ls hf' hM hS hl
                have w30 : va_up v3 2 (some (ad 2, .inl (g.2 0, 20, .inl f'))) 0 = _ := (va_up_n (by decide)).trans v30
                have w3o : va_up v3 2 (some (ad 2, .inl (g.2 0, 20, .inl f'))) (2000 + 2 * o) = _ := (va_up_n (by omega)).trans v3o
                have w3q : va_up v3 2 (some (ad 2, .inl (g.2 0, 20, .inl f'))) (2001 + 2 * o) = _ := (va_up_n (by omega)).trans v3q
                refine lv_iload hx hb dX1_pick_81 (lh_at hl rfl) ?_
                refine n_bipush hx hb 20 dX1_pick_83 (by decide +kernel) ?_
                refine n_icmp_ge (tgt := 112) hx hb dX1_pick_85 (by decide) (by omega) (by omega) (fun c2 => ?_) (fun c2 => ?_)
                · have e20 : q = 20 := by omega
                  subst e20
                  refine lv_goto (tgt := 29) hx hb dX1_pick_112 (by decide) ?_
                  refine ih (k + 1) (by omega) (by omega) σ2 (va_up v3 2 (some (ad 2, .inl (g.2 0, 20, .inl f')))) f' (nI k) H locs _ hM hS w30 va_up_s (fun p hp => ?_) ?_ (fun o' ho' => ?_) (fun n n1 n2 n3 n4 => ?_) (lh_sub hl _ ⟨rfl, rfl, rfl, rfl, rfl, trivial⟩)
                  · rw [hf' p hp, htk, if_pos hp, Nat.add_assoc]
                  · rw [va_up_n (by omega), v3k 11 (by omega) (by omega) (by omega) (by omega), v1i]
                  · rw [va_up_n (by omega)]
                    by_cases e : o' = o
                    · rw [e, v3o, if_pos (by rw [take_snoc hget]; simp)]
                    · rw [v3k _ (by omega) (by omega) (by omega) (by omega), v1k _ (by omega) (by omega), huo o' ho']
                      have hiff : o' ∈ (β b).take (k + 1) ↔ o' ∈ (β b).take k := by
                        rw [take_snoc hget, List.mem_append]
                        constructor
                        · rintro (z | z)
                          · exact z
                          · exact absurd (List.mem_singleton.mp z) e
                        · exact Or.inl
                      by_cases c : o' ∈ (β b).take k
                      · rw [if_pos c, if_pos (hiff.mpr c)]
                      · rw [if_neg c, if_neg (fun z => c (hiff.mp z))]
                  · rw [va_up_n n2]
                    by_cases hr : n = 8 ∨ n = 9 ∨ (1000 ≤ n ∧ n < 1512)
                    · exact v3r n hr
                    · rw [v3k n n1 (by omega) (by omega) (by omega), v1k n n3 (n4 o ho), huk n n1 n2 n3 n4, rW_n (by omega) (by omega) (by omega), rW_n (by omega) (by omega) (by omega)]
                · have hq20 : q < 20 := by omega
                  refine lv_aload_n hx hb dX1_pick_88 rfl (lh_at hl rfl) ?_
                  refine xr_get (C := RX1) (T := TX1) (N := 12) (ci := 0) (n := 0) hx hb hts in_X1 hown hE hM (by first | assumption | exact va_up_s | rfl | (refine (va_up_n ?_).trans ?_; rotate_left; (first | assumption | exact va_up_s | rfl | (refine (va_up_n ?_).trans ?_; rotate_left; (first | assumption | exact va_up_s | rfl | (refine (va_up_n ?_).trans ?_; rotate_left; (first | assumption | exact va_up_s | rfl | (refine (va_up_n ?_).trans ?_; rotate_left; (first | assumption | exact va_up_s | rfl | (refine (va_up_n ?_).trans ?_; rotate_left; (assumption); omega)); omega)); omega)); omega)); omega)) rfl 4 (by decide) (hts _ q145) (fun _ h => h) rfl dX1_pick_89 ?_
                  refine lv_iload hx hb dX1_pick_92 (lh_at hl rfl) ?_
                  refine lv_dup2_11 hx hb dX1_pick_94 rfl rfl ?_
                  refine xr_iald (n := 2) hx hb hE hM (by first | assumption | exact va_up_s | rfl | (refine (va_up_n ?_).trans ?_; rotate_left; (first | assumption | exact va_up_s | rfl | (refine (va_up_n ?_).trans ?_; rotate_left; (first | assumption | exact va_up_s | rfl | (refine (va_up_n ?_).trans ?_; rotate_left; (first | assumption | exact va_up_s | rfl | (refine (va_up_n ?_).trans ?_; rotate_left; (first | assumption | exact va_up_s | rfl | (refine (va_up_n ?_).trans ?_; rotate_left; (assumption); omega)); omega)); omega)); omega)); omega)) (by omega) (by first | decide | omega) (by exact hf' q hq20) dX1_pick_95 ?_
                  refine lv_aload hx hb dX1_pick_96 (lh_at hl rfl) ?_
                  refine xr_getN (C := RX5) (T := TX5) (N := 4) (ci := 4) (n := (2000 + 2 * o)) hx hb hts in_X5 hown hE hM (by first | assumption | exact va_up_s | rfl | (refine (va_up_n ?_).trans ?_; rotate_left; (first | assumption | exact va_up_s | rfl | (refine (va_up_n ?_).trans ?_; rotate_left; (first | assumption | exact va_up_s | rfl | (refine (va_up_n ?_).trans ?_; rotate_left; (first | assumption | exact va_up_s | rfl | (refine (va_up_n ?_).trans ?_; rotate_left; (first | assumption | exact va_up_s | rfl | (refine (va_up_n ?_).trans ?_; rotate_left; (assumption); omega)); omega)); omega)); omega)); omega)) rfl 1 (by decide) q956 (fun _ h => h) rfl dX1_pick_98 ?_
                  refine lv_iload hx hb dX1_pick_101 (lh_at hl rfl) ?_
                  refine xr_iald (n := (2001 + 2 * o)) hx hb hE hM (by first | assumption | exact va_up_s | rfl | (refine (va_up_n ?_).trans ?_; rotate_left; (first | assumption | exact va_up_s | rfl | (refine (va_up_n ?_).trans ?_; rotate_left; (first | assumption | exact va_up_s | rfl | (refine (va_up_n ?_).trans ?_; rotate_left; (first | assumption | exact va_up_s | rfl | (refine (va_up_n ?_).trans ?_; rotate_left; (first | assumption | exact va_up_s | rfl | (refine (va_up_n ?_).trans ?_; rotate_left; (assumption); omega)); omega)); omega)); omega)); omega)) (by omega) (by first | decide | omega) (by exact hfqv q hq20) dX1_pick_103 ?_
                  refine n_iadd hx hb dX1_pick_104 ?_
                  refine xr_iast (n := 2) hx hb hE hM hS (by first | assumption | exact va_up_s | rfl | (refine (va_up_n ?_).trans ?_; rotate_left; (first | assumption | exact va_up_s | rfl | (refine (va_up_n ?_).trans ?_; rotate_left; (first | assumption | exact va_up_s | rfl | (refine (va_up_n ?_).trans ?_; rotate_left; (first | assumption | exact va_up_s | rfl | (refine (va_up_n ?_).trans ?_; rotate_left; (first | assumption | exact va_up_s | rfl | (refine (va_up_n ?_).trans ?_; rotate_left; (assumption); omega)); omega)); omega)); omega)); omega)) (by omega) (by first | decide | omega) dX1_pick_105 (fun H locs hM hS => ?_)
                  rw [va_up_up] at hM
                  refine n_iinc hx hb 1 dX1_pick_106 hl rfl (by decide +kernel) (by decide) (fun ls hl => ?_)
                  refine lv_goto (tgt := 81) hx hb dX1_pick_109 (by decide) ?_
                  refine ih2 (q + 1) (by omega) (by omega) _ H locs _ (fun p hp => ?_) hM hS (lh_sub hl _ ⟨rfl, rfl, rfl, rfl, rfl, rfl, rfl, trivial⟩)
                  by_cases ep : p = q
                  · rw [ep, pk_us, if_neg (Nat.lt_irrefl q), if_pos (Nat.lt_succ_self q)]
                    rfl
                  · rw [pk_un ep, hf' p hp]
                    by_cases c : p < q
                    · rw [if_pos c, if_pos (by omega)]
                    · rw [if_neg c, if_neg (by omega)]
            refine I 21 0 (by omega) (by omega) ft H locs _ (fun p hp => ?_) (hM.eq (fun n => ?_)) hS (lh_sub hl _ ⟨rfl, rfl, rfl, rfl, rfl, rfl, rfl, trivial⟩)
            · rw [hft p hp, if_neg (Nat.not_lt_zero p)]
              rfl
            · by_cases en : n = 2
              · rw [en, va_up_s, v32]
              · rw [va_up_n en]
    refine J ((β b).length + 1) 0 (by omega) (by omega) σ1 _ ft0 (-1) H locs _ hM hS ?_ ?_ (fun q hq => ?_) va_up_s (fun o ho => ?_) (fun n n1 n2 n3 n4 => va_up_n n3) (lh_sub hl _ ⟨rfl, rfl, rfl, rfl, rfl, trivial⟩)
    · rw [va_up_n (by decide), List.take_zero]
      exact hX1.obj
    · rw [va_up_n (by decide), rW_n (by omega) (by omega) (by omega)]
      exact hft0
    · rw [List.take_zero]
      exact hft0v q hq
    · rw [va_up_n (by omega), List.take_zero, if_neg List.not_mem_nil]
      exact (hX1.os ho).1
