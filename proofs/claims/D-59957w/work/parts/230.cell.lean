/-! THE LAW: its start -/
set_option maxRecDepth 100000
/-- a world in the part of its own addresses -/
theorem xw.narrow {g : xg} {A B : Nat → Prop} {w : xw_W} {H : Heap} (h : xw g A w H) (hB : ∀ n q, w n = some q → B q.1) : xw g B w H := by
  obtain ⟨ws, hP, hD, h3, h4⟩ := h
  classical
  let ok : Nat × va_E → Bool := fun q => decide (∃ n, w n = some q)
  have hsub : ∀ (l : va_W) (k : Nat) (q : Nat × va_E), (l.filter ok)[k]? = some q → q ∈ l ∧ ∃ n, w n = some q := by
    intro l k q hk
    have := List.mem_filter.mp (List.mem_of_getElem? hk)
    exact ⟨this.1, of_decide_eq_true this.2⟩
  refine ⟨ws.filter ok, fun k q hk => ?_, ⟨?_, fun k q hk => ?_⟩, fun n q e => ?_, h4⟩
  · obtain ⟨h1, n, hn⟩ := hsub ws k q hk
    obtain ⟨j, hj⟩ := List.getElem?_of_mem h1
    exact hP j q hj
  · have hnd : ∀ (l : va_W), (∀ (i j : Nat) (p q : Nat × va_E), l[i]? = some p → l[j]? = some q → p.1 = q.1 → i = j) → ∀ (i j : Nat) (p q : Nat × va_E), (l.filter ok)[i]? = some p → (l.filter ok)[j]? = some q → p.1 = q.1 → i = j := by
      intro l
      induction l with
      | nil => intro _ i j p q hi; simp at hi
      | cons x t ih =>
        intro hl i j p q hi hj e
        have ht : ∀ (i j : Nat) (p q : Nat × va_E), t[i]? = some p → t[j]? = some q → p.1 = q.1 → i = j := by
          intro i j p q a b e
          have := hl (i + 1) (j + 1) p q (by simpa using a) (by simpa using b) e
          omega
        by_cases hx : ok x = true
        · rw [List.filter_cons_of_pos hx] at hi hj
          cases i with
          | zero =>
            cases j with
            | zero => rfl
            | succ j =>
              simp only [List.getElem?_cons_zero, Option.some.injEq] at hi
              simp only [List.getElem?_cons_succ] at hj
              obtain ⟨h1, -⟩ := hsub t j q hj
              obtain ⟨j', hj'⟩ := List.getElem?_of_mem h1
              have := hl 0 (j' + 1) p q (by simp [hi]) (by simpa using hj') e
              omega
          | succ i =>
            cases j with
            | zero =>
              simp only [List.getElem?_cons_zero, Option.some.injEq] at hj
              simp only [List.getElem?_cons_succ] at hi
              obtain ⟨h1, -⟩ := hsub t i p hi
              obtain ⟨i', hi'⟩ := List.getElem?_of_mem h1
              have := hl (i' + 1) 0 p q (by simpa using hi') (by simp [hj]) e
              omega
            | succ j =>
              simp only [List.getElem?_cons_succ] at hi hj
              rw [ih ht i j p q hi hj e]
        · rw [List.filter_cons_of_neg hx] at hi hj
          exact ih ht i j p q hi hj e
    exact hnd ws hD.1
  · obtain ⟨-, n, hn⟩ := hsub ws k q hk
    exact hB n q hn
  · obtain ⟨k, hk⟩ := h3 n q e
    exact List.getElem?_of_mem (List.mem_filter.mpr ⟨List.mem_of_getElem? hk, decide_eq_true ⟨n, e⟩⟩)
/-- one object of a world, alone, under another name -/
theorem xw.one {g : xg} {A B : Nat → Prop} {w : xw_W} {H : Heap} (h : xw g A w H) {n : Nat} {q : Nat × va_E} (hq : w n = some q) (k : Nat) (hB : B q.1) : xw g B (va_up (fun _ => none) k (some q)) H := by
  obtain ⟨ws, hP, hD, h3, h4⟩ := h
  obtain ⟨j, hj⟩ := h3 n q hq
  have key : ∀ n' q', va_up (fun _ => none) k (some q) n' = some q' → n' = k ∧ q' = q := by
    intro n' q' h
    by_cases e : n' = k
    · rw [e, va_up_s] at h
      exact ⟨e, (Option.some.inj h).symm⟩
    · rw [va_up_n e] at h
      cases h
  have one : ∀ (i : Nat) (q' : Nat × va_E), [q][i]? = some q' → i = 0 ∧ q' = q := by
    intro i q' h
    have hz : i < 1 := (List.getElem?_eq_some_iff.mp h).1
    rw [show i = 0 by omega] at h
    exact ⟨by omega, (Option.some.inj h).symm⟩
  refine ⟨[q], fun i q' hi => ?_, ⟨fun i i' p p' hi hi' _ => by rw [(one i p hi).1, (one i' p' hi').1], fun i q' hi => ?_⟩, fun n' q' e => ⟨0, ?_⟩, fun n1 n2 q1 q2 e1 e2 _ => (key n1 q1 e1).1.trans (key n2 q2 e2).1.symm⟩
  · rw [(one i q' hi).2]
    exact hP j q hj
  · rw [(one i q' hi).2]
    exact hB
  · rw [(key n' q' e).2]
    rfl
theorem mi_0 {g : xg} {m0 : Nat} {fs : List Value} : mi g m0 (fun _ => 0) (fun _ _ => 0) 0 fs = va_up (fun _ => none) 100 (some (m0, .inr (2, fs))) := by
  funext n
  unfold mi
  by_cases h1 : n = 100
  · rw [if_pos h1, h1, va_up_s]
  · rw [if_neg h1, if_pos (Or.inr (Nat.zero_le n)), va_up_n h1]
theorem yk_cell (l : Launch) (bb L k : Nat) (xs : Nat → Int32) (H0 : Heap) (hk : k < 1000) (hL : L ≤ 259) (hbl : bb < H0.size) :
    Met l yX0_cell (ws_ yX0_cell cX0_cell 2 (some .int)) (xrm 0 0 0) (va_Pc [.ref bb, .int (nI k)] (fun U => U.heap = H0 ∧ va_X bb L xs U U.heap)) (zQi (fun _ => False) (fun H => H = H0) (fun r => r = if k < L then xs k else 0)) 0 0 (fun _ => False) := by
  refine Met.ofW (cc := cX0_cell) (maxL := 2) (ret := some .int) rfl rfl ?_
  intro p e s m args below meth c s₁ B hml hv
  obtain ⟨rfl, hH, hX⟩ := hv
  have hts := atoms_spec (ws := ws_ yX0_cell cX0_cell 2 (some .int)) B.pre
  have hts : ∀ w ∈ lw_all, w.before _ s = true := fun w h => hts w (List.mem_cons_of_mem _ h)
  have hown : s.vm.findClass RX0 = some m.cls := findClass_of_methodNamed B.named
  rw [lg_entry_eq]
  have hl := lh_of (lv_entry [.ref bb, .int (nI k)] (n := 2) (Nat.le_of_ble_eq_true rfl))
  generalize (lg_sl _ ++ List.replicate _ Slot.unset).toArray = ls at hl ⊢
  have hl : lh ls 2 (xl [(0, .ref bb), (1, .int (nI k))]) := hl
  have hx := B.exec
  have hb := B.bytes
  have hF : xFix p m c cX0_cell 2 s _ RX0 := ⟨hx, hb, hml, hown, hts⟩
  have hbl : bb < s.heap.size := by rw [hH]; exact hbl
  have hS : va_S (x3 s.heap.size) s.heap s.heap [] := va_S.rf
  have hS0 : va_S (fun _ => False) s.heap s.heap [] := va_S.rf
  refine lv_iload_n hx hb dX0_cell_0 rfl (lh_at hl rfl) ?_
  refine lv_aload_n hx hb dX0_cell_1 rfl (lh_at hl rfl) ?_
  refine l_len hF hX hbl hS dX0_cell_2 ?_
  refine n_icmp_ge (tgt := 12) hx hb dX0_cell_3 (by decide) (by omega) (by omega) (fun c1 => ?_) (fun c1 => ?_)
  · refine n_const hx hb 0 dX0_cell_12 (by decide +kernel) ?_
    exact x_iret hx hb B.returns B.notSynchronized hS0 () (by rw [if_neg (by omega)]; rfl) hH dX0_cell_13
  · refine lv_aload_n hx hb dX0_cell_6 rfl (lh_at hl rfl) ?_
    refine lv_iload_n hx hb dX0_cell_7 rfl (lh_at hl rfl) ?_
    refine l_iald hF hX hbl hS (by omega) hL dX0_cell_8 ?_
    refine lv_goto (tgt := 13) hx hb dX0_cell_9 (by decide) ?_
    exact x_iret hx hb B.returns B.notSynchronized hS0 () (by rw [if_pos (by omega)]) hH dX0_cell_13
section YS
variable {p : Program} {l : Launch} {e : Env} {R : Room} {s : State} {m : MethodId} {args : Array Value} {below : List Frame} {meth : Method} {c : Code} {H : Heap} {locs : List Loc} {cells slots : Nat} {Q : State → Prop}
variable {cc : ByteArray} {pc nL : Nat} {ls : Array Slot} {rest : List Value} {own : String} {index : Nat} {lf : Nat → Option Value}
theorem l_cell {bb L k : Nat} {xs : Nat → Int32} (hF : xFix p m c cc nL s args own) (hX : va_X bb L xs s s.heap) (hbl : bb < s.heap.size) (hL : L ≤ 259) (hk : k < 1000) (hS : va_S (x3 s.heap.size) s.heap H locs) (hls : lh ls nL lf)
    (h1 : Cond.methodLink own index yX0_cell ∈ lw_all) (h2 : Cond.static yX0_cell ∈ lw_all) (h4 : Cond.initialized yX0_cell.cls ∈ lw_all) (h5 : Cond.code yX0_cell cX0_cell 2 (some .int) ∈ lw_all) (hR : 5 ≤ R.frames ∧ 200 ≤ R.locals) (hcat : (rest.map fun v => v.category).sum ≤ 8) (hdg : decode cc pc = .ok (.invokestatic index, 3)) (hf : cells ≤ R.cells ∧ slots ≤ R.slots)
    (kk : ∀ (locs1 : List Loc), va_S (x3 s.heap.size) s.heap H locs1 → W p l e R s m args below meth c H locs1 cells slots Q (F0 m (pc + 3) ls (.int (if k < L then xs k else 0) :: rest))) : W p l e R s m args below meth c H locs cells slots Q (F0 m pc ls (.int (nI k) :: .ref bb :: rest)) := by
  refine va_calli (mc := 0) (ms := 0) (va_runS (As := [.ref bb, .int (nI k)]) (rest := rest) hF (yk_cell l bb L k xs H hk hL (Nat.lt_of_lt_of_le hbl hS.1)) (va_cwS 2 hF.2.2.2.2 (lw_S h1 h2 h4 h5) rfl rfl rfl ⟨by decide +kernel, by decide +kernel, by show _ = some 2; decide +kernel⟩ ⟨by show 4 + 0 + 1 ≤ _; exact hR.1, by show 8 + (2 + 11) + (100 + 64 * 0) ≤ _; omega⟩) ⟨fun a U fr mk q => ⟨q.1, q.2.1, q.2.2⟩, fun U hU hW => ⟨rfl, hU, ?_⟩⟩ rfl rfl (lh_size hls) rfl (lv_room hcat) hdg hf) hS (fun q _ h => absurd h id) (fun q h => absurd h id)
    (fun r u t1 H1 locs1 ht _ hp hB hz hkk hS1 => ?_)
  · obtain ⟨scr, g1, g2, g3⟩ := hX
    exact ⟨scr, by rw [hU, hS.2.1 bb hbl (Nat.not_le.mpr hbl)]; exact g1, State.isArrayOf_alike hW.alike g2, g3⟩
  · have e1 : H1 = H := ht.symm.trans hB
    subst e1
    rw [hp]
    exact kk locs1 hS1
end YS
