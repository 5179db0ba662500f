/-! bytes: rows over worlds -/
set_option maxRecDepth 100000
def bF (f : Nat → Int32) : Prop := ∀ j, fits .byte (.int (f j)) = true
section XB
variable {p : Program} {l : Launch} {e : Env} {R : Room} {s : State} {m : MethodId} {args : Array Value} {below : List Frame} {meth : Method} {c : Code} {H : Heap} {locs : List Loc} {cells slots : Nat} {Q : State → Prop}
variable {cc : ByteArray} {pc nL : Nat} {ls : Array Slot} {rest : List Value} {g : xg} {A : Nat → Prop} {w : xw_W} {a : Nat} {own : String} {index : Nat}
theorem xr_newb (hexec : p.tables.exec = Jvm.exec) (hb : c.code = cc) (harr : (Cond.arrayClass .byte).before args s = true) (hE : xE g A s) (hM : xw g A w H) (hS : va_S A s.heap H locs) (n : Nat) {N : Nat} (hN : N < 100000000) (hcells : cells + 1 ≤ R.cells) (hslots : slots + N ≤ R.slots) (hdg : decode cc pc = .ok (.newarray .byte, 2))
    (kk : ∀ (q : Nat) (H1 : Heap), H.size ≤ q → xw g A (va_up w n (some (q, .inl (g.2 4, N, .inl (fun _ => 0))))) H1 → va_S A s.heap H1 locs →
      W p l e R s m args below meth c H1 locs (cells + 1) (slots + N) Q (F0 m (pc + 2) ls (.ref q :: rest))) : W p l e R s m args below meth c H locs cells slots Q (F0 m pc ls (.int (nI N) :: rest)) := by
  obtain ⟨ws, hP, hD, h3, h4⟩ := hM
  have hn : ¬ nI N < 0 := nI_pos (by omega)
  have hNc : (nI N).toNatClampNeg = N := nI_clamp (by omega)
  refine va_newaK (atype := .byte) hexec hb harr rfl hdg rfl hn hNc (by show N * 1 ≤ _; omega) hcells hslots rfl fun H1 cA e1 z1 o1 hAr hNm => ?_
  have hcA : cA = g.2 4 := xK_cls (ty := .byte) hNm (hE.1.2 4 (g.2 4, .byte) rfl).2
  subst hcA
  have hk : ∀ (k : Nat) (x : Nat × va_E), ws[k]? = some x → H1[x.1]? = H[x.1]? := fun k x hx => o1 x.1 ((hP k x hx).lt)
  refine kk H.size H1 (Nat.le_refl _) (xw_add1 hP (Nat.le_refl _) h3 h4 ((hP.kept hk).app (fun k x hx => ?_)) (hD.push hP rfl (hE.2.1 _ hS.1))) ⟨Nat.le_trans hS.1 (by omega), fun x h1 h2 => (o1 x (Nat.lt_of_lt_of_le h1 hS.1)).trans (hS.2.1 x h1 h2), hS.2.2⟩
  have hz : k < 1 := (List.getElem?_eq_some_iff.mp hx).1
  rw [show k = 0 by omega] at hx
  cases hx
  exact e1
theorem xr_bast (hexec : p.tables.exec = Jvm.exec) (hb : c.code = cc) (hE : xE g A s) (hM : xw g A w H) (hS : va_S A s.heap H locs) {n N i : Nat} {f : Nat → Int32} {x : Int32} (he : w n = some (a, .inl (g.2 4, N, .inl f))) (hi : i < N) (hN : N < 2 ^ 31) (hdg : decode cc pc = .ok (.bastore, 1))
    (kk : ∀ (H1 : Heap) (locs1 : List Loc), xw g A (va_up w n (some (a, .inl (g.2 4, N, .inl (upd f i (vp_nar .byte x)))))) H1 → va_S A s.heap H1 locs1 → W p l e R s m args below meth c H1 locs1 cells slots Q (F0 m (pc + 1) ls rest)) : W p l e R s m args below meth c H locs cells slots Q (F0 m pc ls (.int x :: .int (nI i) :: .ref a :: rest)) := by
  obtain ⟨ws, hP, hD, h3, h4⟩ := hM
  obtain ⟨q0, hq⟩ := h3 n _ he
  refine va_bast hexec hb hE.1 hP hD hS q0 4 hq rfl (vp_in_nI hi hN) hdg (fun H1 locs1 hP1 hD1 hS1 => kk H1 locs1 ?_ hS1)
  rw [nI_clamp (by omega)] at hP1 hD1
  exact xw_put1 hq he h3 h4 hP1 hD1
theorem xr_copyb (hexec : p.tables.exec = Jvm.exec) (hb : c.code = cc) (hml : c.maxLocals = nL) {lf : Nat → Option Value} (hls : lh ls nL lf) (hts : ∀ w ∈ lw_all, w.before args s = true) (hown : s.vm.findClass own = some m.cls) (hE : xE g A s) (hM : xw g A w H) (hS : va_S A s.heap H locs) (hlk : Cond.methodLink own index arraycopyName ∈ lw_all) {n0 n1 N0 N1 a0 : Nat} {f0 f1 : Nat → Int32} (he0 : w n0 = some (a0, .inl (g.2 4, N0, .inl f0))) (he1 : w n1 = some (a, .inl (g.2 4, N1, .inl f1))) (hf : bF f0)
    {sp dp k : Nat} (h1 : sp + k ≤ N0) (h2 : dp + k ≤ N1) (hN0 : N0 < 2 ^ 31) (hN1 : N1 < 2 ^ 31) (hfr : 1 ≤ R.frames) (hcat : (rest.map fun v => v.category).sum ≤ 8) (hlo : 8 + (nativeFrameWords "java/lang/System" "arraycopy" 5 + 11) ≤ R.locals) (hdg : decode cc pc = .ok (.invokestatic index, 3))
    (kk : ∀ (H1 : Heap) (locs1 : List Loc), xw g A (va_up w n1 (some (a, .inl (g.2 4, N1, .inl (va_cpy f0 f1 sp dp k))))) H1 → va_S A s.heap H1 locs1 → W p l e R s m args below meth c H1 locs1 cells slots Q (F0 m (pc + 3) ls rest)) : W p l e R s m args below meth c H locs cells slots Q (F0 m pc ls (.int (nI k) :: .int (nI dp) :: .ref a :: .int (nI sp) :: .ref a0 :: rest)) := by
  obtain ⟨ws, hP, hD, h3, h4⟩ := hM
  obtain ⟨q0, hq0⟩ := h3 n0 _ he0
  obtain ⟨q1, hq1⟩ := h3 n1 _ he1
  have hs0 := lh_size hls
  have c1 : (nI sp).toNatClampNeg = sp := nI_clamp (by omega)
  have c2 : (nI dp).toNatClampNeg = dp := nI_clamp (by omega)
  have c3 : (nI k).toNatClampNeg = k := nI_clamp (by omega)
  refine va_copyi (ty := .byte) hexec hb (hml.trans hs0.symm) hown (hts _ hlk) (hts _ q381) (hts _ q380) (hts _ q56) hE.1 hP hD hS q0 q1 4 4 hq0 hq1 rfl rfl rfl (nI_ge0 (by omega)) (nI_ge0 (by omega)) (nI_ge0 (by omega)) (by rw [c1, c3]; exact h1) (by rw [c2, c3]; exact h2) (fun _ _ => hf _) hfr (by omega) hdg (fun H1 locs1 hP1 hD1 hS1 => kk H1 locs1 ?_ hS1)
  rw [c1, c2, c3] at hP1 hD1
  exact xw_put1 hq1 he1 h3 h4 hP1 hD1
theorem xr_copyt (hexec : p.tables.exec = Jvm.exec) (hb : c.code = cc) (hml : c.maxLocals = nL) {lf : Nat → Option Value} (hls : lh ls nL lf) (hts : ∀ w ∈ lw_all, w.before args s = true) (hown : s.vm.findClass own = some m.cls) (hE : xE g A s) (hM : xw g A w H) (hS : va_S A s.heap H locs) (hlk : Cond.methodLink own index arraycopyName ∈ lw_all) {n1 N0 N1 a0 : Nat} {f0 f1 : Nat → Int32} (hX : va_T .byte a0 N0 (fun j => .int (f0 j)) A s s.heap) (he1 : w n1 = some (a, .inl (g.2 4, N1, .inl f1))) (hf : ∀ j, j < N0 → fits .byte (.int (f0 j)) = true)
    {sp dp k : Nat} (h1 : sp + k ≤ N0) (h2 : dp + k ≤ N1) (hN0 : N0 < 2 ^ 31) (hN1 : N1 < 2 ^ 31) (hfr : 1 ≤ R.frames) (hcat : (rest.map fun v => v.category).sum ≤ 8) (hlo : 8 + (nativeFrameWords "java/lang/System" "arraycopy" 5 + 11) ≤ R.locals) (hdg : decode cc pc = .ok (.invokestatic index, 3))
    (kk : ∀ (H1 : Heap) (locs1 : List Loc), xw g A (va_up w n1 (some (a, .inl (g.2 4, N1, .inl (va_cpy f0 f1 sp dp k))))) H1 → va_S A s.heap H1 locs1 → W p l e R s m args below meth c H1 locs1 cells slots Q (F0 m (pc + 3) ls rest)) : W p l e R s m args below meth c H locs cells slots Q (F0 m pc ls (.int (nI k) :: .int (nI dp) :: .ref a :: .int (nI sp) :: .ref a0 :: rest)) := by
  obtain ⟨ws, hP, hD, h3, h4⟩ := hM
  obtain ⟨q1, hq1⟩ := h3 n1 _ he1
  have hs0 := lh_size hls
  have c1 : (nI sp).toNatClampNeg = sp := nI_clamp (by omega)
  have c2 : (nI dp).toNatClampNeg = dp := nI_clamp (by omega)
  have c3 : (nI k).toNatClampNeg = k := nI_clamp (by omega)
  refine vk_copyt hexec hb (hml.trans hs0.symm) hown (hts _ hlk) (hts _ q381) (hts _ q380) (hts _ q56) hE.1 hP hD hS hX q1 4 hq1 rfl (nI_ge0 (by omega)) (nI_ge0 (by omega)) (nI_ge0 (by omega)) (by rw [c1, c3]; exact h1) (by rw [c2, c3]; exact h2) (fun i hi => hf _ (by rw [c3] at hi; rw [c1]; omega)) hfr (by omega) hdg (fun H1 locs1 hP1 hD1 hS1 => kk H1 locs1 ?_ hS1)
  rw [c1, c2, c3] at hP1 hD1
  exact xw_put1 hq1 he1 h3 h4 hP1 hD1
theorem bF_zero : bF (fun _ => 0) := fun _ => rfl
theorem bF_cpy {f0 f1 : Nat → Int32} {N0 sp dp k : Nat} (h0 : ∀ j, j < N0 → fits .byte (.int (f0 j)) = true) (h : sp + k ≤ N0) (h1 : bF f1) : bF (va_cpy f0 f1 sp dp k) := by
  intro j
  unfold va_cpy
  by_cases hj : dp ≤ j ∧ j < dp + k
  · rw [if_pos hj]
    exact h0 _ (by omega)
  · rw [if_neg hj]
    exact h1 j
end XB
