/-! more rows of the x side -/
set_option maxRecDepth 100000
theorem xcat_le {rest : List Value} {a b k : Nat} (h : (rest.map fun v => v.category).sum ≤ 8) (hab : 8 + a ≤ b) : (rest.map fun v => v.category).sum + a ≤ b := by omega
section XY
variable {p : Program} {l : Launch} {e : Env} {R : Room} {s : State} {m : MethodId} {args : Array Value} {below : List Frame} {meth : Method} {c : Code} {H : Heap} {locs : List Loc} {cells slots : Nat} {Q : State → Prop}
variable {cc : ByteArray} {pc nL : Nat} {ls : Array Slot} {rest : List Value} {g : xg} {A : Nat → Prop} {w : xw_W} {a : Nat} {own : String} {index : Nat}
theorem xr_getN (hexec : p.tables.exec = Jvm.exec) (hb : c.code = cc) {ref C host : String} {T : u_T} {N ci : Nat} (hts : ∀ w ∈ lw_all, w.before args s = true) (hin : ∀ w ∈ u_ws C T N, w ∈ lw_all) (hown : s.vm.findClass own = some m.cls) (hE : xE g A s) (hM : xw g A w H) {n : Nat} {fs : List Value} (he : w n = some (a, .inr (ci, fs))) (hc : xCl[ci]? = some (C, T, N)) (k : Nat) (hk : k < N) (hlink : Cond.fieldLinkNest own index ref (T k).2.1 (T k).2.2.1 host ∈ lw_tbl) (hsame : ∀ x, s.fieldFound? (T k).1 (T k).2.1 (T k).2.2.1 = some x → s.fieldFound? ref (T k).2.1 (T k).2.2.1 = some x) {v : Value} (hv : fs[k]? = some v) (hdg : decode cc pc = .ok (.getfield index, 3))
    (kk : W p l e R s m args below meth c H locs cells slots Q (F0 m (pc + 3) ls (v :: rest))) : W p l e R s m args below meth c H locs cells slots Q (F0 m pc ls (.ref a :: rest)) := by
  obtain ⟨ws, hP, hD, h3, h4⟩ := hM
  obtain ⟨q0, hq⟩ := h3 n _ he
  exact va_getN hexec hb hts hin hown hE.1 hP q0 hq hc k hk (va_Nw.use rfl (hE.2.2.1 _ hlink rfl)) hsame hv hdg kk
theorem xr_putN (hexec : p.tables.exec = Jvm.exec) (hb : c.code = cc) {ref C host : String} {T : u_T} {N ci : Nat} (hts : ∀ w ∈ lw_all, w.before args s = true) (hin : ∀ w ∈ u_ws C T N, w ∈ lw_all) (ty0 : Nat → FieldType) (hty : ∀ k, k < N → parseFieldDescriptor (T k).2.2.1 = some (ty0 k)) (hnm : ∀ a, a < N → ∀ b, b < N → a ≠ b → (T a).2.1 ≠ (T b).2.1) (hown : s.vm.findClass own = some m.cls) (hE : xE g A s) (hM : xw g A w H) (hS0 : va_S A s.heap H locs) {n : Nat} {fs : List Value} (he : w n = some (a, .inr (ci, fs))) (hc : xCl[ci]? = some (C, T, N)) (k : Nat) (hk : k < N) (hlink : Cond.fieldLinkNest own index ref (T k).2.1 (T k).2.2.1 host ∈ lw_tbl) (hsame : ∀ x, s.fieldFound? (T k).1 (T k).2.1 (T k).2.2.1 = some x → s.fieldFound? ref (T k).2.1 (T k).2.2.1 = some x) (hfin : (T k).2.2.2 = false) {ty : FieldType} {v : Value} (hd : parseFieldDescriptor (T k).2.2.1 = some ty) (hn : narrow ty v = v) (hfit : fits ty v = true) (hl : k < fs.length)
    (hdg : decode cc pc = .ok (.putfield index, 3)) (kk : ∀ (H1 : Heap) (locs1 : List Loc), xw g A (va_up w n (some (a, .inr (ci, fs.set k v)))) H1 → va_S A s.heap H1 locs1 → W p l e R s m args below meth c H1 locs1 cells slots Q (F0 m (pc + 3) ls rest)) : W p l e R s m args below meth c H locs cells slots Q (F0 m pc ls (v :: .ref a :: rest)) := by
  obtain ⟨ws, hP, hD, h3, h4⟩ := hM
  obtain ⟨q0, hq⟩ := h3 n _ he
  refine va_putN hexec hb hts hin ty0 hty hnm hown hE.1 hP hD hS0 q0 hq hc k hk (va_Nw.use rfl (hE.2.2.1 _ hlink rfl)) hsame hfin hd hn hfit hl hdg (fun H1 locs1 hP1 hD1 hS1 => kk H1 locs1 (xw_put1 hq he h3 h4 hP1 hD1) hS1)
theorem xr_len (hexec : p.tables.exec = Jvm.exec) (hb : c.code = cc) (hE : xE g A s) (hM : xw g A w H) {n t N : Nat} {y : (Nat → Int32) ⊕ (Nat → Int64) ⊕ (Nat → UInt32) ⊕ (Nat → UInt64) ⊕ (Nat → Option Nat)} {ty : FieldType} (he : w n = some (a, .inl (g.2 t, (N, y)))) (ht : (xTy g)[t]? = some (g.2 t, ty)) (hdg : decode cc pc = .ok (.arraylength, 1))
    (kk : W p l e R s m args below meth c H locs cells slots Q (F0 m (pc + 1) ls (.int (nI N) :: rest))) : W p l e R s m args below meth c H locs cells slots Q (F0 m pc ls (.ref a :: rest)) := xr_alen hexec hb hE hM he ht hdg kk
theorem xr_cast (hexec : p.tables.exec = Jvm.exec) (hb : c.code = cc) (hown : s.vm.findClass own = some m.cls) (hE : xE g A s) (hM : xw g A w H) {n ci : Nat} {fs : List Value} {r : vw_C} (he : w n = some (a, .inr (ci, fs))) (hc : xCl[ci]? = some r) (hl : (Cond.classLink own index r.1).before args s = true) (hdg : decode cc pc = .ok (.checkcast index, 3))
    (kk : W p l e R s m args below meth c H locs cells slots Q (F0 m (pc + 3) ls (.ref a :: rest))) : W p l e R s m args below meth c H locs cells slots Q (F0 m pc ls (.ref a :: rest)) :=
  va_castS hexec hb hown hl (hE.1.1 ci r hc).2 (xw.recv hE hM he hc) hdg kk
theorem xr_castI (hexec : p.tables.exec = Jvm.exec) (hb : c.code = cc) (hown : s.vm.findClass own = some m.cls) (hE : xE g A s) (hM : xw g A w H) {n : Nat} {x : vp_A} (he : w n = some (a, .inl (g.2 0, x))) (hl : (Cond.classLink own index "[I").before args s = true) (hdg : decode cc pc = .ok (.checkcast index, 3))
    (kk : W p l e R s m args below meth c H locs cells slots Q (F0 m (pc + 3) ls (.ref a :: rest))) : W p l e R s m args below meth c H locs cells slots Q (F0 m pc ls (.ref a :: rest)) := by
  obtain ⟨ws, hP, hD, h3, h4⟩ := hM
  obtain ⟨q0, hq⟩ := h3 n _ he
  exact va_castA hexec hb hown hl hP q0 hq (va_nm_int (hE.1.2 0 (g.2 0, .int) rfl).2) hdg kk
theorem xw_addD {n q : Nat} {e1 : va_E} {ws : va_W} {H1 : Heap} (h3 : ∀ n q, w n = some q → ∃ k : Nat, ws[k]? = some q) (h4 : ∀ n n' q q', w n = some q → w n' = some q' → q.1 = q'.1 → n = n')
    (hP : va_P g.1 xCl (ws ++ [(q, e1)]) H1) (hD : va_D A (ws ++ [(q, e1)])) : xw g A (va_up w n (some (q, e1))) H1 := by
  have hne : ∀ n' q', w n' = some q' → q'.1 ≠ q := by
    intro n' q' h he
    obtain ⟨j, hj⟩ := h3 n' q' h
    have hl := (List.getElem?_eq_some_iff.mp hj).1
    have := hD.1 j ws.length q' (q, e1) (by rw [List.getElem?_append_left hl]; exact hj) (by simp) he
    omega
  refine ⟨_, hP, hD, fun n' q' h => ?_, fun n1 n2 q1 q2 a1 a2 e => ?_⟩
  · by_cases hn : n' = n
    · subst hn
      rw [va_up_s] at h
      cases h
      exact ⟨ws.length, by simp⟩
    · rw [va_up_n hn] at h
      obtain ⟨j, hj⟩ := h3 n' q' h
      exact ⟨j, by rw [List.getElem?_append_left (List.getElem?_eq_some_iff.mp hj).1]; exact hj⟩
  · by_cases e1 : n1 = n <;> by_cases e2 : n2 = n
    · rw [e1, e2]
    · subst e1
      rw [va_up_s] at a1
      rw [va_up_n e2] at a2
      cases a1
      exact absurd e.symm (hne _ _ a2)
    · subst e2
      rw [va_up_n e1] at a1
      rw [va_up_s] at a2
      cases a2
      exact absurd e (hne _ _ a1)
    · rw [va_up_n e1] at a1
      rw [va_up_n e2] at a2
      exact h4 _ _ _ _ a1 a2 e
theorem xr_clone (hexec : p.tables.exec = Jvm.exec) (hb : c.code = cc) (hml : c.maxLocals = nL) {lf : Nat → Option Value} (hls : lh ls nL lf) (hts : ∀ w ∈ lw_all, w.before args s = true) (hown : s.vm.findClass own = some m.cls) (hE : xE g A s) (hM : xw g A w H) (hS : va_S A s.heap H locs) (hlk : Cond.methodLink own index ⟨"[I", "clone", "()Ljava/lang/Object;"⟩ ∈ lw_all) (hnt : Cond.native ⟨"java/lang/Object", "clone", "()Ljava/lang/Object;"⟩ ∈ lw_all) (hin : Cond.instanceMethod ⟨"java/lang/Object", "clone", "()Ljava/lang/Object;"⟩ ∈ lw_all) (n2 : Nat) {n N : Nat} {f : Nat → Int32} (he : w n = some (a, .inl (g.2 0, N, .inl f)))
    (hfr : 1 ≤ R.frames) (hcat : (rest.map fun v => v.category).sum ≤ 8) (hlo : 8 + 14 ≤ R.locals) (hcells : cells + 1 ≤ R.cells) (hslots : slots + N ≤ R.slots) (hdg : decode cc pc = .ok (.invokevirtual index, 3))
    (kk : ∀ (q : Nat) (H1 : Heap), xw g A (va_up w n2 (some (q, .inl (g.2 0, N, .inl f)))) H1 → va_S A s.heap H1 locs →
      W p l e R s m args below meth c H1 locs (cells + 1) (slots + N) Q (F0 m (pc + 3) ls (.ref q :: rest))) : W p l e R s m args below meth c H locs cells slots Q (F0 m pc ls (.ref a :: rest)) := by
  obtain ⟨ws, hP, hD, h3, h4⟩ := hM
  obtain ⟨q0, hq⟩ := h3 n _ he
  have hs0 := lh_size hls
  refine va_clone (ad := "[I") hexec hb (hml.trans hs0.symm) hown (hts _ hlk) (hts _ q1173) (hts _ hnt) (hts _ hin) (hts _ q1174) (hE.2.2.1 _ q1175 rfl) hE.1 hP hD hS hE.2.1 q0 0 hq rfl (va_nm_int (hE.1.2 0 (g.2 0, .int) rfl).2)
    (va_fit (ty := .int) (fun _ _ => rfl)) hfr (by omega) hcells hslots hdg (fun q H1 hK1 hP1 hD1 hS1 => ?_)
  exact kk q H1 (xw_addD h3 h4 hP1 hD1) hS1
theorem xr_copyi (hexec : p.tables.exec = Jvm.exec) (hb : c.code = cc) (hml : c.maxLocals = nL) {lf : Nat → Option Value} (hls : lh ls nL lf) (hts : ∀ w ∈ lw_all, w.before args s = true) (hown : s.vm.findClass own = some m.cls) (hE : xE g A s) (hM : xw g A w H) (hS : va_S A s.heap H locs) (hlk : Cond.methodLink own index arraycopyName ∈ lw_all) {n0 n1 N0 N1 a0 : Nat} {f0 f1 : Nat → Int32} (he0 : w n0 = some (a0, .inl (g.2 0, N0, .inl f0))) (he1 : w n1 = some (a, .inl (g.2 0, N1, .inl f1)))
    {sp dp k : Nat} (h1 : sp + k ≤ N0) (h2 : dp + k ≤ N1) (hN0 : N0 < 2 ^ 31) (hN1 : N1 < 2 ^ 31) (hfr : 1 ≤ R.frames) (hcat : (rest.map fun v => v.category).sum ≤ 8) (hlo : 8 + (nativeFrameWords "java/lang/System" "arraycopy" 5 + 11) ≤ R.locals) (hdg : decode cc pc = .ok (.invokestatic index, 3))
    (kk : ∀ (H1 : Heap) (locs1 : List Loc), xw g A (va_up w n1 (some (a, .inl (g.2 0, N1, .inl (va_cpy f0 f1 sp dp k))))) H1 → va_S A s.heap H1 locs1 → W p l e R s m args below meth c H1 locs1 cells slots Q (F0 m (pc + 3) ls rest)) : W p l e R s m args below meth c H locs cells slots Q (F0 m pc ls (.int (nI k) :: .int (nI dp) :: .ref a :: .int (nI sp) :: .ref a0 :: rest)) := by
  obtain ⟨ws, hP, hD, h3, h4⟩ := hM
  obtain ⟨q0, hq0⟩ := h3 n0 _ he0
  obtain ⟨q1, hq1⟩ := h3 n1 _ he1
  have hs0 := lh_size hls
  have c1 : (nI sp).toNatClampNeg = sp := nI_clamp (by omega)
  have c2 : (nI dp).toNatClampNeg = dp := nI_clamp (by omega)
  have c3 : (nI k).toNatClampNeg = k := nI_clamp (by omega)
  refine va_copyi (ty := .int) hexec hb (hml.trans hs0.symm) hown (hts _ hlk) (hts _ q381) (hts _ q380) (hts _ q56) hE.1 hP hD hS q0 q1 0 0 hq0 hq1 rfl rfl rfl (nI_ge0 (by omega)) (nI_ge0 (by omega)) (nI_ge0 (by omega)) (by rw [c1, c3]; exact h1) (by rw [c2, c3]; exact h2) (fun _ _ => rfl) hfr (by omega) hdg (fun H1 locs1 hP1 hD1 hS1 => kk H1 locs1 ?_ hS1)
  rw [c1, c2, c3] at hP1 hD1
  exact xw_put1 hq1 he1 h3 h4 hP1 hD1
theorem xr_copyq (hexec : p.tables.exec = Jvm.exec) (hb : c.code = cc) (hml : c.maxLocals = nL) {lf : Nat → Option Value} (hls : lh ls nL lf) (hts : ∀ w ∈ lw_all, w.before args s = true) (hown : s.vm.findClass own = some m.cls) (hE : xE g A s) (hM : xw g A w H) (hS : va_S A s.heap H locs) (hlk : Cond.methodLink own index arraycopyName ∈ lw_all) {ci : Nat} {r : vw_C} (hc : xCl[ci]? = some r) (hca : Cond.castable r.1 "java/lang/Object" ∈ lw_tbl) {n0 n1 N0 N1 a0 : Nat} {f0 f1 : Nat → Option Nat} (he0 : w n0 = some (a0, .inl (g.2 1, aQ N0 f0))) (he1 : w n1 = some (a, .inl (g.2 1, aQ N1 f1)))
    {sp dp k : Nat} (h1 : sp + k ≤ N0) (h2 : dp + k ≤ N1) (hN0 : N0 < 2 ^ 31) (hN1 : N1 < 2 ^ 31) (hel : ∀ i, i < k → ∀ y, f0 (sp + i) = some y → ∃ n fs, w n = some (y, .inr (ci, fs))) (hfr : 1 ≤ R.frames) (hcat : (rest.map fun v => v.category).sum ≤ 8) (hlo : 8 + (nativeFrameWords "java/lang/System" "arraycopy" 5 + 11) ≤ R.locals) (hdg : decode cc pc = .ok (.invokestatic index, 3))
    (kk : ∀ (H1 : Heap) (locs1 : List Loc), xw g A (va_up w n1 (some (a, .inl (g.2 1, aQ N1 (va_cpy f0 f1 sp dp k))))) H1 → va_S A s.heap H1 locs1 → W p l e R s m args below meth c H1 locs1 cells slots Q (F0 m (pc + 3) ls rest)) : W p l e R s m args below meth c H locs cells slots Q (F0 m pc ls (.int (nI k) :: .int (nI dp) :: .ref a :: .int (nI sp) :: .ref a0 :: rest)) := by
  have hM0 := hM
  obtain ⟨ws, hP, hD, h3, h4⟩ := hM
  obtain ⟨q0, hq0⟩ := h3 n0 _ he0
  obtain ⟨q1, hq1⟩ := h3 n1 _ he1
  have hs0 := lh_size hls
  have c1 : (nI sp).toNatClampNeg = sp := nI_clamp (by omega)
  have c2 : (nI dp).toNatClampNeg = dp := nI_clamp (by omega)
  have c3 : (nI k).toNatClampNeg = k := nI_clamp (by omega)
  refine va_copyq (C := r.1) (E0 := "java/lang/Object") (E1 := "java/lang/Object") hexec hb (hml.trans hs0.symm) hown (hts _ hlk) (hts _ q381) (hts _ q380) (hts _ q56) hE.1 hP hD hS q0 q1 1 1 hq0 hq1 rfl rfl (nI_ge0 (by omega)) (nI_ge0 (by omega)) (nI_ge0 (by omega)) (by rw [c1, c3]; exact h1) (by rw [c2, c3]; exact h2) (fun i hi y hy => ?_) (fun comp c0 g1 g2 => ?_) hfr (by omega) hdg (fun H1 locs1 hP1 hD1 hS1 => kk H1 locs1 ?_ hS1)
  · rw [c3] at hi
    rw [c1] at hy
    obtain ⟨n, fs, hn⟩ := hel i hi y hy
    exact xw.recv hE hM0 hn hc
  · obtain ⟨c1', t1, f1', f2, f3⟩ := Cond.castable_spec (va_Nw.use (A := args) rfl (hE.2.2.1 _ hca rfl))
    cases g2.symm.trans f1'
    cases g1.symm.trans f2
    exact f3
  · rw [c1, c2, c3] at hP1 hD1
    exact xw_put1 hq1 he1 h3 h4 hP1 hD1
/-! calls by interface -/
variable {n mc ms maxL count : Nat} {bytes : ByteArray} {st0 As : List Value} {lf : Nat → Option Value} {y x : MethodName} {ret : Option FieldType} {rm : Room} {b : Nat} {P : Heap → Prop} {C : String}
theorem x_runF {Qc : Array Value → State → Outcome → State → Prop} (hF : xFix p m c cc nL s args own) (hE : xE g A s) (hS : va_S A s.heap H locs) (hP : P H) (hls : lh ls nL lf) (hM : Met l y (ws_ y bytes maxL ret) rm (xPc g A (.ref b :: As) P) Qc mc ms A) (hrv : xRv s H C b) (hat : ∃ cC, ClassAt s C cC)
    (hq : (C, x, y) ∈ xFl) (h1 : Cond.methodLink own index x ∈ lw_all) (h2 : Cond.instanceMethod y ∈ lw_all) (h3 : Cond.selects C x y ∈ lw_all) (h4 : Cond.initialized y.cls ∈ lw_all) (h5 : Cond.code y bytes maxL ret ∈ lw_all) (hd : x.cls ≠ "java/lang/invoke/MethodHandle" ∧ x.cls ≠ "java/lang/invoke/VarHandle" ∧ (parseMethodDescriptor x.desc).map (fun d => d.parameters.length) = some As.length)
    (hrc : rm.cells = mc) (hrs : rm.slots = ms) (hR : rm.frames + 1 ≤ R.frames ∧ 8 + (maxL + 11) + rm.locals ≤ R.locals) (hst : st0 = As.reverse ++ .ref b :: rest) (hcat : (rest.map fun v => v.category).sum ≤ 8) (hdg : decode cc pc = .ok (.invokeinterface index count, 5)) (hf : cells + mc ≤ R.cells ∧ slots + ms ≤ R.slots) :
    va_Run5 p l e R s m args below meth c H locs cells slots mc ms (F0 m pc ls st0) rest (Qc (Value.ref b :: As).toArray) A := by
  obtain ⟨cC, hat⟩ := hat
  refine va_runF hat hF hM (va_cwF As.length hF.2.2.2.2 ?_ rfl hrc hrs (hE.2.2.2.1 _ hq) hd hR) (x_preV hE hS hP hrv) rfl rfl (lh_size hls) hst (lv_room hcat) hdg hf
  intro w hw
  have hw' : w = .methodLink own index x ∨ w = .selects C x y ∨ w = .instanceMethod y ∨ w = .initialized y.cls ∨ w ∈ ws_ y bytes maxL ret := by
    simpa [va_wsF, or_assoc] using hw
  rcases hw' with rfl | rfl | rfl | rfl | hw'
  · exact ⟨h1, good_of_word (List.mem_filter.mp h1).2⟩
  · exact ⟨h3, good_of_word (List.mem_filter.mp h3).2⟩
  · exact ⟨h2, good_of_word (List.mem_filter.mp h2).2⟩
  · exact ⟨h4, good_of_word (List.mem_filter.mp h4).2⟩
  · rcases List.mem_cons.mp hw' with rfl | hw'
    · exact ⟨h5, good_of_word (List.mem_filter.mp h5).2⟩
    · exact ⟨hw', good_of_word (List.mem_filter.mp hw').2⟩
theorem x_callFi {S : Type} {post : Int32 → S → Prop} {P1 : S → Heap → Prop} {a : Array Value} (hr : va_Run5 p l e R s m args below meth c H locs cells slots mc ms (F0 m pc ls st0) rest (xQi post P1 A a) A) (hS : va_S A s.heap H locs)
    (kk : ∀ (r : Int32) (u : S) (H1 : Heap) (locs1 : List Loc), post r u → P1 u H1 → va_S A s.heap H1 locs1 → W p l e R s m args below meth c H1 locs1 (cells + mc) (slots + ms) Q (F0 m (pc + 5) ls (.int r :: rest))) : W p l e R s m args below meth c H locs cells slots Q (F0 m pc ls st0) :=
  va_callFi hr hS (fun _ _ h => h) (fun _ h => h) (fun r u t H1 locs1 ht hvm hp hB hz hk hS1 => kk r u H1 locs1 hp (by rw [← ht]; exact hB) hS1)
theorem x_callFv {S : Type} {post : S → Prop} {P1 : S → Heap → Prop} {a : Array Value} (hr : va_Run5 p l e R s m args below meth c H locs cells slots mc ms (F0 m pc ls st0) rest (xQv post P1 A a) A) (hS : va_S A s.heap H locs)
    (kk : ∀ (u : S) (H1 : Heap) (locs1 : List Loc), post u → P1 u H1 → va_S A s.heap H1 locs1 → W p l e R s m args below meth c H1 locs1 (cells + mc) (slots + ms) Q (F0 m (pc + 5) ls rest)) : W p l e R s m args below meth c H locs cells slots Q (F0 m pc ls st0) :=
  va_callFv hr hS (fun _ _ h => h) (fun _ h => h) (fun u t H1 locs1 ht hvm hp hB hz hk hS1 => kk u H1 locs1 hp (by rw [← ht]; exact hB) hS1)
theorem x_callFr {S : Type} {post : S → Prop} {P1 : S → Nat → Heap → Prop} {a : Array Value} (hr : va_Run5 p l e R s m args below meth c H locs cells slots mc ms (F0 m pc ls st0) rest (xQr post P1 A a) A) (hS : va_S A s.heap H locs)
    (kk : ∀ (u : S) (ra : Nat) (H1 : Heap) (locs1 : List Loc), post u → P1 u ra H1 → va_S A s.heap H1 locs1 → W p l e R s m args below meth c H1 locs1 (cells + mc) (slots + ms) Q (F0 m (pc + 5) ls (.ref ra :: rest))) : W p l e R s m args below meth c H locs cells slots Q (F0 m pc ls st0) :=
  va_callFr hr hS (fun _ _ h => h) (fun _ h => h) (fun u ra t H1 locs1 ht hvm hp hB hz hk hS1 => kk u ra H1 locs1 hp (by rw [← ht]; exact hB) hS1)
theorem xw.at (hE : xE g A s) {ci : Nat} {q : vw_C} (hc : xCl[ci]? = some q) : ∃ cC, ClassAt s q.1 cC := ⟨_, (hE.1.1 ci q hc).2⟩
end XY
