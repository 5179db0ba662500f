/-! THE REFERENCE's WORLD: one object and twelve int arrays. State: int fields by number, arrays by number, the long 'alone' -/
set_option maxRecDepth 100000
abbrev mS : Type := (Nat → Int32) × (Nat → Nat → Int32) × Int64
/-- the length of the array in field k; 0: no array -/
def mLen (k : Nat) : Nat := match k with
  | 5 => 20 | 7 => 40 | 8 => 40 | 9 => 40 | 10 => 40 | 11 => 200 | 12 => 200 | 17 => 9 | 18 => 5120 | 19 => 9 | 20 => 20 | 21 => 20
  | _ => 0
def mFs (ad : Nat → Nat) (μ : mS) : List Value := [.int (μ.1 0), .int (μ.1 1), .int (μ.1 2), .int (μ.1 3), .int (μ.1 4), .ref (ad 5), .int (μ.1 6), .ref (ad 7), .ref (ad 8), .ref (ad 9), .ref (ad 10), .ref (ad 11), .ref (ad 12), .int (μ.1 13), .int (μ.1 14), .long μ.2.2, .int (μ.1 16), .ref (ad 17), .ref (ad 18), .ref (ad 19), .ref (ad 20), .ref (ad 21)]
def mw (g : xg) (m0 : Nat) (ad : Nat → Nat) (μ : mS) : xw_W := fun n => if n = 100 then some (m0, .inr (2, mFs ad μ)) else if mLen n = 0 then none else some (ad n, .inl (g.2 0, mLen n, .inl (μ.2.1 n)))
abbrev mW (g : xg) (A : Nat → Prop) (m0 : Nat) (ad : Nat → Nat) (μ : mS) (H : Heap) : Prop := xw g A (mw g m0 ad μ) H
def m_setI (μ : mS) (k : Nat) (v : Int32) : mS := (va_up μ.1 k v, μ.2)
def m_setA (μ : mS) (k : Nat) (f : Nat → Int32) : mS := (μ.1, va_up μ.2.1 k f, μ.2.2)
def m_setL (μ : mS) (v : Int64) : mS := (μ.1, μ.2.1, v)
theorem mw_obj {g : xg} {m0 : Nat} {ad : Nat → Nat} {μ : mS} : mw g m0 ad μ 100 = some (m0, .inr (2, mFs ad μ)) := by simp [mw]
theorem mLen_small {k : Nat} (h : mLen k ≠ 0) : k < 22 := by
  unfold mLen at h
  split at h <;> first | omega | exact absurd rfl h
theorem mw_arr {g : xg} {m0 : Nat} {ad : Nat → Nat} {μ : mS} {k : Nat} (h : mLen k ≠ 0) : mw g m0 ad μ k = some (ad k, .inl (g.2 0, mLen k, .inl (μ.2.1 k))) := by
  have := mLen_small h
  unfold mw
  rw [if_neg (by omega), if_neg h]
theorem mw_setObj {g : xg} {m0 : Nat} {ad : Nat → Nat} {μ μ' : mS} {fs : List Value} (h1 : fs = mFs ad μ') (h2 : μ'.2.1 = μ.2.1) : va_up (mw g m0 ad μ) 100 (some (m0, .inr (2, fs))) = mw g m0 ad μ' := by
  funext n
  by_cases hn : n = 100
  · subst hn
    rw [va_up_s, mw_obj, h1]
  · rw [va_up_n hn]
    unfold mw
    rw [if_neg hn, if_neg hn, h2]
theorem mw_setArr {g : xg} {m0 : Nat} {ad : Nat → Nat} {μ : mS} {k : Nat} (h : mLen k ≠ 0) (f : Nat → Int32) : va_up (mw g m0 ad μ) k (some (ad k, .inl (g.2 0, mLen k, .inl f))) = mw g m0 ad (m_setA μ k f) := by
  have hk := mLen_small h
  funext n
  by_cases hn : n = k
  · subst hn
    rw [va_up_s, mw_arr h]
    simp [m_setA, va_up]
  · rw [va_up_n hn]
    unfold mw
    by_cases h1 : n = 100
    · rw [if_pos h1, if_pos h1]
      rfl
    · rw [if_neg h1, if_neg h1]
      by_cases h2 : mLen n = 0
      · rw [if_pos h2, if_pos h2]
      · rw [if_neg h2, if_neg h2]
        simp [m_setA, va_up, hn]
section XMM
variable {p : Program} {l : Launch} {e : Env} {R : Room} {s : State} {m : MethodId} {args : Array Value} {below : List Frame} {meth : Method} {c : Code} {H : Heap} {locs : List Loc} {cells slots : Nat} {Q : State → Prop}
variable {cc bytes : ByteArray} {pc nL maxL n index : Nat} {ls : Array Slot} {rest st0 As : List Value} {g : xg} {A : Nat → Prop} {m0 : Nat} {ad : Nat → Nat} {μ : mS} {lf : Nat → Option Value} {y : MethodName} {ret : Option FieldType} {rm : Room}
theorem m_getI (hF : xFix p m c cc nL s args RX3) (hE : xE g A s) (hM : mW g A m0 ad μ H) (k : Nat) (hk : k < 22) (hl : Cond.fieldLink RX3 index RX3 (TX3 k).2.1 (TX3 k).2.2.1 ∈ lw_all) {x z : Int32} (hv : (mFs ad μ)[k]? = some (.int x)) (hz : x = z) (hdg : decode cc pc = .ok (.getfield index, 3))
    (kk : W p l e R s m args below meth c H locs cells slots Q (F0 m (pc + 3) ls (.int z :: rest))) : W p l e R s m args below meth c H locs cells slots Q (F0 m pc ls (.ref m0 :: rest)) := by
  subst hz
  exact xr_get (C := RX3) (T := TX3) (N := 22) (ci := 2) hF.1 hF.2.1 hF.2.2.2.2 in_X3 hF.2.2.2.1 hE hM mw_obj rfl k hk (hF.2.2.2.2 _ hl) (by
    have h1 : ∀ k, k < 22 → (TX3 k).1 = RX3 := by decide +kernel
    intro x hx
    rw [h1 k hk] at hx
    exact hx) hv hdg kk
theorem m_getA (hF : xFix p m c cc nL s args RX3) (hE : xE g A s) (hM : mW g A m0 ad μ H) (k : Nat) (hk : k < 22) (hl : Cond.fieldLink RX3 index RX3 (TX3 k).2.1 (TX3 k).2.2.1 ∈ lw_all) (hv : (mFs ad μ)[k]? = some (.ref (ad k))) (hdg : decode cc pc = .ok (.getfield index, 3))
    (kk : W p l e R s m args below meth c H locs cells slots Q (F0 m (pc + 3) ls (.ref (ad k) :: rest))) : W p l e R s m args below meth c H locs cells slots Q (F0 m pc ls (.ref m0 :: rest)) := by
  exact xr_get (C := RX3) (T := TX3) (N := 22) (ci := 2) hF.1 hF.2.1 hF.2.2.2.2 in_X3 hF.2.2.2.1 hE hM mw_obj rfl k hk (hF.2.2.2.2 _ hl) (by
    have h1 : ∀ k, k < 22 → (TX3 k).1 = RX3 := by decide +kernel
    intro x hx
    rw [h1 k hk] at hx
    exact hx) hv hdg kk
theorem m_getL (hF : xFix p m c cc nL s args RX3) (hE : xE g A s) (hM : mW g A m0 ad μ H) (hl : Cond.fieldLink RX3 index RX3 (TX3 15).2.1 (TX3 15).2.2.1 ∈ lw_all) {z : Int64} (hz : μ.2.2 = z) (hdg : decode cc pc = .ok (.getfield index, 3))
    (kk : W p l e R s m args below meth c H locs cells slots Q (F0 m (pc + 3) ls (.long z :: rest))) : W p l e R s m args below meth c H locs cells slots Q (F0 m pc ls (.ref m0 :: rest)) := by
  subst hz
  exact xr_get (C := RX3) (T := TX3) (N := 22) (ci := 2) hF.1 hF.2.1 hF.2.2.2.2 in_X3 hF.2.2.2.1 hE hM mw_obj rfl 15 (by decide) (hF.2.2.2.2 _ hl) (fun _ h => h) rfl hdg kk
theorem m_putI (hF : xFix p m c cc nL s args RX3) (hE : xE g A s) (hM : mW g A m0 ad μ H) (hS : va_S A s.heap H locs) (k : Nat) (hk : k < 22) (hl : Cond.fieldLink RX3 index RX3 (TX3 k).2.1 (TX3 k).2.2.1 ∈ lw_all) {x : Int32} (hfin : (TX3 k).2.2.2 = false) (hty : parseFieldDescriptor (TX3 k).2.2.1 = some .int) (hset : (mFs ad μ).set k (.int x) = mFs ad (m_setI μ k x)) (hdg : decode cc pc = .ok (.putfield index, 3))
    (kk : ∀ (H : Heap) (locs : List Loc), mW g A m0 ad (m_setI μ k x) H → va_S A s.heap H locs → W p l e R s m args below meth c H locs cells slots Q (F0 m (pc + 3) ls rest)) : W p l e R s m args below meth c H locs cells slots Q (F0 m pc ls (.int x :: .ref m0 :: rest)) := by
  refine xr_put (C := RX3) (T := TX3) (N := 22) (ci := 2) hF.1 hF.2.1 hF.2.2.2.2 in_X3 tyX3 tyX3_ok nmX3 hF.2.2.2.1 hE hM hS mw_obj rfl k hk (hF.2.2.2.2 _ hl) (by
    have h1 : ∀ k, k < 22 → (TX3 k).1 = RX3 := by decide +kernel
    intro x hx
    rw [h1 k hk] at hx
    exact hx) hfin hty rfl rfl hk hdg (fun H1 locs1 hM1 hS1 => kk H1 locs1 ?_ hS1)
  rw [mw_setObj (μ := μ) hset rfl] at hM1
  exact hM1
theorem m_putL (hF : xFix p m c cc nL s args RX3) (hE : xE g A s) (hM : mW g A m0 ad μ H) (hS : va_S A s.heap H locs) (hl : Cond.fieldLink RX3 index RX3 (TX3 15).2.1 (TX3 15).2.2.1 ∈ lw_all) {x : Int64} (hdg : decode cc pc = .ok (.putfield index, 3))
    (kk : ∀ (H : Heap) (locs : List Loc), mW g A m0 ad (m_setL μ x) H → va_S A s.heap H locs → W p l e R s m args below meth c H locs cells slots Q (F0 m (pc + 3) ls rest)) : W p l e R s m args below meth c H locs cells slots Q (F0 m pc ls (.long x :: .ref m0 :: rest)) := by
  refine xr_put (C := RX3) (T := TX3) (N := 22) (ci := 2) (ty := .long) hF.1 hF.2.1 hF.2.2.2.2 in_X3 tyX3 tyX3_ok nmX3 hF.2.2.2.1 hE hM hS mw_obj rfl 15 (by decide) (hF.2.2.2.2 _ hl) (fun _ h => h) rfl (by decide +kernel) rfl rfl (by show 15 < 22; decide) hdg (fun H1 locs1 hM1 hS1 => kk H1 locs1 ?_ hS1)
  rw [mw_setObj (μ := μ) (fs := (mFs ad μ).set 15 (.long x)) (μ' := m_setL μ x) rfl rfl] at hM1
  exact hM1
theorem m_ald (hF : xFix p m c cc nL s args RX3) (hE : xE g A s) (hM : mW g A m0 ad μ H) {k i : Nat} (hk : mLen k ≠ 0) (hi : i < mLen k) {z : Int32} (hz : μ.2.1 k i = z) (hdg : decode cc pc = .ok (.iaload, 1))
    (kk : W p l e R s m args below meth c H locs cells slots Q (F0 m (pc + 1) ls (.int z :: rest))) : W p l e R s m args below meth c H locs cells slots Q (F0 m pc ls (.int (nI i) :: .ref (ad k) :: rest)) := by
  have hN : mLen k < 2 ^ 31 := by unfold mLen; split <;> decide
  exact xr_iald hF.1 hF.2.1 hE hM (mw_arr hk) hi hN hz hdg kk
theorem m_ast (hF : xFix p m c cc nL s args RX3) (hE : xE g A s) (hM : mW g A m0 ad μ H) (hS : va_S A s.heap H locs) {k i : Nat} (hk : mLen k ≠ 0) (hi : i < mLen k) {x : Int32} (hdg : decode cc pc = .ok (.iastore, 1))
    (kk : ∀ (H : Heap) (locs : List Loc), mW g A m0 ad (m_setA μ k (upd (μ.2.1 k) i x)) H → va_S A s.heap H locs → W p l e R s m args below meth c H locs cells slots Q (F0 m (pc + 1) ls rest)) : W p l e R s m args below meth c H locs cells slots Q (F0 m pc ls (.int x :: .int (nI i) :: .ref (ad k) :: rest)) := by
  have hN : mLen k < 2 ^ 31 := by unfold mLen; split <;> decide
  refine xr_iast hF.1 hF.2.1 hE hM hS (mw_arr hk) hi hN hdg (fun H1 locs1 hM1 hS1 => kk H1 locs1 ?_ hS1)
  rw [mw_setArr hk] at hM1
  exact hM1
/-! calls inside the class: contracts over its own world -/
abbrev mPc (g : xg) (A : Nat → Prop) (m0 : Nat) (ad : Nat → Nat) (μ : mS) (As : List Value) : Array Value → State → Prop := xPc g A (.ref m0 :: As) (mW g A m0 ad μ)
abbrev mQi (g : xg) (A : Nat → Prop) (m0 : Nat) (ad : Nat → Nat) (post : Int32 → mS → Prop) : Array Value → State → Outcome → State → Prop := xQi post (fun u => mW g A m0 ad u) A
abbrev mQv (g : xg) (A : Nat → Prop) (m0 : Nat) (ad : Nat → Nat) (post : mS → Prop) : Array Value → State → Outcome → State → Prop := xQv post (fun u => mW g A m0 ad u) A
theorem m_calli {post : Int32 → mS → Prop} (hF : xFix p m c cc nL s args RX3) (hE : xE g A s) (hM : mW g A m0 ad μ H) (hS : va_S A s.heap H locs) (hls : lh ls nL lf) (hC : Met l y (ws_ y bytes maxL ret) rm (mPc g A m0 ad μ As) (mQi g A m0 ad post) 0 0 A)
    (h1 : Cond.methodLink RX3 index y ∈ lw_all) (h2 : Cond.instanceMethod y ∈ lw_all) (h3 : Cond.selects RX3 y y ∈ lw_all) (h5 : Cond.code y bytes maxL ret ∈ lw_all) (hd : y.cls = RX3 ∧ y.cls ≠ "java/lang/invoke/MethodHandle" ∧ y.cls ≠ "java/lang/invoke/VarHandle" ∧ (parseMethodDescriptor y.desc).map (fun d => d.parameters.length) = some As.length)
    (hrc : rm.cells = 0) (hrs : rm.slots = 0) (hR : rm.frames + 1 ≤ R.frames ∧ 8 + (maxL + 11) + rm.locals ≤ R.locals) (hst : st0 = As.reverse ++ .ref m0 :: rest) (hcat : (rest.map fun v => v.category).sum ≤ 8) (hdg : decode cc pc = .ok (.invokevirtual index, 3)) (hf : cells ≤ R.cells ∧ slots ≤ R.slots)
    (kk : ∀ (r : Int32) (u : mS) (H : Heap) (locs : List Loc), post r u → mW g A m0 ad u H → va_S A s.heap H locs → W p l e R s m args below meth c H locs cells slots Q (F0 m (pc + 3) ls (.int r :: rest))) : W p l e R s m args below meth c H locs cells slots Q (F0 m pc ls st0) :=
  x_calli (x_runV hF hE hS hM hls hC (xw.recv hE hM mw_obj rfl) h1 h2 h3 q44 h5 hd hrc hrs hR hst hcat hdg hf) hS kk
theorem m_callv {post : mS → Prop} (hF : xFix p m c cc nL s args RX3) (hE : xE g A s) (hM : mW g A m0 ad μ H) (hS : va_S A s.heap H locs) (hls : lh ls nL lf) (hC : Met l y (ws_ y bytes maxL ret) rm (mPc g A m0 ad μ As) (mQv g A m0 ad post) 0 0 A)
    (h1 : Cond.methodLink RX3 index y ∈ lw_all) (h2 : Cond.instanceMethod y ∈ lw_all) (h3 : Cond.selects RX3 y y ∈ lw_all) (h5 : Cond.code y bytes maxL ret ∈ lw_all) (hd : y.cls = RX3 ∧ y.cls ≠ "java/lang/invoke/MethodHandle" ∧ y.cls ≠ "java/lang/invoke/VarHandle" ∧ (parseMethodDescriptor y.desc).map (fun d => d.parameters.length) = some As.length)
    (hrc : rm.cells = 0) (hrs : rm.slots = 0) (hR : rm.frames + 1 ≤ R.frames ∧ 8 + (maxL + 11) + rm.locals ≤ R.locals) (hst : st0 = As.reverse ++ .ref m0 :: rest) (hcat : (rest.map fun v => v.category).sum ≤ 8) (hdg : decode cc pc = .ok (.invokevirtual index, 3)) (hf : cells ≤ R.cells ∧ slots ≤ R.slots)
    (kk : ∀ (u : mS) (H : Heap) (locs : List Loc), post u → mW g A m0 ad u H → va_S A s.heap H locs → W p l e R s m args below meth c H locs cells slots Q (F0 m (pc + 3) ls rest)) : W p l e R s m args below meth c H locs cells slots Q (F0 m pc ls st0) :=
  x_callv (x_runV hF hE hS hM hls hC (xw.recv hE hM mw_obj rfl) h1 h2 h3 q44 h5 hd hrc hrs hR hst hcat hdg hf) hS kk
/-- a static method that leaves the heap as it is: over any world -/
abbrev zPc (g : xg) (A : Nat → Prop) (P : Heap → Prop) (As : List Value) : Array Value → State → Prop := xPc g A As P
abbrev zQi (A : Nat → Prop) (P : Heap → Prop) (post : Int32 → Prop) : Array Value → State → Outcome → State → Prop := xQi (S := Unit) (fun r _ => post r) (fun _ => P) A
theorem z_calli {P : Heap → Prop} {own : String} {post : Int32 → Prop} (hF : xFix p m c cc nL s args own) (hE : xE g A s) (hM : P H) (hS : va_S A s.heap H locs) (hls : lh ls nL lf) (hC : Met l y (ws_ y bytes maxL ret) rm (zPc g A P As) (zQi A P post) 0 0 A)
    (h1 : Cond.methodLink own index y ∈ lw_all) (h2 : Cond.static y ∈ lw_all) (h4 : Cond.initialized y.cls ∈ lw_all) (h5 : Cond.code y bytes maxL ret ∈ lw_all) (hd : y.cls ≠ "java/lang/invoke/MethodHandle" ∧ y.cls ≠ "java/lang/invoke/VarHandle" ∧ (parseMethodDescriptor y.desc).map (fun d => d.parameters.length) = some As.length)
    (hrc : rm.cells = 0) (hrs : rm.slots = 0) (hR : rm.frames + 1 ≤ R.frames ∧ 8 + (maxL + 11) + rm.locals ≤ R.locals) (hst : st0 = As.reverse ++ rest) (hcat : (rest.map fun v => v.category).sum ≤ 8) (hdg : decode cc pc = .ok (.invokestatic index, 3)) (hf : cells ≤ R.cells ∧ slots ≤ R.slots)
    (kk : ∀ (r : Int32) (H : Heap) (locs : List Loc), post r → P H → va_S A s.heap H locs → W p l e R s m args below meth c H locs cells slots Q (F0 m (pc + 3) ls (.int r :: rest))) : W p l e R s m args below meth c H locs cells slots Q (F0 m pc ls st0) :=
  x_calli (x_runS hF hE hS hM hls hC h1 h2 h4 h5 hd hrc hrs hR hst hcat hdg hf) hS (fun r _ H1 locs1 hp hP hS1 => kk r H1 locs1 hp hP hS1)
end XMM
