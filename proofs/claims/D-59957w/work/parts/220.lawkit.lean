/-! THE LAW's KIT: parts of a world, a cell of one long, callees that work on a part; bodies with handlers -/
set_option maxRecDepth 100000
theorem xw.sub {g : xg} {A B : Nat → Prop} {w : xw_W} {H : Heap} (h : xw g B w H) (hBA : ∀ q, B q → A q) : xw g A w H := by
  obtain ⟨ws, hP, hD, h3, h4⟩ := h
  exact ⟨ws, hP, ⟨hD.1, fun k q hk => hBA _ (hD.2 k q hk)⟩, h3, h4⟩
theorem xw.cut {g : xg} {A : Nat → Prop} {w : xw_W} {H : Heap} (h : xw g A w H) : xw g (fun q => A q ∧ q < H.size) w H := by
  obtain ⟨ws, hP, hD, h3, h4⟩ := h
  exact ⟨ws, hP, ⟨hD.1, fun k q hk => ⟨hD.2 k q hk, (hP k q hk).lt⟩⟩, h3, h4⟩
/-- a world stays where its part of the heap does -/
theorem xw.stays {g : xg} {A : Nat → Prop} {w : xw_W} {H H1 : Heap} (h : xw g A w H) (hq : ∀ q : Nat, q < H.size → A q → H1[q]? = H[q]?) : xw g A w H1 := h.kept (fun n q e => hq _ (h.lt e) (h.in e))
/-- what the tables say of the exceptions' classes: which aren't others -/
def xNc (U : State) : Prop := va_Nc eIA eIB U ∧ va_Nc eIS eIB U ∧ va_Nc eIS eIA U
theorem xNc.moved {u U : State} (hvm : u.vm.Alike U.vm) (h : xNc u) : xNc U := ⟨h.1.moved hvm, h.2.1.moved hvm, h.2.2.moved hvm⟩
def yPc (g : xg) (A : Nat → Prop) (As : List Value) (P : Heap → Prop) : Array Value → State → Prop := va_Pc As (fun U => P U.heap ∧ xE g A U ∧ xNc U)
theorem yPc.blind {g : xg} {A : Nat → Prop} {As : List Value} {P : Heap → Prop} : FrameBlind (yPc g A As P) := fun a U fr mk q => ⟨q.1, q.2.1, q.2.2.1.blind, xNc.moved (u := U) (U := U.calling fr mk a) (Vm.Alike.refl U.vm) q.2.2.2⟩
/-- the cell of one long -/
def yO (g : xg) (o : Nat) (z : Int64) (H : Heap) : Prop := ∃ f : Nat → Int64, f 0 = z ∧ H[o]? = some (vp_cell (g.2 3) (1, .inr (.inl f)))
theorem yO.lt {g : xg} {o : Nat} {z : Int64} {H : Heap} (h : yO g o z H) : o < H.size := by
  obtain ⟨f, -, h⟩ := h
  exact (Array.getElem?_eq_some_iff.mp h).1
theorem yO.stays {g : xg} {o : Nat} {z : Int64} {H H1 : Heap} (h : yO g o z H) (hq : H1[o]? = H[o]?) : yO g o z H1 := by
  obtain ⟨f, h0, h⟩ := h
  exact ⟨f, h0, hq.trans h⟩
abbrev yA (B : Nat → Prop) (o : Nat) : Nat → Prop := fun q => B q ∨ q = o
/-- a wrapper's end -/
abbrev yQ (g : xg) (B : Nat → Prop) (x0 o : Nat) (t : opT) : Array Value → State → Outcome → State → Prop := xQi (S := xw_W × Int64) (fun r u => r = nI t.1 ∧ (t.1 = 0 → u.2 = t.2.1.toInt64) ∧ (vOk t.2.2 → xI g t.2.2 x0 u.1)) (fun u H => xw g B u.1 H ∧ yO g o u.2 H) (yA B o)
abbrev yX (B : Nat → Prop) (o : Nat) : String → State → State → Prop := vx_X (S := Unit) (fun _ => False) (fun _ _ _ => True) (yA B o)
theorem y_startH {l : Launch} {g : xg} {A : Nat → Prop} {y : MethodName} {cc : ByteArray} {maxL mc ms : Nat} {ret : Option FieldType} {rm : Room} {As : List Value} {P : Heap → Prop} {Qc : Array Value → State → Outcome → State → Prop} {XC : String → State → State → Prop} {hh : List (Nat × Nat × Nat × Nat)} (hy : plainName y.cls = true) (hlen : (lg_sl As).length ≤ maxL)
    (body : ∀ (p : Program) (e : Env) (s : State) (m : MethodId) (below : List Frame) (meth : Method) (c : Code), p.tables.exec = Jvm.exec → c.code = cc → meth.sig.returnType = ret → meth.locks = false → c.maxLocals = maxL → c.exceptionTable.toList = tableOf hh → s.vm.findClass y.cls = some m.cls → (∀ w ∈ lw_all, w.before As.toArray s = true) → meth.name = y.name → xE g A s → xNc s → P s.heap → va_S A s.heap s.heap [] →
      ∀ ls : Array Slot, lh ls maxL (xl (lv_args 0 As)) → W p l e rm s m As.toArray below meth c s.heap [] 0 0 (vx_MQ below Qc XC As.toArray s mc ms A) (F0 m 0 ls [])) :
    vx_Met l y (wsW_ y cc maxL ret hh) rm (yPc g A As P) Qc XC mc ms A := by
  refine vx_ofWH (cc := cc) (maxL := maxL) (ret := ret) (hh := hh) hy rfl ?_
  intro p e s m args below meth c s₁ B hml hv
  obtain ⟨rfl, hP, hE, hN⟩ := hv
  have hts := atoms_spec (ws := wsW_ y cc maxL ret hh) B.pre
  rw [lg_entry_eq]
  exact body p e s m below meth c B.exec B.bytes B.returns B.notSynchronized hml (vx_table (x := y) B (hts _ List.mem_cons_self)) (findClass_of_methodNamed B.named) (fun w h => hts w (List.mem_cons_of_mem _ h)) (name_of_methodNamed B.named B.method).1 hE hN hP va_S.rf _ (lh_of (lv_entry As hlen))
section YK
variable {p : Program} {l : Launch} {e : Env} {R : Room} {s : State} {m : MethodId} {args : Array Value} {below : List Frame} {meth : Method} {c : Code} {H : Heap} {locs : List Loc} {cells slots : Nat} {Q : State → Prop}
variable {cc bytes : ByteArray} {pc nL maxL n mc ms : Nat} {ls : Array Slot} {rest st0 As : List Value} {g : xg} {A B : Nat → Prop} {P : Heap → Prop} {own C : String} {index : Nat} {y : MethodName} {ret : Option FieldType} {rm : Room} {b : Nat} {lf : Nat → Option Value} {w : xw_W} {Qc : Array Value → State → Outcome → State → Prop} {XC : String → State → State → Prop} {hh : List (Nat × Nat × Nat × Nat)}
theorem y_pre (hE : xE g A s) (hS : va_S A s.heap H locs) (hBA : ∀ q, B q → A q) (hn : ∀ q : Nat, H.size ≤ q → B q) (hP : P H) : PreS s H (xPc g B As P) As :=
  ⟨xPc.blind, fun U hU hW => ⟨rfl, by rw [hU]; exact hP, (hE.go hS hU hW).sub hBA (fun q hq => hn q (by rw [hU] at hq; exact hq))⟩⟩
theorem y_preN (hE : xE g A s) (hNc : xNc s) (hS : va_S A s.heap H locs) (hBA : ∀ q, B q → A q) (hn : ∀ q : Nat, H.size ≤ q → B q) (hP : P H) : PreS s H (yPc g B As P) As :=
  ⟨yPc.blind, fun U hU hW => ⟨rfl, by rw [hU]; exact hP, (hE.go hS hU hW).sub hBA (fun q hq => hn q (by rw [hU] at hq; exact hq)), hNc.moved hW.alike⟩⟩
theorem y_preV (hE : xE g A s) (hS : va_S A s.heap H locs) (hBA : ∀ q, B q → A q) (hn : ∀ q : Nat, H.size ≤ q → B q) (hP : P H) (hrv : xRv s H C b) : PreV s H C b (xPc g B (.ref b :: As) P) As :=
  ⟨xPc.blind, hrv, fun U hU hW => ⟨rfl, by rw [hU]; exact hP, (hE.go hS hU hW).sub hBA (fun q hq => hn q (by rw [hU] at hq; exact hq))⟩⟩
theorem y_runVX (hF : xFix p m c cc nL s args own) (hE : xE g A s) (hS : va_S A s.heap H locs) (hBA : ∀ q, B q → A q) (hn : ∀ q : Nat, H.size ≤ q → B q) (hP : P H) (hls : lh ls nL lf) (hM : vx_Met l y (ws_ y bytes maxL ret) rm (xPc g B (.ref b :: As) P) Qc XC mc ms B) (hrv : xRv s H C b)
    (h1 : Cond.methodLink own index y ∈ lw_all) (h2 : Cond.instanceMethod y ∈ lw_all) (h3 : Cond.selects C y y ∈ lw_all) (h4 : Cond.initialized C ∈ lw_all) (h5 : Cond.code y bytes maxL ret ∈ lw_all) (hd : y.cls = C ∧ y.cls ≠ "java/lang/invoke/MethodHandle" ∧ y.cls ≠ "java/lang/invoke/VarHandle" ∧ (parseMethodDescriptor y.desc).map (fun d => d.parameters.length) = some As.length)
    (hrc : rm.cells = mc) (hrs : rm.slots = ms) (hR : rm.frames + 1 ≤ R.frames ∧ 8 + (maxL + 11) + rm.locals ≤ R.locals) (hst : st0 = As.reverse ++ .ref b :: rest) (hcat : (rest.map fun v => v.category).sum ≤ 8) (hdg : decode cc pc = .ok (.invokevirtual index, 3)) (hf : cells + mc ≤ R.cells ∧ slots + ms ≤ R.slots) :
    vx_Run p l e R s m args below meth c H locs cells slots mc ms (F0 m pc ls st0) rest (Qc (Value.ref b :: As).toArray) XC B :=
  vx_runV hF hM (cwV As.length hF.2.2.2.2 (lw_V h1 h2 h3 h4 h5) rfl hrc hrs hd hR) (y_preV hE hS hBA hn hP hrv) rfl rfl (lh_size hls) hst (lv_room hcat) hdg hf
theorem y_runV (hF : xFix p m c cc nL s args own) (hE : xE g A s) (hS : va_S A s.heap H locs) (hBA : ∀ q, B q → A q) (hn : ∀ q : Nat, H.size ≤ q → B q) (hP : P H) (hls : lh ls nL lf) (hM : Met l y (ws_ y bytes maxL ret) rm (xPc g B (.ref b :: As) P) Qc mc ms B) (hrv : xRv s H C b)
    (h1 : Cond.methodLink own index y ∈ lw_all) (h2 : Cond.instanceMethod y ∈ lw_all) (h3 : Cond.selects C y y ∈ lw_all) (h4 : Cond.initialized C ∈ lw_all) (h5 : Cond.code y bytes maxL ret ∈ lw_all) (hd : y.cls = C ∧ y.cls ≠ "java/lang/invoke/MethodHandle" ∧ y.cls ≠ "java/lang/invoke/VarHandle" ∧ (parseMethodDescriptor y.desc).map (fun d => d.parameters.length) = some As.length)
    (hrc : rm.cells = mc) (hrs : rm.slots = ms) (hR : rm.frames + 1 ≤ R.frames ∧ 8 + (maxL + 11) + rm.locals ≤ R.locals) (hst : st0 = As.reverse ++ .ref b :: rest) (hcat : (rest.map fun v => v.category).sum ≤ 8) (hdg : decode cc pc = .ok (.invokevirtual index, 3)) (hf : cells + mc ≤ R.cells ∧ slots + ms ≤ R.slots) :
    va_Run p l e R s m args below meth c H locs cells slots mc ms (F0 m pc ls st0) rest (Qc (Value.ref b :: As).toArray) B :=
  va_runV hF hM (cwV As.length hF.2.2.2.2 (lw_V h1 h2 h3 h4 h5) rfl hrc hrs hd hR) (y_preV hE hS hBA hn hP hrv) rfl rfl (lh_size hls) hst (lv_room hcat) hdg hf
theorem y_runI (hF : xFix p m c cc nL s args own) (hE : xE g A s) (hS : va_S A s.heap H locs) (hBA : ∀ q, B q → A q) (hn : ∀ q : Nat, H.size ≤ q → B q) (hP : P H) (hls : lh ls nL lf) (hM : Met l y (ws_ y bytes maxL none) rm (xPc g B (.ref b :: As) P) Qc mc ms B)
    (h1 : Cond.methodLink own index y ∈ lw_all) (h2 : Cond.instanceMethod y ∈ lw_all) (h4 : Cond.initialized y.cls ∈ lw_all) (h5 : Cond.code y bytes maxL none ∈ lw_all) (hy1 : y.name = "<init>") (hd : y.cls ≠ "java/lang/invoke/MethodHandle" ∧ y.cls ≠ "java/lang/invoke/VarHandle" ∧ (parseMethodDescriptor y.desc).map (fun d => d.parameters.length) = some As.length)
    (hrc : rm.cells = mc) (hrs : rm.slots = ms) (hR : rm.frames + 1 ≤ R.frames ∧ 8 + (maxL + 11) + rm.locals ≤ R.locals) (hst : st0 = As.reverse ++ .ref b :: rest) (hcat : (rest.map fun v => v.category).sum ≤ 8) (hdg : decode cc pc = .ok (.invokespecial index, 3)) (hf : cells + mc ≤ R.cells ∧ slots + ms ≤ R.slots) :
    va_Run p l e R s m args below meth c H locs cells slots mc ms (F0 m pc ls st0) rest (Qc (Value.ref b :: As).toArray) B :=
  va_runI hF hM (cwI As.length hF.2.2.2.2 (lw_meth h5) rfl hrc hrs (hF.2.2.2.2 _ h4) (hF.2.2.2.2 _ h1) (hF.2.2.2.2 _ h2) hy1 hd hR) (y_pre hE hS hBA hn hP) rfl rfl (lh_size hls) hst (lv_room hcat) hdg hf
/-- a wrapper is called -/
theorem y_runSH (hF : xFix p m c cc nL s args own) (hE : xE g A s) (hNc : xNc s) (hS : va_S A s.heap H locs) (hBA : ∀ q, B q → A q) (hn : ∀ q : Nat, H.size ≤ q → B q) (hP : P H) (hls : lh ls nL lf) (hM : vx_Met l y (wsW_ y bytes maxL ret hh) rm (yPc g B As P) Qc XC mc ms B)
    (h1 : Cond.methodLink own index y ∈ lw_all) (h2 : Cond.static y ∈ lw_all) (h4 : Cond.initialized y.cls ∈ lw_all) (h5 : Cond.codeWith y bytes maxL ret hh ∈ lw_all) (hd : y.cls ≠ "java/lang/invoke/MethodHandle" ∧ y.cls ≠ "java/lang/invoke/VarHandle" ∧ (parseMethodDescriptor y.desc).map (fun d => d.parameters.length) = some As.length)
    (hrc : rm.cells = mc) (hrs : rm.slots = ms) (hR : rm.frames + 1 ≤ R.frames ∧ 8 + (maxL + 11) + rm.locals ≤ R.locals) (hst : st0 = As.reverse ++ rest) (hcat : (rest.map fun v => v.category).sum ≤ 8) (hdg : decode cc pc = .ok (.invokestatic index, 3)) (hf : cells + mc ≤ R.cells ∧ slots + ms ≤ R.slots) :
    vx_Run p l e R s m args below meth c H locs cells slots mc ms (F0 m pc ls st0) rest (Qc As.toArray) XC B :=
  vx_runSX hF hM (vx_cwSW As.length hF.2.2.2.2 (lw_SW h1 h2 h4 h5) rfl hrc hrs hd hR) (y_preN hE hNc hS hBA hn hP) rfl rfl (lh_size hls) hst (lv_room hcat) hdg hf
/-- inside a wrapper, behind the call of the system's method -/
theorem y_call {a : Array Value} {t : opT} {L : List String} {x0 o : Nat} {z : Int64} (hr : vx_Run p l e R s m args below meth c H locs cells slots mc ms (F0 m pc ls st0) rest (opQi g B x0 t a) (opQX g B w L t) B) (hS : va_S A s.heap H locs) (hBA : ∀ q, B q → A q) (hoB : ¬ B o) (hO : yO g o z H)
    (kx : ∀ (E : String) (ce : Cell) (q9 : Nat) (H1 : Heap) (locs1 : List Loc), xCode L t.1 E → xw g B w H1 → yO g o z H1 → va_S A s.heap H1 locs1 → H1[q9]? = some ce → ce.vm = .none → s.vm.findClass E = some ce.cls → vx_W p l e R s m args below meth c H1 locs1 (cells + mc) (slots + ms) Q (F0 m pc ls rest) q9)
    (kk : ∀ (r : Int32) (u : xw_W) (H1 : Heap) (locs1 : List Loc), (t.1 = 0 ∧ r = t.2.1 ∧ (vOk t.2.2 → xI g t.2.2 x0 u)) → xw g B u H1 → yO g o z H1 → va_S A s.heap H1 locs1 → W p l e R s m args below meth c H1 locs1 (cells + mc) (slots + ms) Q (F0 m (pc + 3) ls (.int r :: rest))) : W p l e R s m args below meth c H locs cells slots Q (F0 m pc ls st0) :=
  vx_calli hr hS (fun q _ h => hBA q h) (fun q h => hBA q h) (fun q _ h => hBA q h)
    (fun E ce q9 u t1 H1 locs1 ht _ _ hb _ hk hS1 hce hcv hcl => kx E ce q9 H1 locs1 hb.1.1 (by rw [← ht]; exact hb.2) (hO.stays (hk o hO.lt hoB)) hS1 hce hcv hcl)
    (fun r u t1 H1 locs1 ht _ hp hB _ hk hS1 => kk r u H1 locs1 hp (by rw [← ht]; exact hB) (hO.stays (hk o hO.lt hoB)) hS1)
/-- the long cell is written, and read -/
theorem y_last {o : Nat} {z x : Int64} (hexec : p.tables.exec = Jvm.exec) (hb : c.code = cc) (hE : xE g A s) (hM : xw g B w H) (hS : va_S A s.heap H locs) (hAo : A o) (hoB : ¬ B o) (hO : yO g o z H) (hdg : decode cc pc = .ok (.lastore, 1))
    (kk : ∀ (H1 : Heap) (locs1 : List Loc), xw g B w H1 → yO g o x H1 → va_S A s.heap H1 locs1 → W p l e R s m args below meth c H1 locs1 cells slots Q (F0 m (pc + 1) ls rest)) : W p l e R s m args below meth c H locs cells slots Q (F0 m pc ls (.long x :: .int (nI 0) :: .ref o :: rest)) := by
  obtain ⟨f, h0, hO⟩ := hO
  refine W.last hexec hb hO ((hE.1.2 3 _ rfl).1 1 (fun j => .long (f j))) (fun q => by cases q) (by show ¬ (_ ∨ (arrV _ _ _).slots.size ≤ _); rw [arrV_size]; exact vp_in_nI (show 0 < 1 by decide) (show 1 < 2 ^ 31 by decide)) rfl rfl hdg fun H1 e1 z1 oq => ?_
  refine kk H1 _ (hM.stays (fun q _ hq => oq q (fun z => hoB (z ▸ hq)))) ⟨vp_updL f 0 x, by simp [vp_updL], ?_⟩ (hS.put z1 oq hAo)
  show H1[o]? = some (vp_cell _ _)
  rw [e1, nI_clamp (by decide), vp_cell_l, vp_cell_l, arrV_store]
  congr 2
  funext q
  by_cases hq : q = 0
  · subst hq
    simp [updV, vp_updL]
  · simp [updV, vp_updL, hq]
theorem y_lald {o : Nat} {z : Int64} (hexec : p.tables.exec = Jvm.exec) (hb : c.code = cc) (hE : xE g A s) (hO : yO g o z H) (hdg : decode cc pc = .ok (.laload, 1))
    (kk : W p l e R s m args below meth c H locs cells slots Q (F0 m (pc + 1) ls (.long z :: rest))) : W p l e R s m args below meth c H locs cells slots Q (F0 m pc ls (.int (nI 0) :: .ref o :: rest)) :=
  by
  obtain ⟨f, h0, hO⟩ := hO
  exact W.lald (v := .long z) hexec hb hO ((hE.1.2 3 _ rfl).1 1 (fun j => .long (f j))) (fun q => by cases q) (by show ¬ (_ ∨ (arrV _ _ _).slots.size ≤ _); rw [arrV_size]; exact vp_in_nI (show 0 < 1 by decide) (show 1 < 2 ^ 31 by decide)) (by show (arrV _ _ _).slots[_]? = _; rw [nI_clamp (by decide), arrV_read _ _ (show 0 < 1 by decide), h0]) rfl rfl hdg kk
end YK
