/-! exceptions: made, thrown, going out; within, isWithin, must -/
set_option maxRecDepth 100000
abbrev x3 (N : Nat) : Nat → Prop := fun z => N ≤ z
theorem xE.sub {g : xg} {A B : Nat → Prop} {s : State} (hE : xE g A s) (hAB : ∀ q, B q → A q) (hn : ∀ q : Nat, s.heap.size ≤ q → B q) : xE g B s := ⟨hE.1, hn, hE.2.2.1, hE.2.2.2.1, hE.2.2.2.2.narrow hAB⟩
theorem xS_wide {B : Nat → Prop} {H0 H : Heap} {locs : List Loc} (h : va_S (x3 H0.size) H0 H locs) (hB : ∀ q : Nat, H0.size ≤ q → B q) : va_S B H0 H locs := ⟨h.1, fun q h1 _ => h.2.1 q h1 (fun z => by have z2 : H0.size ≤ q := z; omega), fun l hl => hB _ (h.2.2 l hl)⟩
abbrev xQX (A : Nat → Prop) (P : Heap → Prop) (post : String → Prop) : String → State → State → Prop := vx_X (S := Unit) (fun _ => True) (fun E _ t => post E ∧ P t.heap) A
abbrev eIB : String := "java/lang/IndexOutOfBoundsException"
abbrev eIA : String := "java/lang/IllegalArgumentException"
abbrev eIS : String := "java/lang/IllegalStateException"
section XV3
variable {p : Program} {l : Launch} {e : Env} {R : Room} {s : State} {m : MethodId} {args : Array Value} {below : List Frame} {meth : Method} {c : Code} {H : Heap} {locs : List Loc} {cells slots : Nat} {Q : State → Prop}
variable {cc bytes : ByteArray} {pc nL maxL n mc ms : Nat} {ls : Array Slot} {rest st0 As : List Value} {g : xg} {A : Nat → Prop} {P : Heap → Prop} {own C : String} {index : Nat} {y : MethodName} {ret : Option FieldType} {rm : Room} {b : Nat} {lf : Nat → Option Value} {w : xw_W} {a N0 : Nat}
theorem xw.recv3 {B : Nat → Prop} (hE : xE g A s) (hM : xw g B w H) {n ci : Nat} {fs : List Value} {q : vw_C} (he : w n = some (b, .inr (ci, fs))) (hc : xCl[ci]? = some q) : xRv s H q.1 b := by
  obtain ⟨ws, hP, hD, h3, h4⟩ := hM
  obtain ⟨q0, hq⟩ := h3 n _ he
  exact va_recv hE.1 hP hc hq
theorem x_preV3 (hE : xE g A s) (hS : va_S A s.heap H locs) (hA3 : ∀ q : Nat, N0 ≤ q → A q) (hN : N0 ≤ H.size) (hP : P H) (hrv : xRv s H C b) : PreV s H C b (xPc g (x3 N0) (.ref b :: As) P) As :=
  ⟨xPc.blind, hrv, fun U hU hW => ⟨rfl, by rw [hU]; exact hP, (hE.go hS hU hW).sub hA3 (fun q hq => by rw [hU] at hq; exact Nat.le_trans hN hq)⟩⟩
theorem x_preS3 (hE : xE g A s) (hS : va_S A s.heap H locs) (hA3 : ∀ q : Nat, N0 ≤ q → A q) (hN : N0 ≤ H.size) (hP : P H) : PreS s H (xPc g (x3 N0) As P) As :=
  ⟨xPc.blind, fun U hU hW => ⟨rfl, by rw [hU]; exact hP, (hE.go hS hU hW).sub hA3 (fun q hq => by rw [hU] at hq; exact Nat.le_trans hN hq)⟩⟩
theorem x_runV3 {Qc : Array Value → State → Outcome → State → Prop} (hF : xFix p m c cc nL s args own) (hE : xE g A s) (hS : va_S A s.heap H locs) (hA3 : ∀ q : Nat, N0 ≤ q → A q) (hN : N0 ≤ H.size) (hP : P H) (hls : lh ls nL lf) (hM : Met l y (ws_ y bytes maxL ret) rm (xPc g (x3 N0) (.ref b :: As) P) Qc mc ms (x3 N0)) (hrv : xRv s H C b)
    (h1 : Cond.methodLink own index y ∈ lw_all) (h2 : Cond.instanceMethod y ∈ lw_all) (h3 : Cond.selects C y y ∈ lw_all) (h4 : Cond.initialized C ∈ lw_all) (h5 : Cond.code y bytes maxL ret ∈ lw_all) (hd : y.cls = C ∧ y.cls ≠ "java/lang/invoke/MethodHandle" ∧ y.cls ≠ "java/lang/invoke/VarHandle" ∧ (parseMethodDescriptor y.desc).map (fun d => d.parameters.length) = some As.length)
    (hrc : rm.cells = mc) (hrs : rm.slots = ms) (hR : rm.frames + 1 ≤ R.frames ∧ 8 + (maxL + 11) + rm.locals ≤ R.locals) (hst : st0 = As.reverse ++ .ref b :: rest) (hcat : (rest.map fun v => v.category).sum ≤ 8) (hdg : decode cc pc = .ok (.invokevirtual index, 3)) (hf : cells + mc ≤ R.cells ∧ slots + ms ≤ R.slots) :
    va_Run p l e R s m args below meth c H locs cells slots mc ms (F0 m pc ls st0) rest (Qc (Value.ref b :: As).toArray) (x3 N0) :=
  va_runV hF hM (cwV As.length hF.2.2.2.2 (lw_V h1 h2 h3 h4 h5) rfl hrc hrs hd hR) (x_preV3 hE hS hA3 hN hP hrv) rfl rfl (lh_size hls) hst (lv_room hcat) hdg hf
theorem x_runI3 {Qc : Array Value → State → Outcome → State → Prop} (hF : xFix p m c cc nL s args own) (hE : xE g A s) (hS : va_S A s.heap H locs) (hA3 : ∀ q : Nat, N0 ≤ q → A q) (hN : N0 ≤ H.size) (hP : P H) (hls : lh ls nL lf) (hM : Met l y (ws_ y bytes maxL none) rm (xPc g (x3 N0) (.ref b :: As) P) Qc mc ms (x3 N0))
    (h1 : Cond.methodLink own index y ∈ lw_all) (h2 : Cond.instanceMethod y ∈ lw_all) (h4 : Cond.initialized y.cls ∈ lw_all) (h5 : Cond.code y bytes maxL none ∈ lw_all) (hy1 : y.name = "<init>") (hd : y.cls ≠ "java/lang/invoke/MethodHandle" ∧ y.cls ≠ "java/lang/invoke/VarHandle" ∧ (parseMethodDescriptor y.desc).map (fun d => d.parameters.length) = some As.length)
    (hrc : rm.cells = mc) (hrs : rm.slots = ms) (hR : rm.frames + 1 ≤ R.frames ∧ 8 + (maxL + 11) + rm.locals ≤ R.locals) (hst : st0 = As.reverse ++ .ref b :: rest) (hcat : (rest.map fun v => v.category).sum ≤ 8) (hdg : decode cc pc = .ok (.invokespecial index, 3)) (hf : cells + mc ≤ R.cells ∧ slots + ms ≤ R.slots) :
    va_Run p l e R s m args below meth c H locs cells slots mc ms (F0 m pc ls st0) rest (Qc (Value.ref b :: As).toArray) (x3 N0) :=
  va_runI hF hM (cwI As.length hF.2.2.2.2 (lw_meth h5) rfl hrc hrs (hF.2.2.2.2 _ h4) (hF.2.2.2.2 _ h1) (hF.2.2.2.2 _ h2) hy1 hd hR) (x_preS3 hE hS hA3 hN hP) rfl rfl (lh_size hls) hst (lv_room hcat) hdg hf
theorem x_callv3 {S : Type} {post : S → Prop} {P1 : S → Heap → Prop} {a : Array Value} (hr : va_Run p l e R s m args below meth c H locs cells slots mc ms (F0 m pc ls st0) rest (xQv post P1 (x3 N0) a) (x3 N0)) (hS : va_S A s.heap H locs) (hA3 : ∀ q : Nat, N0 ≤ q → A q) (hN : N0 ≤ H.size)
    (kk : ∀ (u : S) (H1 : Heap) (locs1 : List Loc), post u → P1 u H1 → N0 ≤ H1.size → (∀ q : Nat, q < N0 → H1[q]? = H[q]?) → va_S A s.heap H1 locs1 → W p l e R s m args below meth c H1 locs1 (cells + mc) (slots + ms) Q (F0 m (pc + 3) ls rest)) : W p l e R s m args below meth c H locs cells slots Q (F0 m pc ls st0) :=
  va_callv hr hS (fun q _ h => hA3 q h) (fun q h => hA3 q h) (fun u t H1 locs1 ht hvm hp hB hz hk hS1 => kk u H1 locs1 hp (by rw [← ht]; exact hB) (Nat.le_trans hN hz) (fun q h1 => hk q (Nat.lt_of_lt_of_le h1 hN) (fun z => by have z2 : N0 ≤ q := z; omega)) hS1)
theorem x_callr3 {S : Type} {post : S → Prop} {P1 : S → Nat → Heap → Prop} {a : Array Value} (hr : va_Run p l e R s m args below meth c H locs cells slots mc ms (F0 m pc ls st0) rest (xQr post P1 (x3 N0) a) (x3 N0)) (hS : va_S A s.heap H locs) (hA3 : ∀ q : Nat, N0 ≤ q → A q) (hN : N0 ≤ H.size)
    (kk : ∀ (u : S) (ra : Nat) (H1 : Heap) (locs1 : List Loc), post u → P1 u ra H1 → N0 ≤ H1.size → (∀ q : Nat, q < N0 → H1[q]? = H[q]?) → va_S A s.heap H1 locs1 → W p l e R s m args below meth c H1 locs1 (cells + mc) (slots + ms) Q (F0 m (pc + 3) ls (.ref ra :: rest))) : W p l e R s m args below meth c H locs cells slots Q (F0 m pc ls st0) :=
  va_callr hr hS (fun q _ h => hA3 q h) (fun q h => hA3 q h) (fun u ra t H1 locs1 ht hvm hp hB hz hk hS1 => kk u ra H1 locs1 hp (by rw [← ht]; exact hB) (Nat.le_trans hN hz) (fun q h1 => hk q (Nat.lt_of_lt_of_le h1 hN) (fun z => by have z2 : N0 ≤ q := z; omega)) hS1)
/-- 'new E' -/
theorem x_newE (hexec : p.tables.exec = Jvm.exec) (hb : c.code = cc) (hown : s.vm.findClass own = some m.cls) (hcl : (Cond.classLink own index C).before args s = true) (hinst : (Cond.instantiable C 6).before args s = true) (hini : (Cond.initialized C).before args s = true) (hS : va_S (x3 s.heap.size) s.heap H locs) (hcells : cells + 1 ≤ R.cells) (hslots : slots + 6 ≤ R.slots) (hdg : decode cc pc = .ok (.new index, 3))
    (kk : ∀ (q : Nat) (H1 : Heap) (cX : ClassId) (kX : Class), s.vm.findClass C = some cX → s.vm.classes[cX]? = some kX → H1[q]? = some (freshCell cX kX) → s.heap.size ≤ q → q < H1.size → va_S (x3 s.heap.size) s.heap H1 locs → W p l e R s m args below meth c H1 locs (cells + 1) (slots + 6) Q (F0 m (pc + 3) ls (.ref q :: rest))) :
    W p l e R s m args below meth c H locs cells slots Q (F0 m pc ls rest) := by
  refine W.newc hexec hb hown hcl hinst hini rfl hdg hcells hslots fun cC kC h1 h2 h3 h4 => ?_
  refine kk H.size _ cC kC h1 h2 (by simp) hS.1 (by simp) ⟨Nat.le_trans hS.1 (by simp), fun q q1 q2 => ?_, hS.2.2⟩
  rw [Array.getElem?_push, if_neg (Nat.ne_of_lt (Nat.lt_of_lt_of_le q1 hS.1))]
  exact hS.2.1 q q1 q2
/-- 'new StringBuilder', a world of its own -/
theorem x_newSB (hexec : p.tables.exec = Jvm.exec) (hb : c.code = cc) (hts : ∀ w ∈ lw_all, w.before args s = true) (hown : s.vm.findClass own = some m.cls) (hcl : (Cond.classLink own index RJ11).before args s = true) (hE : xE g A s) (hS : va_S A s.heap H locs) (n : Nat) (hcells : cells + 1 ≤ R.cells) (hslots : slots + 4 ≤ R.slots) (hdg : decode cc pc = .ok (.new index, 3))
    (kk : ∀ (q : Nat) (H1 : Heap), xw g (x3 H.size) (va_up (fun _ => none) n (some (q, .inr (8, [.null, .int 0, .int 0, .int 0])))) H1 → H.size ≤ H1.size → (∀ z : Nat, z < H.size → H1[z]? = H[z]?) → va_S A s.heap H1 locs →
      W p l e R s m args below meth c H1 locs (cells + 1) (slots + 4) Q (F0 m (pc + 3) ls (.ref q :: rest))) : W p l e R s m args below meth c H locs cells slots Q (F0 m pc ls rest) := by
  have hc : xCl[8]? = some (RJ11, TJ11, 4) := rfl
  have hKn := hE.1.1 8 _ hc
  refine W.newcK hexec hb hown hcl (hts _ q309) (hts _ q52) rfl hdg hcells hslots hKn.2.1 rfl fun H1 kC hkC e1 z1 o1 => ?_
  have hP0 : va_P g.1 xCl [] H := fun k x hx => by simp at hx
  have hD0 : va_D (x3 H.size) [] := ⟨fun i j p q hi => by simp at hi, fun i p hi => by simp at hi⟩
  have h5 := xw_push (g := g) (w := fun _ => none) (ws := []) (n := n) (a := H.size) (e := .inr (8, [.null, .int 0, .int 0, .int 0])) hP0 (Nat.le_refl H.size) (fun n q h => by cases h) (fun n n' q q' h => by cases h)
  refine kk H.size H1 ⟨[] ++ [(H.size, .inr (8, [.null, .int 0, .int 0, .int 0]))], (hP0.kept (fun k x hx => by simp at hx)).app (fun k x hx => ?_), hD0.push hP0 rfl (Nat.le_refl _), h5.1, h5.2⟩ (by omega) (fun z hz => o1 z hz) ⟨Nat.le_trans hS.1 (by omega), fun x h1 h2 => (o1 x (Nat.lt_of_lt_of_le h1 hS.1)).trans (hS.2.1 x h1 h2), hS.2.2⟩
  have hz : k < 1 := (List.getElem?_eq_some_iff.mp hx).1
  rw [show k = 0 by omega] at hx
  cases hx
  exact ⟨_, hc, (u_born tyJ11 hts in_J11 hKn hkC e1 tyJ11_ok).to (by decide)⟩
/-- E's constructor over its message -/
theorem x_ctorX (hexec : p.tables.exec = Jvm.exec) (hb : c.code = cc) (hlt : l.stackTraces = false) {own cls : String} {names : List String} {ic : Nat}
    (hown : s.vm.findClass own = some m.cls) (hcls : Bundle.fit cls = true) (hnames : ∀ n ∈ names, Bundle.fit n = true) (hat : ∀ w ∈ vx_atS own ic cls names, w.before args s = true) (hE : xE g A s) (hS : va_S (x3 s.heap.size) s.heap H locs) (hml : c.maxLocals = nL) (hls : lh ls nL lf)
    {a sa : Nat} {cX : ClassId} {kX : Class} (hfX : s.vm.findClass cls = some cX) (hkX : s.vm.classes[cX]? = some kX) (hcell : H[a]? = some (freshCell cX kX)) (hnew : s.heap.size ≤ a)
    (hfr : names.length + 3 < R.frames) (hlo : (rest.map fun v => v.category).sum + (13 * (names.length + 1) + 43) ≤ R.locals) (hdg : decode cc pc = .ok (.invokespecial ic, 3))
    (kk : ∀ (H1 : Heap) (locs1 : List Loc) (ce : Cell), H1[a]? = some ce → ce.cls = cX → ce.vm = .none → va_S (x3 s.heap.size) s.heap H1 locs1 → W p l e R s m args below meth c H1 locs1 cells slots Q (F0 m (pc + 3) ls (.ref a :: rest))) :
    W p l e R s m args below meth c H locs cells slots Q (F0 m pc ls (.ref sa :: .ref a :: .ref a :: rest)) := by
  intro T hT X
  subst hT
  have htr : e.platform.stackTraces = false := (show e.platform.stackTraces = l.stackTraces by rw [X.admits.platform]).trans hlt
  have hU := hE.2.2.2.2.2.2.1
  have hN := hE.2.2.2.2.2.2.2.1
  have h : ∀ w ∈ Bundle.ownAtoms own ic cls names, w.before args s = true := vx_own hat (vx_isRefq hU.1) (vx_isRefq hN.1) hU.2.word hN.2.word
  have hcat : (Value.ref a).category = 1 := rfl
  obtain ⟨V, ce, L, Z, hL, hlt2, hcl9, hvm9, st⟩ := vx_ctorMadeS X hexec htr (own := own) (cls := cls) (names := names) (ic := ic) hown hcls hnames h (fun x hx cell hc => absurd (Array.getElem?_eq_some_iff.mp hc).1 (Nat.not_lt.mpr (hS.2.2 x hx))) hfX hkX hcell hnew (msg := .ref sa) rfl
    (g := F0 m pc ls (.ref sa :: .ref a :: .ref a :: rest)) rfl ((lh_size hls).trans hml.symm) (rest := rest) rfl (by rw [hb]; exact hdg) hfr (by rw [show (F0 m pc ls (.ref sa :: .ref a :: .ref a :: rest)).monitorRoom = 0 from rfl]; simp only [List.map_cons, List.sum_cons, hcat]; omega)
  obtain ⟨f1, f2⟩ := vx_frame Z.same
  have hh : (V.setCell a ce).heap[a]? = some ce := heapAt_setCell_self (s := V) ce hlt2
  have hl9 : ∀ z ∈ locs ++ L, s.heap.size ≤ z.base := by
    intro z hz
    rcases List.mem_append.mp hz with h9 | h9
    · exact hS.2.2 z h9
    · rw [hL z h9]
      exact hnew
  obtain ⟨t, a1, b1⟩ := kk (V.setCell a ce).heap (locs ++ L) ce hh hcl9 hvm9 ⟨f1, fun q h1 _ => f2 q h1 (fun z hz e => absurd (Nat.le_trans (hl9 z hz) (Nat.le_of_eq e)) (Nat.not_le.mpr h1)), hl9⟩ _ rfl Z
  exact ⟨t, st _ a1, b1⟩
theorem x_startX {y : MethodName} {cc : ByteArray} {maxL mc ms : Nat} {ret : Option FieldType} {rm : Room} {As : List Value} {P : Heap → Prop} {Qc : Array Value → State → Outcome → State → Prop} {XC : String → State → State → Prop} (hy : plainName y.cls = true) (hlen : (lg_sl As).length ≤ maxL)
    (body : ∀ (p : Program) (e : Env) (s : State) (m : MethodId) (below : List Frame) (meth : Method) (c : Code), p.tables.exec = Jvm.exec → c.code = cc → meth.sig.returnType = ret → meth.locks = false → c.maxLocals = maxL → (∀ x ∈ c.exceptionTable.toList, False) → s.vm.findClass y.cls = some m.cls → (∀ w ∈ lw_all, w.before As.toArray s = true) → meth.name = y.name → xE g A s → P s.heap → va_S A s.heap s.heap [] →
      ∀ ls : Array Slot, lh ls maxL (xl (lv_args 0 As)) → W p l e rm s m As.toArray below meth c s.heap [] 0 0 (vx_MQ below Qc XC As.toArray s mc ms A) (F0 m 0 ls [])) :
    vx_Met l y (ws_ y cc maxL ret) rm (xPc g A As P) Qc XC mc ms A := by
  refine vx_ofW (cc := cc) (maxL := maxL) (ret := ret) hy rfl ?_
  intro p e s m args below meth c s₁ B hml hxt hv
  obtain ⟨rfl, hP, hE⟩ := hv
  have hts := atoms_spec (ws := ws_ y cc maxL ret) B.pre
  rw [lg_entry_eq]
  exact body p e s m below meth c B.exec B.bytes B.returns B.notSynchronized hml hxt (findClass_of_methodNamed B.named) (fun w h => hts w (List.mem_cons_of_mem _ h)) (name_of_methodNamed B.named B.method).1 hE hP va_S.rf _ (lh_of (lv_entry As hlen))
/-- the words of a throw, out of the tables -/
theorem x_at {L : List Cond} (h : ∀ w ∈ L, w ∈ lw_tbl ∧ (goodWord w = true ∨ (xKnd w = true ∧ w.onTables = true))) (hts : ∀ w ∈ lw_all, w.before args s = true) (hE : xE g A s) : ∀ w ∈ L, w.before args s = true :=
  fun w hw => (h w hw).2.elim (fun k => hts _ (lw_g (h w hw).1 k)) (fun k => va_Nw.use k.2 (hE.2.2.1 w (h w hw).1 k.1))
end XV3
