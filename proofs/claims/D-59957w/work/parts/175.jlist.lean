/-! java.util.ArrayList over worlds by names -/
set_option maxRecDepth 100000
abbrev xPw (g : xg) (A : Nat → Prop) (w : xw_W) (As : List Value) : Array Value → State → Prop := xPc g A As (xw g A w)
abbrev xQwv (g : xg) (A : Nat → Prop) (post : xw_W → Prop) : Array Value → State → Outcome → State → Prop := xQv (S := xw_W) post (fun u => xw g A u) A
abbrev xQwi (g : xg) (A : Nat → Prop) (post : Int32 → xw_W → Prop) : Array Value → State → Outcome → State → Prop := xQi (S := xw_W) post (fun u => xw g A u) A
abbrev xQwr (g : xg) (A : Nat → Prop) (post : Nat → xw_W → Prop) : Array Value → State → Outcome → State → Prop := xQr (S := xw_W) (fun _ => True) (fun u ra H => post ra u ∧ xw g A u H) A
abbrev zQv (A : Nat → Prop) (P : Heap → Prop) : Array Value → State → Outcome → State → Prop := xQv (S := Unit) (fun _ => True) (fun _ => P) A
abbrev zQr (A : Nat → Prop) (P : Heap → Prop) (post : Nat → Prop) : Array Value → State → Outcome → State → Prop := xQr (S := Unit) (fun _ => True) (fun _ ra H => post ra ∧ P H) A
section XEnd
variable {p : Program} {l : Launch} {e : Env} {R : Room} {s : State} {m : MethodId} {args : Array Value} {below : List Frame} {meth : Method} {c : Code} {H : Heap} {locs : List Loc} {cells slots : Nat} {pc : Nat} {ls : Array Slot} {cc : ByteArray} {A : Nat → Prop}
theorem x_aret {S : Type} {post : S → Prop} {P1 : S → Nat → Heap → Prop} {ra : Nat} {rt : FieldType} (hexec : p.tables.exec = Jvm.exec) (hb : c.code = cc) (hr : meth.sig.returnType = some rt) (hrt : (∃ n, rt = .object n) ∨ ∃ t, rt = .array t) (hlk : meth.locks = false) (hS : va_S A s.heap H locs) (u : S) (hq : post u) (hP : P1 u ra H) (hdg : decode cc pc = .ok (.areturn, 1)) :
    W p l e R s m args below meth c H locs cells slots (MQ below (xQr post P1 A) args s cells slots A) (F0 m pc ls [.ref ra]) :=
  W.aret hexec hb hr hrt (Or.inr ⟨_, rfl⟩) (fun t ht _ => ⟨⟨u, ra, rfl, hq, by rw [← ht] at hP; exact hP⟩, hS.F ht⟩) hS.2.2 hdg hlk
theorem x_obj {Q : State → Prop} {own : String} {idx nL : Nat} {lf : Nat → Option Value} {a : Nat} {rest : List Value} (hexec : p.tables.exec = Jvm.exec) (hb : c.code = cc) (hml : c.maxLocals = nL) (hown : s.vm.findClass own = some m.cls)
    (hlink : (Cond.methodLink own idx Lib.objectInit).before args s = true) (hinst : (Cond.instanceMethod Lib.objectInit).before args s = true) (hcode : (Cond.code Lib.objectInit ⟨#[0xb1]⟩ 1 none).before args s = true) (hl : lh ls nL lf) (hd : decode cc pc = .ok (.invokespecial idx, 3))
    (hframes : 1 ≤ R.frames) (hlocals : 2 * 0 + (rest.map fun v => v.category).sum + 12 ≤ R.locals)
    (kk : W p l e R s m args below meth c H locs cells slots Q (F0 m (pc + 3) ls rest)) : W p l e R s m args below meth c H locs cells slots Q (F0 m pc ls (.ref a :: rest)) :=
  W.objInit hexec hb hown hlink hinst hcode rfl (by rw [hml]; exact lh_size hl) rfl hd hframes hlocals kk
end XEnd
theorem Met.ofWF {l : Launch} {y : MethodName} {ws ws' : List Cond} {rm : Room} {Pc : Array Value → State → Prop} {Qc : Array Value → State → Outcome → State → Prop} {mc ms : Nat} {free : Addr → Prop} {cc : ByteArray} {maxL : Nat} {ret : Option FieldType}
    (hy : plainFor y = true) (hw : ws = Cond.code y cc maxL ret :: ws')
    (body : ∀ p e s m args below meth c s₁, BodyLoose p l y (headSpec ws rm) cc maxL ret e s m args below meth c s₁ → c.maxLocals = maxL → Pc args s →
      W p l e (headSpec ws rm).room s m args below meth c s.heap [] 0 0 (MQ below Qc args s mc ms free) (entryFrame m args maxL)) : Met l y ws rm Pc Qc mc ms free := by
  refine MetFree.of_bodySF (code := cc) (maxLocals := maxL) (ret := ret) hy ?_ ?_
  · intro args s m h hn
    obtain ⟨meth, c, h1, h2, h3, h4, h5, h6, -, -⟩ := Cond.code_spec hn (atoms_spec (ws := ws) h _ (by rw [hw]; exact List.mem_cons_self))
    exact ⟨meth, c, h1, h2, h3, h4, h5, h6⟩
  · intro p e s m args below meth c s₁ B hml hP _
    have hh0 : s₁.heap = s.heap := by rw [B.state]; rfl
    obtain ⟨t, a1, o, b1, b2, b3⟩ := body p e s m args below meth c s₁ B hml hP s₁ hh0 (Stand.of_body B)
    exact ⟨t, o, a1, b1, b2, ⟨b3.1, b3.2⟩⟩
theorem x_startF {l : Launch} {g : xg} {A : Nat → Prop} {y : MethodName} {cc : ByteArray} {maxL mc ms : Nat} {ret : Option FieldType} {rm : Room} {As : List Value} {P : Heap → Prop} {Qc : Array Value → State → Outcome → State → Prop} (hy : plainFor y = true) (hlen : (lg_sl As).length ≤ maxL)
    (body : ∀ (p : Program) (e : Env) (s : State) (m : MethodId) (below : List Frame) (meth : Method) (c : Code), p.tables.exec = Jvm.exec → c.code = cc → meth.sig.returnType = ret → meth.locks = false → c.maxLocals = maxL → s.vm.findClass y.cls = some m.cls → (∀ w ∈ lw_all, w.before As.toArray s = true) → meth.name = y.name → xE g A s → P s.heap → va_S A s.heap s.heap [] →
      ∀ ls : Array Slot, lh ls maxL (xl (lv_args 0 As)) → W p l e rm s m As.toArray below meth c s.heap [] 0 0 (MQ below Qc As.toArray s mc ms A) (F0 m 0 ls [])) :
    Met l y (ws_ y cc maxL ret) rm (xPc g A As P) Qc mc ms A := by
  refine Met.ofWF (cc := cc) (maxL := maxL) (ret := ret) hy rfl ?_
  intro p e s m args below meth c s₁ B hml hv
  obtain ⟨rfl, hP, hE⟩ := hv
  have hts := atoms_spec (ws := ws_ y cc maxL ret) B.pre
  rw [lg_entry_eq]
  exact body p e s m below meth c B.exec B.bytes B.returns B.notSynchronized hml (findClass_of_methodNamed B.named) (fun w h => hts w (List.mem_cons_of_mem _ h)) (name_of_methodNamed B.named B.method).1 hE hP va_S.rf _ (lh_of (lv_entry As hlen))
theorem xE.e0 {g : xg} {A : Nat → Prop} {s : State} (hE : xE g A s) : va_Z "java/util/ArrayList" "DEFAULTCAPACITY_EMPTY_ELEMENTDATA" "[Ljava/lang/Object;" (.ref (g.2 5)) A s s.heap := hE.2.2.2.2.1
/-- an element: an object of class ci -/
def xEl (w : xw_W) (ci y : Nat) : Prop := ∃ n fs, w n = some (y, .inr (ci, fs))
/-- a list: its object at name nL, its array at name nD, its elements -/
def xLs (g : xg) (w : xw_W) (nL nD a : Nat) (mc : Int32) (ci : Nat) (es : List Nat) : Prop :=
  ∃ d : Nat, w nL = some (a, .inr (6, [.int mc, .ref d, .int (nI es.length)])) ∧ es.length ≤ 40 ∧ (∀ y ∈ es, xEl w ci y) ∧
    ((es = [] ∧ d = g.2 5) ∨ ∃ cap f, w nD = some (d, .inl (g.2 1, aQ cap f)) ∧ es.length ≤ cap ∧ 10 ≤ cap ∧ cap ≤ 60 ∧ ∀ i, i < cap → f i = es[i]?)
def xAg2 (w u : xw_W) (n1 n2 : Nat) : Prop := ∀ n, n ≠ n1 → n ≠ n2 → u n = w n
def xAg1 (w u : xw_W) (n1 : Nat) : Prop := ∀ n, n ≠ n1 → u n = w n
theorem xEl.keep {w u : xw_W} {ci y : Nat} (h : xEl w ci y) (hk : ∀ n fs, w n = some (y, .inr (ci, fs)) → u n = w n) : xEl u ci y := by
  obtain ⟨n, fs, e⟩ := h
  exact ⟨n, fs, by rw [hk n fs e]; exact e⟩
/-! small ones -/
theorem jk_equals (l : Launch) (g : xg) (A : Nat → Prop) (P : Heap → Prop) (a b : Nat) : Met l yJ24_equals (ws_ yJ24_equals cJ24_equals 2 (some .boolean)) (xrm 0 0 0) (xPc g A [.ref a, .ref b] P) (zQi A P (fun r => r = if a = b then 1 else 0)) 0 0 A := by
  refine x_startF (by decide +kernel) (Nat.le_of_ble_eq_true rfl) ?_
  intro p e s m below meth c hx hb hr hlk hml hown hts hnm hE hM hS ls hl
  have hF : xFix p m c cJ24_equals 2 s _ RJ24 := ⟨hx, hb, hml, hown, hts⟩
  generalize hargs : List.toArray _ = args at hts hF ⊢
  generalize hQ : MQ below _ _ s _ _ A = Q
  refine lv_aload_n hx hb dJ24_equals_0 rfl (lh_at hl rfl) ?_
  refine lv_aload_n hx hb dJ24_equals_1 rfl (lh_at hl rfl) ?_
  refine lv_acmp_ne (rx := some a) (ry := some b) (tgt := 9) hx hb dJ24_equals_2 (by decide) (fun h1 => ?_) (fun h1 => ?_)
  · refine lv_iconst (v := 0) hx hb dJ24_equals_9 (by decide +kernel) ?_
    have h2 : ¬ a = b := fun z => h1 (by rw [z])
    exact hQ ▸ x_zret hx hb hr hlk hS () rfl (by rw [if_neg h2]) hM dJ24_equals_10
  · refine lv_iconst (v := 1) hx hb dJ24_equals_5 (by decide +kernel) ?_
    refine lv_goto (tgt := 10) hx hb dJ24_equals_6 (by decide) ?_
    have h2 : a = b := Option.some.inj h1
    exact hQ ▸ x_zret hx hb hr hlk hS () rfl (by rw [if_pos h2]) hM dJ24_equals_10
theorem jk_check15 (l : Launch) (g : xg) (A : Nat → Prop) (P : Heap → Prop) (i n : Nat) (h : i < n) (hn : n < 2 ^ 31) : Met l yJ15_checkIndex (ws_ yJ15_checkIndex cJ15_checkIndex 3 (some .int)) (xrm 0 0 0) (xPc g A [.int (nI i), .int (nI n), .null] P) (zQi A P (fun r => r = nI i)) 0 0 A := by
  refine x_start rfl (Nat.le_of_ble_eq_true rfl) ?_
  intro p e s m below meth c hx hb hr hlk hml hown hts hnm hE hM hS ls hl
  have hF : xFix p m c cJ15_checkIndex 3 s _ RJ15 := ⟨hx, hb, hml, hown, hts⟩
  generalize hargs : List.toArray _ = args at hts hF ⊢
  generalize hQ : MQ below _ _ s _ _ A = Q
  refine lv_iload_n hx hb dJ15_checkIndex_0 rfl (lh_at hl rfl) ?_
  refine n_if_lt (tgt := 9) hx hb dJ15_checkIndex_1 (by decide) (by omega) (fun c1 => ?_) (fun c1 => ?_)
  · omega
  refine lv_iload_n hx hb dJ15_checkIndex_4 rfl (lh_at hl rfl) ?_
  refine lv_iload_n hx hb dJ15_checkIndex_5 rfl (lh_at hl rfl) ?_
  refine n_icmp_lt (tgt := 16) hx hb dJ15_checkIndex_6 (by decide) (by omega) (by omega) (fun c2 => ?_) (fun c2 => ?_)
  · refine lv_iload_n hx hb dJ15_checkIndex_16 rfl (lh_at hl rfl) ?_
    exact hQ ▸ x_iret hx hb hr hlk hS () rfl hM dJ15_checkIndex_17
  · omega
theorem jk_check20 (l : Launch) (g : xg) (A : Nat → Prop) (P : Heap → Prop) (i n : Nat) (h : i < n) (hn : n < 2 ^ 31) : Met l yJ20_checkIndex (ws_ yJ20_checkIndex cJ20_checkIndex 2 (some .int)) (xrm 1 0 0) (xPc g A [.int (nI i), .int (nI n)] P) (zQi A P (fun r => r = nI i)) 0 0 A := by
  refine x_start rfl (Nat.le_of_ble_eq_true rfl) ?_
  intro p e s m below meth c hx hb hr hlk hml hown hts hnm hE hM hS ls hl
  have hF : xFix p m c cJ20_checkIndex 2 s _ RJ20 := ⟨hx, hb, hml, hown, hts⟩
  generalize hargs : List.toArray _ = args at hts hF ⊢
  generalize hQ : MQ below _ _ s _ _ A = Q
  refine lv_iload_n hx hb dJ20_checkIndex_0 rfl (lh_at hl rfl) ?_
  refine lv_iload_n hx hb dJ20_checkIndex_1 rfl (lh_at hl rfl) ?_
  refine lv_null hx hb dJ20_checkIndex_2 ?_
  refine x_calli (x_runS (As := [.int (nI i), .int (nI n), .null]) hF hE hS hM hl (jk_check15 l g A P i n h hn) q632 q633 q57 q634 ⟨by decide +kernel, by decide +kernel, by show _ = some 3; decide +kernel⟩ rfl rfl ⟨Nat.le_of_ble_eq_true rfl, Nat.le_of_ble_eq_true rfl⟩ rfl (Nat.le_of_ble_eq_true rfl) dJ20_checkIndex_3 ⟨Nat.le_of_ble_eq_true rfl, Nat.le_of_ble_eq_true rfl⟩) hS (fun r uu H locs hq hM hS => ?_)
  subst hq
  exact hQ ▸ x_iret hx hb hr hlk hS () rfl hM dJ20_checkIndex_6
theorem jk_init0 (l : Launch) (g : xg) (A : Nat → Prop) (P : Heap → Prop) (a : Nat) : Met l yJ0_init (ws_ yJ0_init cJ0_init 1 none) (xrm 1 0 0) (xPc g A [.ref a] P) (zQv A P) 0 0 A := by
  refine x_start rfl (Nat.le_of_ble_eq_true rfl) ?_
  intro p e s m below meth c hx hb hr hlk hml hown hts hnm hE hM hS ls hl
  have hF : xFix p m c cJ0_init 1 s _ RJ0 := ⟨hx, hb, hml, hown, hts⟩
  generalize hargs : List.toArray _ = args at hts hF ⊢
  generalize hQ : MQ below _ _ s _ _ A = Q
  refine lv_aload_n hx hb dJ0_init_0 rfl (lh_at hl rfl) ?_
  refine x_obj hx hb hml hown (hts _ q90) (hts _ q77) (hts _ q78) hl dJ0_init_1 (Nat.le_of_ble_eq_true rfl) (Nat.le_of_ble_eq_true rfl) ?_
  exact hQ ▸ x_vret hx hb hr hlk hS () trivial hM dJ0_init_4
theorem jk_init1 (l : Launch) (g : xg) (A : Nat → Prop) (w : xw_W) (n a : Nat) (d z : Value) (x0 : Int32) (h : w n = some (a, .inr (6, [.int x0, d, z]))) :
    Met l yJ1_init (ws_ yJ1_init cJ1_init 1 none) (xrm 2 0 0) (xPw g A w [.ref a]) (xQwv g A (fun u => u = va_up w n (some (a, .inr (6, [.int 0, d, z]))))) 0 0 A := by
  refine x_start rfl (Nat.le_of_ble_eq_true rfl) ?_
  intro p e s m below meth c hx hb hr hlk hml hown hts hnm hE hM hS ls hl
  have hF : xFix p m c cJ1_init 1 s _ RJ1 := ⟨hx, hb, hml, hown, hts⟩
  generalize hargs : List.toArray _ = args at hts hF ⊢
  generalize hQ : MQ below _ _ s _ _ A = Q
  refine lv_aload_n hx hb dJ1_init_0 rfl (lh_at hl rfl) ?_
  refine x_callv (x_runI (As := []) hF hE hS hM hl (jk_init0 l g A (xw g A w) a) q87 q88 q39 q89 rfl ⟨by decide +kernel, by decide +kernel, by show _ = some 0; decide +kernel⟩ rfl rfl ⟨Nat.le_of_ble_eq_true rfl, Nat.le_of_ble_eq_true rfl⟩ rfl (Nat.le_of_ble_eq_true rfl) dJ1_init_1 ⟨Nat.le_of_ble_eq_true rfl, Nat.le_of_ble_eq_true rfl⟩) hS (fun uu H locs hq hM hS => ?_)
  refine lv_aload_n hx hb dJ1_init_4 rfl (lh_at hl rfl) ?_
  refine lv_iconst (v := 0) hx hb dJ1_init_5 (by decide +kernel) ?_
  refine xr_put (C := RJ2) (T := TJ2) (N := 3) (ci := 6) (n := n) hx hb hts in_J2 tyJ2 tyJ2_ok nmJ2 hown hE hM hS (by first | assumption | exact va_up_s | rfl | (refine (va_up_n ?_).trans ?_; rotate_left; (first | assumption | exact va_up_s | rfl | (refine (va_up_n ?_).trans ?_; rotate_left; (first | assumption | exact va_up_s | rfl | (refine (va_up_n ?_).trans ?_; rotate_left; (first | assumption | exact va_up_s | rfl | (refine (va_up_n ?_).trans ?_; rotate_left; (first | assumption | exact va_up_s | rfl | (refine (va_up_n ?_).trans ?_; rotate_left; (assumption); omega)); omega)); omega)); omega)); omega)) rfl 0 (by decide) (hts _ q97) (fun _ h => h) rfl (tyJ2_ok 0 (by decide)) rfl rfl (Nat.le_of_ble_eq_true rfl) dJ1_init_6 (fun H locs hM hS => ?_)
  exact hQ ▸ x_vret hx hb hr hlk hS _ rfl hM dJ1_init_9
theorem jk_init (l : Launch) (g : xg) (A : Nat → Prop) (w : xw_W) (n a : Nat) (d : Value) (x0 : Int32) (h : w n = some (a, .inr (6, [.int x0, d, .int 0]))) :
    Met l yJ2_init (ws_ yJ2_init cJ2_init 1 none) (xrm 3 0 0) (xPw g A w [.ref a]) (xQwv g A (fun u => u = va_up w n (some (a, .inr (6, [.int 0, .ref (g.2 5), .int 0]))))) 0 0 A := by
  refine x_start rfl (Nat.le_of_ble_eq_true rfl) ?_
  intro p e s m below meth c hx hb hr hlk hml hown hts hnm hE hM hS ls hl
  have hF : xFix p m c cJ2_init 1 s _ RJ2 := ⟨hx, hb, hml, hown, hts⟩
  generalize hargs : List.toArray _ = args at hts hF ⊢
  generalize hQ : MQ below _ _ s _ _ A = Q
  refine lv_aload_n hx hb dJ2_init_0 rfl (lh_at hl rfl) ?_
  refine x_callv (x_runI (As := []) hF hE hS hM hl (jk_init1 l g A w n a d (.int 0) x0 h) q84 q85 q40 q86 rfl ⟨by decide +kernel, by decide +kernel, by show _ = some 0; decide +kernel⟩ rfl rfl ⟨Nat.le_of_ble_eq_true rfl, Nat.le_of_ble_eq_true rfl⟩ rfl (Nat.le_of_ble_eq_true rfl) dJ2_init_1 ⟨Nat.le_of_ble_eq_true rfl, Nat.le_of_ble_eq_true rfl⟩) hS (fun uu H locs hq hM hS => ?_)
  subst hq
  refine lv_aload_n hx hb dJ2_init_4 rfl (lh_at hl rfl) ?_
  refine va_gets hx hb hE.e0 hS hown (hts _ q91) (fun _ h => h) dJ2_init_5 ?_
  refine xr_put (C := RJ2) (T := TJ2) (N := 3) (ci := 6) (n := n) hx hb hts in_J2 tyJ2 tyJ2_ok nmJ2 hown hE hM hS (by first | assumption | exact va_up_s | rfl | (refine (va_up_n ?_).trans ?_; rotate_left; (first | assumption | exact va_up_s | rfl | (refine (va_up_n ?_).trans ?_; rotate_left; (first | assumption | exact va_up_s | rfl | (refine (va_up_n ?_).trans ?_; rotate_left; (first | assumption | exact va_up_s | rfl | (refine (va_up_n ?_).trans ?_; rotate_left; (first | assumption | exact va_up_s | rfl | (refine (va_up_n ?_).trans ?_; rotate_left; (assumption); omega)); omega)); omega)); omega)); omega)) rfl 1 (by decide) (hts _ q93) (fun _ h => h) rfl (tyJ2_ok 1 (by decide)) rfl rfl (Nat.le_of_ble_eq_true rfl) dJ2_init_8 (fun H locs hM hS => ?_)
  refine hQ ▸ x_vret hx hb hr hlk hS _ ?_ hM dJ2_init_11
  funext k
  by_cases hk : k = n
  · subst hk
    simp [va_up]
  · simp [va_up, hk]
theorem xLs.size {g : xg} {w : xw_W} {nL nD a : Nat} {mc : Int32} {ci : Nat} {es : List Nat} (h : xLs g w nL nD a mc ci es) : ∃ d, w nL = some (a, .inr (6, [.int mc, .ref d, .int (nI es.length)])) := ⟨_, h.choose_spec.1⟩
theorem jk_size (l : Launch) (g : xg) (A : Nat → Prop) (w : xw_W) (nL nD a ci : Nat) (mc : Int32) (es : List Nat) (h : xLs g w nL nD a mc ci es) :
    Met l yJ2_size (ws_ yJ2_size cJ2_size 1 (some .int)) (xrm 0 0 0) (xPw g A w [.ref a]) (zQi A (xw g A w) (fun r => r = nI es.length)) 0 0 A := by
  obtain ⟨d, hd⟩ := h.size
  refine x_start rfl (Nat.le_of_ble_eq_true rfl) ?_
  intro p e s m below meth c hx hb hr hlk hml hown hts hnm hE hM hS ls hl
  have hF : xFix p m c cJ2_size 1 s _ RJ2 := ⟨hx, hb, hml, hown, hts⟩
  generalize hargs : List.toArray _ = args at hts hF ⊢
  generalize hQ : MQ below _ _ s _ _ A = Q
  refine lv_aload_n hx hb dJ2_size_0 rfl (lh_at hl rfl) ?_
  refine xr_get (C := RJ2) (T := TJ2) (N := 3) (ci := 6) hx hb hts in_J2 hown hE hM (by first | assumption | exact va_up_s | rfl | (refine (va_up_n ?_).trans ?_; rotate_left; (first | assumption | exact va_up_s | rfl | (refine (va_up_n ?_).trans ?_; rotate_left; (first | assumption | exact va_up_s | rfl | (refine (va_up_n ?_).trans ?_; rotate_left; (first | assumption | exact va_up_s | rfl | (refine (va_up_n ?_).trans ?_; rotate_left; (first | assumption | exact va_up_s | rfl | (refine (va_up_n ?_).trans ?_; rotate_left; (assumption); omega)); omega)); omega)); omega)); omega)) rfl 2 (by decide) (hts _ q96) (fun _ h => h) rfl dJ2_size_1 ?_
  exact hQ ▸ x_iret hx hb hr hlk hS () rfl hM dJ2_size_4
theorem jk_isEmpty (l : Launch) (g : xg) (A : Nat → Prop) (w : xw_W) (nL nD a ci : Nat) (mc : Int32) (es : List Nat) (h : xLs g w nL nD a mc ci es) :
    Met l yJ2_isEmpty (ws_ yJ2_isEmpty cJ2_isEmpty 1 (some .boolean)) (xrm 0 0 0) (xPw g A w [.ref a]) (zQi A (xw g A w) (fun r => r = if es.length = 0 then 1 else 0)) 0 0 A := by
  obtain ⟨d, hd, hlen, -⟩ := h
  refine x_start rfl (Nat.le_of_ble_eq_true rfl) ?_
  intro p e s m below meth c hx hb hr hlk hml hown hts hnm hE hM hS ls hl
  have hF : xFix p m c cJ2_isEmpty 1 s _ RJ2 := ⟨hx, hb, hml, hown, hts⟩
  generalize hargs : List.toArray _ = args at hts hF ⊢
  generalize hQ : MQ below _ _ s _ _ A = Q
  refine lv_aload_n hx hb dJ2_isEmpty_0 rfl (lh_at hl rfl) ?_
  refine xr_get (C := RJ2) (T := TJ2) (N := 3) (ci := 6) hx hb hts in_J2 hown hE hM (by first | assumption | exact va_up_s | rfl | (refine (va_up_n ?_).trans ?_; rotate_left; (first | assumption | exact va_up_s | rfl | (refine (va_up_n ?_).trans ?_; rotate_left; (first | assumption | exact va_up_s | rfl | (refine (va_up_n ?_).trans ?_; rotate_left; (first | assumption | exact va_up_s | rfl | (refine (va_up_n ?_).trans ?_; rotate_left; (first | assumption | exact va_up_s | rfl | (refine (va_up_n ?_).trans ?_; rotate_left; (assumption); omega)); omega)); omega)); omega)); omega)) rfl 2 (by decide) (hts _ q96) (fun _ h => h) rfl dJ2_isEmpty_1 ?_
  refine n_if_ne (tgt := 11) hx hb dJ2_isEmpty_4 (by decide) (by omega) (fun c1 => ?_) (fun c1 => ?_)
  · refine lv_iconst (v := 0) hx hb dJ2_isEmpty_11 (by decide +kernel) ?_
    exact hQ ▸ x_zret hx hb hr hlk hS () rfl (by rw [if_neg c1]) hM dJ2_isEmpty_12
  · refine lv_iconst (v := 1) hx hb dJ2_isEmpty_7 (by decide +kernel) ?_
    refine lv_goto (tgt := 12) hx hb dJ2_isEmpty_8 (by decide) ?_
    exact hQ ▸ x_zret hx hb hr hlk hS () rfl (by rw [if_pos c1]) hM dJ2_isEmpty_12
theorem xLs.data {g : xg} {w : xw_W} {nL nD a : Nat} {mc : Int32} {ci : Nat} {es : List Nat} (h : xLs g w nL nD a mc ci es) {i y : Nat} (hi : es[i]? = some y) :
    ∃ d cap f, w nL = some (a, .inr (6, [.int mc, .ref d, .int (nI es.length)])) ∧ w nD = some (d, .inl (g.2 1, aQ cap f)) ∧ es.length ≤ cap ∧ 10 ≤ cap ∧ cap ≤ 60 ∧ (∀ i, i < cap → f i = es[i]?) ∧ f i = some y ∧ i < es.length := by
  obtain ⟨d, h1, h2, h3, h4⟩ := h
  have hl := (List.getElem?_eq_some_iff.mp hi).1
  rcases h4 with ⟨h5, -⟩ | ⟨cap, f, h5, h6, h7, h8, h9⟩
  · rw [h5] at hl
    simp at hl
  · exact ⟨d, cap, f, h1, h5, h6, h7, h8, h9, by rw [h9 i (by omega)]; exact hi, hl⟩
theorem jk_elementData (l : Launch) (g : xg) (A : Nat → Prop) (w : xw_W) (nL nD a ci i y : Nat) (mc : Int32) (es : List Nat) (h : xLs g w nL nD a mc ci es) (hi : es[i]? = some y) :
    Met l yJ2_elementData (ws_ yJ2_elementData cJ2_elementData 2 (some (.object "java/lang/Object"))) (xrm 0 0 0) (xPw g A w [.ref a, .int (nI i)]) (zQr A (xw g A w) (fun r => r = y)) 0 0 A := by
  obtain ⟨d, cap, f, h1, h2, h3, h4, h5, h6, h7, h8⟩ := h.data hi
  refine x_start rfl (Nat.le_of_ble_eq_true rfl) ?_
  intro p e s m below meth c hx hb hr hlk hml hown hts hnm hE hM hS ls hl
  have hF : xFix p m c cJ2_elementData 2 s _ RJ2 := ⟨hx, hb, hml, hown, hts⟩
  generalize hargs : List.toArray _ = args at hts hF ⊢
  generalize hQ : MQ below _ _ s _ _ A = Q
  refine lv_aload_n hx hb dJ2_elementData_0 rfl (lh_at hl rfl) ?_
  refine xr_get (C := RJ2) (T := TJ2) (N := 3) (ci := 6) hx hb hts in_J2 hown hE hM (by first | assumption | exact va_up_s | rfl | (refine (va_up_n ?_).trans ?_; rotate_left; (first | assumption | exact va_up_s | rfl | (refine (va_up_n ?_).trans ?_; rotate_left; (first | assumption | exact va_up_s | rfl | (refine (va_up_n ?_).trans ?_; rotate_left; (first | assumption | exact va_up_s | rfl | (refine (va_up_n ?_).trans ?_; rotate_left; (first | assumption | exact va_up_s | rfl | (refine (va_up_n ?_).trans ?_; rotate_left; (assumption); omega)); omega)); omega)); omega)); omega)) rfl 1 (by decide) (hts _ q93) (fun _ h => h) rfl dJ2_elementData_1 ?_
  refine lv_iload_n hx hb dJ2_elementData_4 rfl (lh_at hl rfl) ?_
  refine xr_qald hx hb hE hM (by first | assumption | exact va_up_s | rfl | (refine (va_up_n ?_).trans ?_; rotate_left; (first | assumption | exact va_up_s | rfl | (refine (va_up_n ?_).trans ?_; rotate_left; (first | assumption | exact va_up_s | rfl | (refine (va_up_n ?_).trans ?_; rotate_left; (first | assumption | exact va_up_s | rfl | (refine (va_up_n ?_).trans ?_; rotate_left; (first | assumption | exact va_up_s | rfl | (refine (va_up_n ?_).trans ?_; rotate_left; (assumption); omega)); omega)); omega)); omega)); omega)) (by omega) (by first | decide | omega) (by first | assumption | rfl) dJ2_elementData_5 ?_
  exact hQ ▸ x_aret hx hb hr (Or.inl ⟨_, rfl⟩) hlk hS () trivial ⟨rfl, hM⟩ dJ2_elementData_6
theorem jk_get (l : Launch) (g : xg) (A : Nat → Prop) (w : xw_W) (nL nD a ci i y : Nat) (mc : Int32) (es : List Nat) (h : xLs g w nL nD a mc ci es) (hi : es[i]? = some y) :
    Met l yJ2_get (ws_ yJ2_get cJ2_get 2 (some (.object "java/lang/Object"))) (xrm 2 0 0) (xPw g A w [.ref a, .int (nI i)]) (zQr A (xw g A w) (fun r => r = y)) 0 0 A := by
  obtain ⟨d, cap, f, h1, h2, h3, h4, h5, h6, h7, h8⟩ := h.data hi
  refine x_start rfl (Nat.le_of_ble_eq_true rfl) ?_
  intro p e s m below meth c hx hb hr hlk hml hown hts hnm hE hM hS ls hl
  have hF : xFix p m c cJ2_get 2 s _ RJ2 := ⟨hx, hb, hml, hown, hts⟩
  generalize hargs : List.toArray _ = args at hts hF ⊢
  generalize hQ : MQ below _ _ s _ _ A = Q
  refine lv_iload_n hx hb dJ2_get_0 rfl (lh_at hl rfl) ?_
  refine lv_aload_n hx hb dJ2_get_1 rfl (lh_at hl rfl) ?_
  refine xr_get (C := RJ2) (T := TJ2) (N := 3) (ci := 6) hx hb hts in_J2 hown hE hM (by first | assumption | exact va_up_s | rfl | (refine (va_up_n ?_).trans ?_; rotate_left; (first | assumption | exact va_up_s | rfl | (refine (va_up_n ?_).trans ?_; rotate_left; (first | assumption | exact va_up_s | rfl | (refine (va_up_n ?_).trans ?_; rotate_left; (first | assumption | exact va_up_s | rfl | (refine (va_up_n ?_).trans ?_; rotate_left; (first | assumption | exact va_up_s | rfl | (refine (va_up_n ?_).trans ?_; rotate_left; (assumption); omega)); omega)); omega)); omega)); omega)) rfl 2 (by decide) (hts _ q96) (fun _ h => h) rfl dJ2_get_2 ?_
  refine x_calli (x_runS (As := [.int (nI i), .int (nI es.length)]) hF hE hS hM hl (jk_check20 l g A (xw g A w) i es.length h8 (by omega)) q629 q630 q64 q631 ⟨by decide +kernel, by decide +kernel, by show _ = some 2; decide +kernel⟩ rfl rfl ⟨Nat.le_of_ble_eq_true rfl, Nat.le_of_ble_eq_true rfl⟩ rfl (Nat.le_of_ble_eq_true rfl) dJ2_get_5 ⟨Nat.le_of_ble_eq_true rfl, Nat.le_of_ble_eq_true rfl⟩) hS (fun r uu H locs hq hM hS => ?_)
  refine lv_pop hx hb dJ2_get_8 rfl ?_
  refine lv_aload_n hx hb dJ2_get_9 rfl (lh_at hl rfl) ?_
  refine lv_iload_n hx hb dJ2_get_10 rfl (lh_at hl rfl) ?_
  refine x_callr (x_runV (As := [.int (nI i)]) hF hE hS hM hl (jk_elementData l g A w nL nD a ci i y mc es h hi) (xw.recv hE hM (by first | assumption | exact va_up_s | rfl | (refine (va_up_n ?_).trans ?_; rotate_left; (first | assumption | exact va_up_s | rfl | (refine (va_up_n ?_).trans ?_; rotate_left; (first | assumption | exact va_up_s | rfl | (refine (va_up_n ?_).trans ?_; rotate_left; (first | assumption | exact va_up_s | rfl | (refine (va_up_n ?_).trans ?_; rotate_left; (first | assumption | exact va_up_s | rfl | (refine (va_up_n ?_).trans ?_; rotate_left; (assumption); omega)); omega)); omega)); omega)); omega)) rfl) q635 q636 q637 q41 q638 ⟨rfl, by decide +kernel, by decide +kernel, by show _ = some 1; decide +kernel⟩ rfl rfl ⟨Nat.le_of_ble_eq_true rfl, Nat.le_of_ble_eq_true rfl⟩ rfl (Nat.le_of_ble_eq_true rfl) dJ2_get_11 ⟨Nat.le_of_ble_eq_true rfl, Nat.le_of_ble_eq_true rfl⟩) hS (fun uu ra H locs hq hM hS => ?_)
  obtain ⟨rfl, hM⟩ := hM
  exact hQ ▸ x_aret hx hb hr (Or.inl ⟨_, rfl⟩) hlk hS () trivial ⟨rfl, hM⟩ dJ2_get_14
