/-! String constants, numbers as text: bounds alone -/
set_option maxRecDepth 100000
theorem xE.lit {g : xg} {A : Nat → Prop} {s : State} (hE : xE g A s) {q : Nat × String} (hq : q ∈ xLl) : xStr (g.2 (100 + q.1)) (g.2 (400 + q.1)) q.2.length A s s.heap := (hE.2.2.2.2.2.2.2.2.2.2.2.2 q hq).2
theorem xE.litR {g : xg} {A : Nat → Prop} {s : State} (hE : xE g A s) {q : Nat × String} (hq : q ∈ xLl) : vk_R "Aislewright" q.1 q.2 (g.2 (100 + q.1)) s := (hE.2.2.2.2.2.2.2.2.2.2.2.2 q hq).1
theorem xLl_len : ∀ q ∈ xLl, q.2.length ≤ 40 := by decide +kernel
theorem xStr.recv {a v n : Nat} {A : Nat → Prop} {s : State} {H : Heap} {locs : List Loc} (h : xStr a v n A s s.heap) (hS : va_S A s.heap H locs) : xRv s H "java/lang/String" a := by
  obtain ⟨cell, h1, h2, h3, -⟩ := h.1.kept hS.2.1
  exact ⟨cell, h1, h2, h3⟩
section XT
variable {p : Program} {l : Launch} {e : Env} {R : Room} {s : State} {m : MethodId} {args : Array Value} {below : List Frame} {meth : Method} {c : Code} {H : Heap} {locs : List Loc} {cells slots : Nat} {Q : State → Prop}
variable {cc bytes : ByteArray} {pc nL maxL n mc ms : Nat} {ls : Array Slot} {rest st0 As : List Value} {g : xg} {A : Nat → Prop} {P : Heap → Prop} {own C : String} {index : Nat} {y : MethodName} {ret : Option FieldType} {rm : Room} {b : Nat} {lf : Nat → Option Value} {w : xw_W} {a : Nat}
/-- super.m(..) -/
theorem x_runSU {Qc : Array Value → State → Outcome → State → Prop} {ci : Nat} {q : vw_C} (hF : xFix p m c cc nL s args own) (hE : xE g A s) (hS : va_S A s.heap H locs) (hP : P H) (hls : lh ls nL lf) (hM : Met l y (ws_ y bytes maxL ret) rm (xPc g A (.ref b :: As) P) Qc mc ms A) (hrv : xRv s H q.1 b) (hc : xCl[ci]? = some q)
    (h1 : Cond.methodLink own index y ∈ lw_all) (hsm : Cond.sameMethod y.cls y.cls y.name y.desc ∈ lw_all) (hsu : Cond.superclass own y.cls ∈ lw_all) (h2 : Cond.instanceMethod y ∈ lw_all) (h4 : Cond.initialized y.cls ∈ lw_all) (h5 : Cond.code y bytes maxL ret ∈ lw_all) (hd : y.name ≠ "<init>" ∧ (parseMethodDescriptor y.desc).map (fun d => d.parameters.length) = some As.length)
    (hrc : rm.cells = mc) (hrs : rm.slots = ms) (hR : rm.frames + 1 ≤ R.frames ∧ 8 + (maxL + 11) + rm.locals ≤ R.locals) (hst : st0 = As.reverse ++ .ref b :: rest) (hcat : (rest.map fun v => v.category).sum ≤ 8) (hdg : decode cc pc = .ok (.invokespecial index, 3)) (hf : cells + mc ≤ R.cells ∧ slots + ms ≤ R.slots) :
    va_Run p l e R s m args below meth c H locs cells slots mc ms (F0 m pc ls st0) rest (Qc (Value.ref b :: As).toArray) A := by
  have hts := hF.2.2.2.2
  obtain ⟨cC, hat⟩ := xw.at hE hc
  refine va_runSU (n := As.length) hat hF hM ⟨⟨hrc, hrs, hR.1, hR.2, pay_in hts (lw_meth h5), List.mem_cons_self⟩, hts _ h1, hts _ hsm, hts _ hsu, hts _ h2, hts _ h4, hts _ h5, hd.1, fun sig h => ?_⟩ (x_preV hE hS hP hrv) rfl rfl (lh_size hls) hst (lv_room hcat) hdg hf
  have h9 := hd.2
  rw [h] at h9
  exact (Option.some.inj h9).symm
theorem va_up_up {α : Type} {f : Nat → α} {k : Nat} {v v' : α} : va_up (va_up f k v) k v' = va_up f k v' := by
  funext j
  by_cases h : j = k
  · rw [h, va_up_s, va_up_s]
  · rw [va_up_n h, va_up_n h, va_up_n h]
/-- a store into the bytes, their contents forgotten -/
theorem xr_bastF (hexec : p.tables.exec = Jvm.exec) (hb : c.code = cc) (hE : xE g A s) {n N i v : Nat} {f : Nat → Int32} {x : Int32} (hM : xw g A (va_up w n (some (v, .inl (g.2 4, N, .inl f)))) H) (hS : va_S A s.heap H locs) (hf : bF f) (hi : i < N) (hN : N < 2 ^ 31) (hdg : decode cc pc = .ok (.bastore, 1))
    (kk : ∀ (H1 : Heap) (locs1 : List Loc) (f' : Nat → Int32), bF f' → xw g A (va_up w n (some (v, .inl (g.2 4, N, .inl f')))) H1 → va_S A s.heap H1 locs1 → W p l e R s m args below meth c H1 locs1 cells slots Q (F0 m (pc + 1) ls rest)) : W p l e R s m args below meth c H locs cells slots Q (F0 m pc ls (.int x :: .int (nI i) :: .ref v :: rest)) := by
  refine xr_bast (n := n) hexec hb hE hM hS va_up_s hi hN hdg (fun H1 locs1 h1 h2 => ?_)
  rw [va_up_up] at h1
  refine kk H1 locs1 _ (fun j => ?_) h1 h2
  unfold upd
  by_cases hj : j = i
  · simp only [hj, if_true]
    rw [vp_nar_byte]
    exact pk_fb _
  · simp only [hj, if_false]
    exact hf j
theorem xr_castB (hexec : p.tables.exec = Jvm.exec) (hb : c.code = cc) (hown : s.vm.findClass own = some m.cls) (hE : xE g A s) (hM : xw g A w H) {n : Nat} {x : vp_A} (he : w n = some (a, .inl (g.2 4, x))) (hl : (Cond.classLink own index "[B").before args s = true) (hdg : decode cc pc = .ok (.checkcast index, 3))
    (kk : W p l e R s m args below meth c H locs cells slots Q (F0 m (pc + 3) ls (.ref a :: rest))) : W p l e R s m args below meth c H locs cells slots Q (F0 m pc ls (.ref a :: rest)) := by
  obtain ⟨ws, hP, hD, h3, h4⟩ := hM
  obtain ⟨q0, hq⟩ := h3 n _ he
  exact va_castA hexec hb hown hl hP q0 hq (va_nm_byte (hE.1.2 4 (g.2 4, .byte) rfl).2) hdg kk
theorem xr_cloneb (hexec : p.tables.exec = Jvm.exec) (hb : c.code = cc) (hml : c.maxLocals = nL) {lf : Nat → Option Value} (hls : lh ls nL lf) (hts : ∀ w ∈ lw_all, w.before args s = true) (hown : s.vm.findClass own = some m.cls) (hE : xE g A s) (hM : xw g A w H) (hS : va_S A s.heap H locs) (hlk : Cond.methodLink own index ⟨"[B", "clone", "()Ljava/lang/Object;"⟩ ∈ lw_all) (hnt : Cond.native ⟨"java/lang/Object", "clone", "()Ljava/lang/Object;"⟩ ∈ lw_all) (hin : Cond.instanceMethod ⟨"java/lang/Object", "clone", "()Ljava/lang/Object;"⟩ ∈ lw_all) (n2 : Nat) {n N : Nat} {f : Nat → Int32} (he : w n = some (a, .inl (g.2 4, N, .inl f))) (hbf : bF f)
    (hfr : 1 ≤ R.frames) (hcat : (rest.map fun v => v.category).sum ≤ 8) (hlo : 8 + 14 ≤ R.locals) (hcells : cells + 1 ≤ R.cells) (hslots : slots + N ≤ R.slots) (hdg : decode cc pc = .ok (.invokevirtual index, 3))
    (kk : ∀ (q : Nat) (H1 : Heap), xw g A (va_up w n2 (some (q, .inl (g.2 4, N, .inl f)))) H1 → va_S A s.heap H1 locs →
      W p l e R s m args below meth c H1 locs (cells + 1) (slots + N) Q (F0 m (pc + 3) ls (.ref q :: rest))) : W p l e R s m args below meth c H locs cells slots Q (F0 m pc ls (.ref a :: rest)) := by
  obtain ⟨ws, hP, hD, h3, h4⟩ := hM
  obtain ⟨q0, hq⟩ := h3 n _ he
  have hs0 := lh_size hls
  refine va_clone (ad := "[B") hexec hb (hml.trans hs0.symm) hown (hts _ hlk) (hts _ q372) (hts _ hnt) (hts _ hin) (hts _ q375) (hE.2.2.1 _ q376 rfl) hE.1 hP hD hS hE.2.1 q0 4 hq rfl (va_nm_byte (hE.1.2 4 (g.2 4, .byte) rfl).2)
    (va_fit (ty := .byte) (fun i _ => hbf i)) hfr (by omega) hcells hslots hdg (fun q H1 hK1 hP1 hD1 hS1 => ?_)
  exact kk q H1 (xw_addD h3 h4 hP1 hD1) hS1
end XT
/-! ## String constants -/
theorem jk_coder (l : Launch) (g : xg) (A : Nat → Prop) (P : Heap → Prop) (q : Nat × String) (hq : q ∈ xLl) :
    Met l yJ9_coder (ws_ yJ9_coder cJ9_coder 1 (some .byte)) (xrm 0 0 0) (xPc g A [.ref (g.2 (100 + q.1))] P) (zQi A P (fun r => r = nI 0)) 0 0 A := by
  refine x_start rfl (Nat.le_of_ble_eq_true rfl) ?_
  intro p e s m below meth c hx hb hr hlk hml hown hts hnm hE hM hS ls hl
  have hF : xFix p m c cJ9_coder 1 s _ RJ9 := ⟨hx, hb, hml, hown, hts⟩
  generalize hargs : List.toArray _ = args at hts hF ⊢
  generalize hQ : MQ below _ _ s _ _ A = Q
  have hstr := hE.lit hq
  refine va_gets hx hb hE.cs hS hown (hts _ q421) (fun _ h => h) dJ9_coder_0 ?_
  refine lv_if_eq (tgt := 13) hx hb dJ9_coder_3 (by decide) (fun c1 => ?_) (fun c1 => ?_)
  · exact absurd c1 (by decide)
  · refine lv_aload_n hx hb dJ9_coder_6 rfl (lh_at hl rfl) ?_
    refine vk_getf hx hb hstr.2.1 hS hown (hts _ q552) (fun _ h => h) dJ9_coder_7 ?_
    refine lv_goto (tgt := 14) hx hb dJ9_coder_10 (by decide) ?_
    exact hQ ▸ W.zret (v := 0) hx hb hr rfl (fun t ht _ => ⟨⟨nI 0, (), rfl, rfl, by rw [← ht] at hM; exact hM⟩, hS.F ht⟩) hS.2.2 dJ9_coder_14 hlk
theorem jk_slen (l : Launch) (g : xg) (A : Nat → Prop) (P : Heap → Prop) (q : Nat × String) (hq : q ∈ xLl) :
    Met l yJ9_length (ws_ yJ9_length cJ9_length 1 (some .int)) (xrm 1 0 0) (xPc g A [.ref (g.2 (100 + q.1))] P) (zQi A P (fun r => r = nI q.2.length)) 0 0 A := by
  have hn := xLl_len q hq
  refine x_start rfl (Nat.le_of_ble_eq_true rfl) ?_
  intro p e s m below meth c hx hb hr hlk hml hown hts hnm hE hM hS ls hl
  have hF : xFix p m c cJ9_length 1 s _ RJ9 := ⟨hx, hb, hml, hown, hts⟩
  generalize hargs : List.toArray _ = args at hts hF ⊢
  generalize hQ : MQ below _ _ s _ _ A = Q
  have hstr := hE.lit hq
  obtain ⟨b, hb1, hb2⟩ := hstr.2.2.2
  refine lv_aload_n hx hb dJ9_length_0 rfl (lh_at hl rfl) ?_
  refine vk_getf hx hb hstr.2.2.1 hS hown (hts _ q551) (fun _ h => h) dJ9_length_1 ?_
  refine va_tlen hx hb hb2 hS (v := nI q.2.length) rfl dJ9_length_4 ?_
  refine lv_aload_n hx hb dJ9_length_5 rfl (lh_at hl rfl) ?_
  refine x_calli (x_runV (P := P) (As := []) hF hE hS hM hl (jk_coder l g A P q hq) (by exact hstr.recv hS) q417 q418 q419 q50 q420 ⟨rfl, by decide +kernel, by decide +kernel, by show _ = some 0; decide +kernel⟩ rfl rfl ⟨Nat.le_of_ble_eq_true rfl, Nat.le_of_ble_eq_true rfl⟩ rfl (Nat.le_of_ble_eq_true rfl) dJ9_length_6 ⟨Nat.le_of_ble_eq_true rfl, Nat.le_of_ble_eq_true rfl⟩) hS (fun r uu H locs hr1 hM hS => ?_)
  subst hr1
  refine n_ishr hx hb (by omega) (by omega) dJ9_length_9 ?_
  rw [Nat.shiftRight_zero]
  exact hQ ▸ x_iret hx hb hr hlk hS () rfl hM dJ9_length_10
theorem jk_getBytes (l : Launch) (g : xg) (A : Nat → Prop) (w : xw_W) (nV v cap i : Nat) (f : Nat → Int32) (q : Nat × String) (hq : q ∈ xLl) (h : w nV = some (v, .inl (g.2 4, cap, .inl f))) (hf : bF f) (hc : cap ≤ 300) (hi : i + q.2.length ≤ cap) :
    Met l yJ9_getBytes (ws_ yJ9_getBytes cJ9_getBytes 4 none) (xrm 1 0 0) (xPw g A w [.ref (g.2 (100 + q.1)), .ref v, .int (nI i), .int (nI 0)]) (xQwv g A (fun u => ∃ f', bF f' ∧ u = va_up w nV (some (v, .inl (g.2 4, cap, .inl f'))))) 0 0 A := by
  have hn := xLl_len q hq
  refine x_start rfl (Nat.le_of_ble_eq_true rfl) ?_
  intro p e s m below meth c hx hb hr hlk hml hown hts hnm hE hM hS ls hl
  have hF : xFix p m c cJ9_getBytes 4 s _ RJ9 := ⟨hx, hb, hml, hown, hts⟩
  generalize hargs : List.toArray _ = args at hts hF ⊢
  generalize hQ : MQ below _ _ s _ _ A = Q
  have hstr := hE.lit hq
  obtain ⟨b, hb1, hb2⟩ := hstr.2.2.2
  refine lv_aload_n hx hb dJ9_getBytes_0 rfl (lh_at hl rfl) ?_
  refine x_calli (x_runV (As := []) hF hE hS hM hl (jk_coder l g A (xw g A w) q hq) (by exact hstr.recv hS) q417 q418 q419 q50 q420 ⟨rfl, by decide +kernel, by decide +kernel, by show _ = some 0; decide +kernel⟩ rfl rfl ⟨Nat.le_of_ble_eq_true rfl, Nat.le_of_ble_eq_true rfl⟩ rfl (Nat.le_of_ble_eq_true rfl) dJ9_getBytes_1 ⟨Nat.le_of_ble_eq_true rfl, Nat.le_of_ble_eq_true rfl⟩) hS (fun r uu H locs hr1 hM hS => ?_)
  subst hr1
  refine lv_iload_n hx hb dJ9_getBytes_4 rfl (lh_at hl rfl) ?_
  refine n_icmp_ne (tgt := 28) hx hb dJ9_getBytes_5 (by decide) (by omega) (by omega) (fun c1 => ?_) (fun c1 => ?_)
  · exact absurd rfl c1
  · refine lv_aload_n hx hb dJ9_getBytes_8 rfl (lh_at hl rfl) ?_
    refine vk_getf hx hb hstr.2.2.1 hS hown (hts _ q551) (fun _ h => h) dJ9_getBytes_9 ?_
    refine n_const hx hb 0 dJ9_getBytes_12 (by decide +kernel) ?_
    refine lv_aload_n hx hb dJ9_getBytes_13 rfl (lh_at hl rfl) ?_
    refine lv_iload_n hx hb dJ9_getBytes_14 rfl (lh_at hl rfl) ?_
    refine lv_iload_n hx hb dJ9_getBytes_15 rfl (lh_at hl rfl) ?_
    refine n_ishl hx hb (by omega) (by omega) dJ9_getBytes_16 ?_
    rw [Nat.shiftLeft_zero]
    refine lv_aload_n hx hb dJ9_getBytes_17 rfl (lh_at hl rfl) ?_
    refine vk_getf hx hb hstr.2.2.1 hS hown (hts _ q551) (fun _ h => h) dJ9_getBytes_18 ?_
    refine va_tlen hx hb hb2 hS (v := nI q.2.length) rfl dJ9_getBytes_21 ?_
    refine xr_copyt (sp := 0) (dp := i) (n1 := nV) hx hb hml hl hts hown hE hM hS q454 hb2 (by first | assumption | exact va_up_s | rfl | (refine (va_up_n ?_).trans ?_; rotate_left; (first | assumption | exact va_up_s | rfl | (refine (va_up_n ?_).trans ?_; rotate_left; (first | assumption | exact va_up_s | rfl | (refine (va_up_n ?_).trans ?_; rotate_left; (first | assumption | exact va_up_s | rfl | (refine (va_up_n ?_).trans ?_; rotate_left; (first | assumption | exact va_up_s | rfl | (refine (va_up_n ?_).trans ?_; rotate_left; (assumption); omega)); omega)); omega)); omega)); omega)) hb1 (by omega) (by omega) (by omega) (by omega) (Nat.le_of_ble_eq_true rfl) (Nat.le_of_ble_eq_true rfl) (Nat.le_of_ble_eq_true rfl) dJ9_getBytes_22 (fun H locs hM hS => ?_)
    refine lv_goto (tgt := 43) hx hb dJ9_getBytes_25 (by decide) ?_
    exact hQ ▸ x_vret hx hb hr hlk hS _ ⟨_, bF_cpy hb1 (by omega) hf, rfl⟩ hM dJ9_getBytes_43
theorem jk_inflate0 (l : Launch) (g : xg) (A : Nat → Prop) (w : xw_W) (nS nV a v cap n : Nat) (q : Nat × String) (hq : q ∈ xLl) (h : sB g w nS nV a v cap n) :
    Met l yJ10_inflateIfNeededFor (ws_ yJ10_inflateIfNeededFor cJ10_inflateIfNeededFor 2 none) (xrm 1 0 0) (xPw g A w [.ref a, .ref (g.2 (100 + q.1))]) (zQv A (xw g A w)) 0 0 A := by
  obtain ⟨ml, f, h1, h2, h3, h4, h5⟩ := h
  refine x_start rfl (Nat.le_of_ble_eq_true rfl) ?_
  intro p e s m below meth c hx hb hr hlk hml hown hts hnm hE hM hS ls hl
  have hF : xFix p m c cJ10_inflateIfNeededFor 2 s _ RJ10 := ⟨hx, hb, hml, hown, hts⟩
  generalize hargs : List.toArray _ = args at hts hF ⊢
  generalize hQ : MQ below _ _ s _ _ A = Q
  have hstr := hE.lit hq
  refine va_gets hx hb hE.cs hS hown (hts _ q317) (fun _ h => h) dJ10_inflateIfNeededFor_0 ?_
  refine lv_if_eq (tgt := 21) hx hb dJ10_inflateIfNeededFor_3 (by decide) (fun c1 => ?_) (fun c1 => ?_)
  · exact absurd c1 (by decide)
  · refine lv_aload_n hx hb dJ10_inflateIfNeededFor_6 rfl (lh_at hl rfl) ?_
    refine xr_get (C := RJ11) (T := TJ11) (N := 4) (ci := 8) (n := nS) hx hb hts in_J11 hown hE hM (by first | assumption | exact va_up_s | rfl | (refine (va_up_n ?_).trans ?_; rotate_left; (first | assumption | exact va_up_s | rfl | (refine (va_up_n ?_).trans ?_; rotate_left; (first | assumption | exact va_up_s | rfl | (refine (va_up_n ?_).trans ?_; rotate_left; (first | assumption | exact va_up_s | rfl | (refine (va_up_n ?_).trans ?_; rotate_left; (first | assumption | exact va_up_s | rfl | (refine (va_up_n ?_).trans ?_; rotate_left; (assumption); omega)); omega)); omega)); omega)); omega)) rfl 1 (by decide) (hts _ q327) (fun _ h => h) rfl dJ10_inflateIfNeededFor_7 ?_
    refine lv_aload_n hx hb dJ10_inflateIfNeededFor_10 rfl (lh_at hl rfl) ?_
    refine x_calli (x_runV (As := []) hF hE hS hM hl (jk_coder l g A (xw g A w) q hq) (by exact hstr.recv hS) q430 q418 q419 q50 q420 ⟨rfl, by decide +kernel, by decide +kernel, by show _ = some 0; decide +kernel⟩ rfl rfl ⟨Nat.le_of_ble_eq_true rfl, Nat.le_of_ble_eq_true rfl⟩ rfl (Nat.le_of_ble_eq_true rfl) dJ10_inflateIfNeededFor_11 ⟨Nat.le_of_ble_eq_true rfl, Nat.le_of_ble_eq_true rfl⟩) hS (fun r uu H locs hr1 hM hS => ?_)
    subst hr1
    refine n_icmp_eq (tgt := 21) hx hb dJ10_inflateIfNeededFor_14 (by decide) (by omega) (by omega) (fun c2 => ?_) (fun c2 => ?_)
    · exact hQ ▸ x_vret hx hb hr hlk hS () trivial hM dJ10_inflateIfNeededFor_21
    · exact absurd rfl c2
theorem jk_putStringAt (l : Launch) (g : xg) (A : Nat → Prop) (w : xw_W) (nS nV a v cap n : Nat) (q : Nat × String) (hq : q ∈ xLl) (h : sB g w nS nV a v cap n) (hi : n + q.2.length ≤ cap) :
    Met l yJ10_putStringAt (ws_ yJ10_putStringAt cJ10_putStringAt 3 none) (xrm 2 0 0) (xPw g A w [.ref a, .int (nI n), .ref (g.2 (100 + q.1))]) (xQwv g A (fun u => ∃ f', bF f' ∧ u = va_up w nV (some (v, .inl (g.2 4, cap, .inl f'))))) 0 0 A := by
  obtain ⟨ml, f, h1, h2, h3, h4, h5⟩ := id h
  refine x_start rfl (Nat.le_of_ble_eq_true rfl) ?_
  intro p e s m below meth c hx hb hr hlk hml hown hts hnm hE hM hS ls hl
  have hF : xFix p m c cJ10_putStringAt 3 s _ RJ10 := ⟨hx, hb, hml, hown, hts⟩
  generalize hargs : List.toArray _ = args at hts hF ⊢
  generalize hQ : MQ below _ _ s _ _ A = Q
  have hstr := hE.lit hq
  refine lv_aload_n hx hb dJ10_putStringAt_0 rfl (lh_at hl rfl) ?_
  refine lv_aload_n hx hb dJ10_putStringAt_1 rfl (lh_at hl rfl) ?_
  refine x_callv (x_runU (As := [.ref (g.2 (100 + q.1))]) hF hE hS hM hl (jk_inflate0 l g A w nS nV a v cap n q hq h) (xw.recv hE hM (by first | assumption | exact va_up_s | rfl | (refine (va_up_n ?_).trans ?_; rotate_left; (first | assumption | exact va_up_s | rfl | (refine (va_up_n ?_).trans ?_; rotate_left; (first | assumption | exact va_up_s | rfl | (refine (va_up_n ?_).trans ?_; rotate_left; (first | assumption | exact va_up_s | rfl | (refine (va_up_n ?_).trans ?_; rotate_left; (first | assumption | exact va_up_s | rfl | (refine (va_up_n ?_).trans ?_; rotate_left; (assumption); omega)); omega)); omega)); omega)); omega)) rfl) q426 q1567 (x_selPriv ⟨by decide +kernel, by decide +kernel⟩ (hts _ q309) (va_Nw.use rfl (hE.2.2.1 _ q427 rfl)) (hts _ q428) (hts _ q1567)) q428 q51 q429 rfl ⟨by decide +kernel, by decide +kernel, by show _ = some 1; decide +kernel⟩ rfl rfl ⟨Nat.le_of_ble_eq_true rfl, Nat.le_of_ble_eq_true rfl⟩ rfl (Nat.le_of_ble_eq_true rfl) dJ10_putStringAt_2 ⟨Nat.le_of_ble_eq_true rfl, Nat.le_of_ble_eq_true rfl⟩) hS (fun uu H locs hr1 hM hS => ?_)
  refine lv_aload_n hx hb dJ10_putStringAt_5 rfl (lh_at hl rfl) ?_
  refine lv_aload_n hx hb dJ10_putStringAt_6 rfl (lh_at hl rfl) ?_
  refine xr_get (C := RJ11) (T := TJ11) (N := 4) (ci := 8) (n := nS) hx hb hts in_J11 hown hE hM (by first | assumption | exact va_up_s | rfl | (refine (va_up_n ?_).trans ?_; rotate_left; (first | assumption | exact va_up_s | rfl | (refine (va_up_n ?_).trans ?_; rotate_left; (first | assumption | exact va_up_s | rfl | (refine (va_up_n ?_).trans ?_; rotate_left; (first | assumption | exact va_up_s | rfl | (refine (va_up_n ?_).trans ?_; rotate_left; (first | assumption | exact va_up_s | rfl | (refine (va_up_n ?_).trans ?_; rotate_left; (assumption); omega)); omega)); omega)); omega)); omega)) rfl 0 (by decide) (hts _ q326) (fun _ h => h) rfl dJ10_putStringAt_7 ?_
  refine lv_iload_n hx hb dJ10_putStringAt_10 rfl (lh_at hl rfl) ?_
  refine lv_aload_n hx hb dJ10_putStringAt_11 rfl (lh_at hl rfl) ?_
  refine xr_get (C := RJ11) (T := TJ11) (N := 4) (ci := 8) (n := nS) hx hb hts in_J11 hown hE hM (by first | assumption | exact va_up_s | rfl | (refine (va_up_n ?_).trans ?_; rotate_left; (first | assumption | exact va_up_s | rfl | (refine (va_up_n ?_).trans ?_; rotate_left; (first | assumption | exact va_up_s | rfl | (refine (va_up_n ?_).trans ?_; rotate_left; (first | assumption | exact va_up_s | rfl | (refine (va_up_n ?_).trans ?_; rotate_left; (first | assumption | exact va_up_s | rfl | (refine (va_up_n ?_).trans ?_; rotate_left; (assumption); omega)); omega)); omega)); omega)); omega)) rfl 1 (by decide) (hts _ q327) (fun _ h => h) rfl dJ10_putStringAt_12 ?_
  refine x_callv (x_runV (As := [.ref v, .int (nI n), .int (nI 0)]) hF hE hS hM hl (jk_getBytes l g A w nV v cap n f q hq h2 h5 h4 hi) (by exact hstr.recv hS) q450 q451 q452 q50 q453 ⟨rfl, by decide +kernel, by decide +kernel, by show _ = some 3; decide +kernel⟩ rfl rfl ⟨Nat.le_of_ble_eq_true rfl, Nat.le_of_ble_eq_true rfl⟩ rfl (Nat.le_of_ble_eq_true rfl) dJ10_putStringAt_15 ⟨Nat.le_of_ble_eq_true rfl, Nat.le_of_ble_eq_true rfl⟩) hS (fun u H locs hq1 hM hS => ?_)
  exact hQ ▸ x_vret hx hb hr hlk hS u hq1 hM dJ10_putStringAt_18
theorem jk_append10 (l : Launch) (g : xg) (A : Nat → Prop) (w : xw_W) (nS nV nT a v cap n : Nat) (q : Nat × String) (hq : q ∈ xLl) (h : sB g w nS nV a v cap n) (h2 : n + q.2.length ≤ 140) (hSV : nS ≠ nV) (hTV : nT ≠ nV) (hT : w nT = none) :
    Met l yJ10_append (ws_ yJ10_append cJ10_append 3 (some (.object "java/lang/AbstractStringBuilder"))) (xrm 4 1 300) (xPw g A w [.ref a, .ref (g.2 (100 + q.1))]) (xQwr g A (fun ra u => ra = a ∧ (∃ v' cap', sB g u nS nV a v' cap' (n + q.2.length)) ∧ xAg2 w u nS nV)) 1 300 A := by
  have hn := xLl_len q hq
  obtain ⟨ml, f, g1, g2, g3, g4, g5⟩ := id h
  refine x_start rfl (Nat.le_of_ble_eq_true rfl) ?_
  intro p e s m below meth c hx hb hr hlk hml hown hts hnm hE hM hS ls hl
  have hF : xFix p m c cJ10_append 3 s _ RJ10 := ⟨hx, hb, hml, hown, hts⟩
  generalize hargs : List.toArray _ = args at hts hF ⊢
  generalize hQ : MQ below _ _ s _ _ A = Q
  have hstr := hE.lit hq
  refine lv_aload_n hx hb dJ10_append_0 rfl (lh_at hl rfl) ?_
  refine lv_ifnonnull (tgt := 9) hx hb dJ10_append_1 (by decide) ?_
  refine lv_aload_n hx hb dJ10_append_9 rfl (lh_at hl rfl) ?_
  refine x_calli (x_runV (As := []) hF hE hS hM hl (jk_slen l g A (xw g A w) q hq) (by exact hstr.recv hS) q413 q414 q415 q50 q416 ⟨rfl, by decide +kernel, by decide +kernel, by show _ = some 0; decide +kernel⟩ rfl rfl ⟨Nat.le_of_ble_eq_true rfl, Nat.le_of_ble_eq_true rfl⟩ rfl (Nat.le_of_ble_eq_true rfl) dJ10_append_10 ⟨Nat.le_of_ble_eq_true rfl, Nat.le_of_ble_eq_true rfl⟩) hS (fun r uu H locs hr1 hM hS => ?_)
  subst hr1
  refine x_istore_n hx hb dJ10_append_13 rfl hl (by decide) (fun ls hl => ?_)
  refine lv_aload_n hx hb dJ10_append_14 rfl (lh_at hl rfl) ?_
  refine lv_aload_n hx hb dJ10_append_15 rfl (lh_at hl rfl) ?_
  refine xr_get (C := RJ11) (T := TJ11) (N := 4) (ci := 8) (n := nS) hx hb hts in_J11 hown hE hM (by first | assumption | exact va_up_s | rfl | (refine (va_up_n ?_).trans ?_; rotate_left; (first | assumption | exact va_up_s | rfl | (refine (va_up_n ?_).trans ?_; rotate_left; (first | assumption | exact va_up_s | rfl | (refine (va_up_n ?_).trans ?_; rotate_left; (first | assumption | exact va_up_s | rfl | (refine (va_up_n ?_).trans ?_; rotate_left; (first | assumption | exact va_up_s | rfl | (refine (va_up_n ?_).trans ?_; rotate_left; (assumption); omega)); omega)); omega)); omega)); omega)) rfl 3 (by decide) (hts _ q329) (fun _ h => h) rfl dJ10_append_16 ?_
  refine lv_iload_n hx hb dJ10_append_19 rfl (lh_at hl rfl) ?_
  refine n_iadd hx hb dJ10_append_20 ?_
  refine x_callv (x_runU (As := [.int (nI (n + q.2.length))]) hF hE hS hM hl (jk_ensure l g A w nS nV nT a v cap n (n + q.2.length) h h2 hSV hTV hT) (xw.recv hE hM (by first | assumption | exact va_up_s | rfl | (refine (va_up_n ?_).trans ?_; rotate_left; (first | assumption | exact va_up_s | rfl | (refine (va_up_n ?_).trans ?_; rotate_left; (first | assumption | exact va_up_s | rfl | (refine (va_up_n ?_).trans ?_; rotate_left; (first | assumption | exact va_up_s | rfl | (refine (va_up_n ?_).trans ?_; rotate_left; (first | assumption | exact va_up_s | rfl | (refine (va_up_n ?_).trans ?_; rotate_left; (assumption); omega)); omega)); omega)); omega)); omega)) rfl) q351 q1564 (x_selPriv ⟨by decide +kernel, by decide +kernel⟩ (hts _ q309) (va_Nw.use rfl (hE.2.2.1 _ q352 rfl)) (hts _ q353) (hts _ q1564)) q353 q51 q354 rfl ⟨by decide +kernel, by decide +kernel, by show _ = some 1; decide +kernel⟩ rfl rfl ⟨Nat.le_of_ble_eq_true rfl, Nat.le_of_ble_eq_true rfl⟩ rfl (Nat.le_of_ble_eq_true rfl) dJ10_append_21 ⟨Nat.le_of_ble_eq_true rfl, Nat.le_of_ble_eq_true rfl⟩) hS (fun u H locs hq1 hM hS => ?_)
  obtain ⟨⟨v1, cap1, hs1, hc1⟩, hag⟩ := hq1
  obtain ⟨ml1, f1, k1, k2, k3, k4, k5⟩ := id hs1
  refine lv_aload_n hx hb dJ10_append_24 rfl (lh_at hl rfl) ?_
  refine lv_aload_n hx hb dJ10_append_25 rfl (lh_at hl rfl) ?_
  refine xr_get (C := RJ11) (T := TJ11) (N := 4) (ci := 8) (n := nS) hx hb hts in_J11 hown hE hM (by first | assumption | exact va_up_s | rfl | (refine (va_up_n ?_).trans ?_; rotate_left; (first | assumption | exact va_up_s | rfl | (refine (va_up_n ?_).trans ?_; rotate_left; (first | assumption | exact va_up_s | rfl | (refine (va_up_n ?_).trans ?_; rotate_left; (first | assumption | exact va_up_s | rfl | (refine (va_up_n ?_).trans ?_; rotate_left; (first | assumption | exact va_up_s | rfl | (refine (va_up_n ?_).trans ?_; rotate_left; (assumption); omega)); omega)); omega)); omega)); omega)) rfl 3 (by decide) (hts _ q329) (fun _ h => h) rfl dJ10_append_26 ?_
  refine lv_aload_n hx hb dJ10_append_29 rfl (lh_at hl rfl) ?_
  refine x_callv (x_runU (As := [.int (nI n), .ref (g.2 (100 + q.1))]) hF hE hS hM hl (jk_putStringAt l g A u nS nV a v1 cap1 n q hq hs1 hc1) (xw.recv hE hM (by first | assumption | exact va_up_s | rfl | (refine (va_up_n ?_).trans ?_; rotate_left; (first | assumption | exact va_up_s | rfl | (refine (va_up_n ?_).trans ?_; rotate_left; (first | assumption | exact va_up_s | rfl | (refine (va_up_n ?_).trans ?_; rotate_left; (first | assumption | exact va_up_s | rfl | (refine (va_up_n ?_).trans ?_; rotate_left; (first | assumption | exact va_up_s | rfl | (refine (va_up_n ?_).trans ?_; rotate_left; (assumption); omega)); omega)); omega)); omega)); omega)) rfl) q422 q1566 (x_selPriv ⟨by decide +kernel, by decide +kernel⟩ (hts _ q309) (va_Nw.use rfl (hE.2.2.1 _ q423 rfl)) (hts _ q424) (hts _ q1566)) q424 q51 q425 rfl ⟨by decide +kernel, by decide +kernel, by show _ = some 2; decide +kernel⟩ rfl rfl ⟨Nat.le_of_ble_eq_true rfl, Nat.le_of_ble_eq_true rfl⟩ rfl (Nat.le_of_ble_eq_true rfl) dJ10_append_30 ⟨Nat.le_of_ble_eq_true rfl, Nat.le_of_ble_eq_true rfl⟩) hS (fun u1 H locs hq1 hM hS => ?_)
  obtain ⟨f2, hf2, hu1⟩ := hq1
  have k6 : u1 nS = some (a, .inr (8, [.ref v1, .int (nI 0), .int ml1, .int (nI n)])) := by rw [hu1, va_up_n hSV]; exact k1
  refine lv_aload_n hx hb dJ10_append_33 rfl (lh_at hl rfl) ?_
  refine lv_dup hx hb dJ10_append_34 rfl ?_
  refine xr_get (C := RJ11) (T := TJ11) (N := 4) (ci := 8) (n := nS) hx hb hts in_J11 hown hE hM (by first | assumption | exact va_up_s | rfl | (refine (va_up_n ?_).trans ?_; rotate_left; (first | assumption | exact va_up_s | rfl | (refine (va_up_n ?_).trans ?_; rotate_left; (first | assumption | exact va_up_s | rfl | (refine (va_up_n ?_).trans ?_; rotate_left; (first | assumption | exact va_up_s | rfl | (refine (va_up_n ?_).trans ?_; rotate_left; (first | assumption | exact va_up_s | rfl | (refine (va_up_n ?_).trans ?_; rotate_left; (assumption); omega)); omega)); omega)); omega)); omega)) rfl 3 (by decide) (hts _ q329) (fun _ h => h) rfl dJ10_append_35 ?_
  refine lv_iload_n hx hb dJ10_append_38 rfl (lh_at hl rfl) ?_
  refine n_iadd hx hb dJ10_append_39 ?_
  refine xr_put (C := RJ11) (T := TJ11) (N := 4) (ci := 8) (n := nS) hx hb hts in_J11 tyJ11 tyJ11_ok nmJ11 hown hE hM hS (by first | assumption | exact va_up_s | rfl | (refine (va_up_n ?_).trans ?_; rotate_left; (first | assumption | exact va_up_s | rfl | (refine (va_up_n ?_).trans ?_; rotate_left; (first | assumption | exact va_up_s | rfl | (refine (va_up_n ?_).trans ?_; rotate_left; (first | assumption | exact va_up_s | rfl | (refine (va_up_n ?_).trans ?_; rotate_left; (first | assumption | exact va_up_s | rfl | (refine (va_up_n ?_).trans ?_; rotate_left; (assumption); omega)); omega)); omega)); omega)); omega)) rfl 3 (by decide) (hts _ q329) (fun _ h => h) rfl (tyJ11_ok 3 (by decide)) rfl rfl (Nat.le_of_ble_eq_true rfl) dJ10_append_40 (fun H locs hM hS => ?_)
  refine lv_aload_n hx hb dJ10_append_43 rfl (lh_at hl rfl) ?_
  refine hQ ▸ x_aret hx hb hr (Or.inl ⟨_, rfl⟩) hlk hS _ trivial ⟨⟨rfl, ⟨v1, cap1, ml1, f2, va_up_s, ?_, by omega, k4, hf2⟩, fun k e1 e2 => ?_⟩, hM⟩ dJ10_append_44
  · rw [va_up_n hSV.symm, hu1, va_up_s]
  · rw [va_up_n e1, hu1, va_up_n e2]
    exact hag k e1 e2
theorem jk_append (l : Launch) (g : xg) (A : Nat → Prop) (w : xw_W) (nS nV nT a v cap n : Nat) (q : Nat × String) (hq : q ∈ xLl) (h : sB g w nS nV a v cap n) (h2 : n + q.2.length ≤ 140) (hSV : nS ≠ nV) (hTV : nT ≠ nV) (hT : w nT = none) :
    Met l yJ11_append (ws_ yJ11_append cJ11_append 2 (some (.object "java/lang/StringBuilder"))) (xrm 5 1 300) (xPw g A w [.ref a, .ref (g.2 (100 + q.1))]) (xQwr g A (fun ra u => ra = a ∧ (∃ v' cap', sB g u nS nV a v' cap' (n + q.2.length)) ∧ xAg2 w u nS nV)) 1 300 A := by
  obtain ⟨ml, f, g1, g2, g3, g4, g5⟩ := id h
  refine x_start rfl (Nat.le_of_ble_eq_true rfl) ?_
  intro p e s m below meth c hx hb hr hlk hml hown hts hnm hE hM hS ls hl
  have hF : xFix p m c cJ11_append 2 s _ RJ11 := ⟨hx, hb, hml, hown, hts⟩
  generalize hargs : List.toArray _ = args at hts hF ⊢
  generalize hQ : MQ below _ _ s _ _ A = Q
  refine lv_aload_n hx hb dJ11_append_0 rfl (lh_at hl rfl) ?_
  refine lv_aload_n hx hb dJ11_append_1 rfl (lh_at hl rfl) ?_
  refine x_callr (x_runSU (ci := 8) (As := [.ref (g.2 (100 + q.1))]) hF hE hS hM hl (jk_append10 l g A w nS nV nT a v cap n q hq h h2 hSV hTV hT) (by exact xw.recv hE hM g1 (q := (RJ11, TJ11, 4)) rfl) rfl q344 q1562 q338 q345 q51 q346 ⟨by decide +kernel, by show _ = some 1; decide +kernel⟩ rfl rfl ⟨Nat.le_of_ble_eq_true rfl, Nat.le_of_ble_eq_true rfl⟩ rfl (Nat.le_of_ble_eq_true rfl) dJ11_append_2 ⟨Nat.le_of_ble_eq_true rfl, Nat.le_of_ble_eq_true rfl⟩) hS (fun u ra H locs hq1 hM hS => ?_)
  obtain ⟨hq2, hM⟩ := hM
  refine lv_pop hx hb dJ11_append_5 rfl ?_
  refine lv_aload_n hx hb dJ11_append_6 rfl (lh_at hl rfl) ?_
  exact hQ ▸ x_aret hx hb hr (Or.inl ⟨_, rfl⟩) hlk hS _ trivial ⟨⟨rfl, hq2.2⟩, hM⟩ dJ11_append_7
