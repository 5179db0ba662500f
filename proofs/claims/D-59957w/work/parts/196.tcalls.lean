/-! calls of methods that may throw; product -/
set_option maxRecDepth 100000
section XTC
variable {p : Program} {l : Launch} {e : Env} {R : Room} {s : State} {m : MethodId} {args : Array Value} {below : List Frame} {meth : Method} {c : Code} {H : Heap} {locs : List Loc} {cells slots : Nat} {Q : State → Prop}
variable {cc bytes : ByteArray} {pc nL maxL n mc ms mc1 ms1 : Nat} {ls : Array Slot} {rest st0 As : List Value} {g : xg} {A : Nat → Prop} {P : Heap → Prop} {own C : String} {index : Nat} {y : MethodName} {ret : Option FieldType} {rm : Room} {b : Nat} {lf : Nat → Option Value} {w : xw_W}
variable {Qc Qc1 : Array Value → State → Outcome → State → Prop} {XC : String → State → State → Prop} {PX PX1 : Heap → Prop} {px px1 : String → Prop} {a : Array Value}
theorem xr_ldc (hexec : p.tables.exec = Jvm.exec) (hb : c.code = cc) (hown : s.vm.findClass RX1 = some m.cls) (hE : xE g A s) {i k : Nat} {tx : String} (hq : xLl[i]? = some (k, tx)) (hdg : decode cc pc = .ok (.ldc k, 2))
    (kk : W p l e R s m args below meth c H locs cells slots Q (F0 m (pc + 2) ls (.ref (g.2 (100 + k)) :: rest))) : W p l e R s m args below meth c H locs cells slots Q (F0 m pc ls rest) :=
  va_ldcS hexec hb (own := "Aislewright") (tx := tx) hown (hE.litR (List.mem_of_getElem? hq)) hdg kk
theorem xr_ldcw (hexec : p.tables.exec = Jvm.exec) (hb : c.code = cc) (hown : s.vm.findClass RX1 = some m.cls) (hE : xE g A s) {i k : Nat} {tx : String} (hq : xLl[i]? = some (k, tx)) (hdg : decode cc pc = .ok (.ldc_w k, 3))
    (kk : W p l e R s m args below meth c H locs cells slots Q (F0 m (pc + 3) ls (.ref (g.2 (100 + k)) :: rest))) : W p l e R s m args below meth c H locs cells slots Q (F0 m pc ls rest) := by
  intro T hT X
  obtain ⟨t, a1, b1⟩ := kk T hT X
  have hZ := hE.litR (List.mem_of_getElem? hq)
  exact ⟨t, X.ldcStringW hexec (own := "Aislewright") hown (text := tx) (a := g.2 (100 + k)) hZ.1 hZ.2 (g := F0 m pc ls rest) rfl (by rw [hb]; exact hdg) t a1, b1⟩
theorem x_runSX (hF : xFix p m c cc nL s args own) (hE : xE g A s) (hS : va_S A s.heap H locs) (hP : P H) (hls : lh ls nL lf) (hM : vx_Met l y (ws_ y bytes maxL ret) rm (xPc g A As P) Qc XC mc ms A)
    (h1 : Cond.methodLink own index y ∈ lw_all) (h2 : Cond.static y ∈ lw_all) (h4 : Cond.initialized y.cls ∈ lw_all) (h5 : Cond.code y bytes maxL ret ∈ lw_all) (hd : y.cls ≠ "java/lang/invoke/MethodHandle" ∧ y.cls ≠ "java/lang/invoke/VarHandle" ∧ (parseMethodDescriptor y.desc).map (fun d => d.parameters.length) = some As.length)
    (hrc : rm.cells = mc) (hrs : rm.slots = ms) (hR : rm.frames + 1 ≤ R.frames ∧ 8 + (maxL + 11) + rm.locals ≤ R.locals) (hst : st0 = As.reverse ++ rest) (hcat : (rest.map fun v => v.category).sum ≤ 8) (hdg : decode cc pc = .ok (.invokestatic index, 3)) (hf : cells + mc ≤ R.cells ∧ slots + ms ≤ R.slots) :
    vx_Run p l e R s m args below meth c H locs cells slots mc ms (F0 m pc ls st0) rest (Qc As.toArray) XC A :=
  vx_runS hF hM (va_cwS As.length hF.2.2.2.2 (lw_S h1 h2 h4 h5) rfl hrc hrs hd hR) (x_preS hE hS hP) rfl rfl (lh_size hls) hst (lv_room hcat) hdg hf
theorem x_runVX (hF : xFix p m c cc nL s args own) (hE : xE g A s) (hS : va_S A s.heap H locs) (hP : P H) (hls : lh ls nL lf) (hM : vx_Met l y (ws_ y bytes maxL ret) rm (xPc g A (.ref b :: As) P) Qc XC mc ms A) (hrv : xRv s H C b)
    (h1 : Cond.methodLink own index y ∈ lw_all) (h2 : Cond.instanceMethod y ∈ lw_all) (h3 : Cond.selects C y y ∈ lw_all) (h4 : Cond.initialized C ∈ lw_all) (h5 : Cond.code y bytes maxL ret ∈ lw_all) (hd : y.cls = C ∧ y.cls ≠ "java/lang/invoke/MethodHandle" ∧ y.cls ≠ "java/lang/invoke/VarHandle" ∧ (parseMethodDescriptor y.desc).map (fun d => d.parameters.length) = some As.length)
    (hrc : rm.cells = mc) (hrs : rm.slots = ms) (hR : rm.frames + 1 ≤ R.frames ∧ 8 + (maxL + 11) + rm.locals ≤ R.locals) (hst : st0 = As.reverse ++ .ref b :: rest) (hcat : (rest.map fun v => v.category).sum ≤ 8) (hdg : decode cc pc = .ok (.invokevirtual index, 3)) (hf : cells + mc ≤ R.cells ∧ slots + ms ≤ R.slots) :
    vx_Run p l e R s m args below meth c H locs cells slots mc ms (F0 m pc ls st0) rest (Qc (Value.ref b :: As).toArray) XC A :=
  vx_runV hF hM (cwV As.length hF.2.2.2.2 (lw_V h1 h2 h3 h4 h5) rfl hrc hrs hd hR) (x_preV hE hS hP hrv) rfl rfl (lh_size hls) hst (lv_room hcat) hdg hf
/-- what a callee threw goes on out -/
theorem x_out {E : String} {ce : Cell} {q9 : Addr} (hQ : vx_MQ below Qc (xQX A PX px) args s mc ms A = Q) (hxt : ∀ x ∈ c.exceptionTable.toList, False) (hlk : meth.locks = false) (hS : va_S A s.heap H locs) (hcell : H[q9]? = some ce) (hv : ce.vm = .none) (hcl : s.vm.findClass E = some ce.cls) (hp : px E ∧ PX H) (hc : cells ≤ mc) (hs : slots ≤ ms) :
    vx_W p l e R s m args below meth c H locs cells slots Q (F0 m pc ls rest) q9 := by
  subst hQ
  exact vx_out (E := E) (fun x hx => absurd (hxt x hx) id) hlk hcell hv hcl (fun t ht hv => ⟨(), trivial, ⟨hp.1, by rw [ht]; exact hp.2⟩, hS.F ht⟩) hS.2.2 hc hs
theorem x_tcalli {S : Type} {post : Int32 → S → Prop} {P1 : S → Heap → Prop} (hr : vx_Run p l e R s m args below meth c H locs cells slots mc1 ms1 (F0 m pc ls st0) rest (xQi post P1 A a) (xQX A PX1 px1) A) (hS : va_S A s.heap H locs) (hQ : vx_MQ below Qc (xQX A PX px) args s mc ms A = Q) (hxt : ∀ x ∈ c.exceptionTable.toList, False) (hlk : meth.locks = false) (hc : cells + mc1 ≤ mc) (hs : slots + ms1 ≤ ms)
    (kx : ∀ (E : String) (H1 : Heap), px1 E → PX1 H1 → px E ∧ PX H1)
    (kk : ∀ (r : Int32) (u : S) (H1 : Heap) (locs1 : List Loc), post r u → P1 u H1 → va_S A s.heap H1 locs1 → W p l e R s m args below meth c H1 locs1 (cells + mc1) (slots + ms1) Q (F0 m (pc + 3) ls (.int r :: rest))) : W p l e R s m args below meth c H locs cells slots Q (F0 m pc ls st0) :=
  vx_calli hr hS (fun _ _ h => h) (fun _ h => h) (fun _ _ h => h) (fun E ce q9 u t H1 locs1 ht _ _ hb _ _ hS1 hce hcv hcl => x_out hQ hxt hlk hS1 hce hcv hcl (kx E H1 hb.1 (by rw [← ht]; exact hb.2)) hc hs) (fun r u t H1 locs1 ht _ hp hB _ _ hS1 => kk r u H1 locs1 hp (by rw [← ht]; exact hB) hS1)
theorem x_tcallv {S : Type} {post : S → Prop} {P1 : S → Heap → Prop} (hr : vx_Run p l e R s m args below meth c H locs cells slots mc1 ms1 (F0 m pc ls st0) rest (xQv post P1 A a) (xQX A PX1 px1) A) (hS : va_S A s.heap H locs) (hQ : vx_MQ below Qc (xQX A PX px) args s mc ms A = Q) (hxt : ∀ x ∈ c.exceptionTable.toList, False) (hlk : meth.locks = false) (hc : cells + mc1 ≤ mc) (hs : slots + ms1 ≤ ms)
    (kx : ∀ (E : String) (H1 : Heap), px1 E → PX1 H1 → px E ∧ PX H1)
    (kk : ∀ (u : S) (H1 : Heap) (locs1 : List Loc), post u → P1 u H1 → va_S A s.heap H1 locs1 → W p l e R s m args below meth c H1 locs1 (cells + mc1) (slots + ms1) Q (F0 m (pc + 3) ls rest)) : W p l e R s m args below meth c H locs cells slots Q (F0 m pc ls st0) :=
  vx_callv hr hS (fun _ _ h => h) (fun _ h => h) (fun _ _ h => h) (fun E ce q9 u t H1 locs1 ht _ _ hb _ _ hS1 hce hcv hcl => x_out hQ hxt hlk hS1 hce hcv hcl (kx E H1 hb.1 (by rw [← ht]; exact hb.2)) hc hs) (fun u t H1 locs1 ht _ hp hB _ _ hS1 => kk u H1 locs1 hp (by rw [← ht]; exact hB) hS1)
theorem x_tcallr {S : Type} {post : S → Prop} {P1 : S → Nat → Heap → Prop} (hr : vx_Run p l e R s m args below meth c H locs cells slots mc1 ms1 (F0 m pc ls st0) rest (xQr post P1 A a) (xQX A PX1 px1) A) (hS : va_S A s.heap H locs) (hQ : vx_MQ below Qc (xQX A PX px) args s mc ms A = Q) (hxt : ∀ x ∈ c.exceptionTable.toList, False) (hlk : meth.locks = false) (hc : cells + mc1 ≤ mc) (hs : slots + ms1 ≤ ms)
    (kx : ∀ (E : String) (H1 : Heap), px1 E → PX1 H1 → px E ∧ PX H1)
    (kk : ∀ (u : S) (ra : Nat) (H1 : Heap) (locs1 : List Loc), post u → P1 u ra H1 → va_S A s.heap H1 locs1 → W p l e R s m args below meth c H1 locs1 (cells + mc1) (slots + ms1) Q (F0 m (pc + 3) ls (.ref ra :: rest))) : W p l e R s m args below meth c H locs cells slots Q (F0 m pc ls st0) := by
  intro T hT X
  rcases hr T hT X with ⟨v, st₀, t, T', L, h0, X', hL, e1, e2, ⟨⟨u, ra, hv, hp, hb⟩, hF⟩, st⟩ | ⟨q, st₀, t, T', L, E, ce, h0, X', hL, e1, e2, ⟨u, hp, hb, hF⟩, hce, hcv, hcl, st⟩
  · cases hv
    obtain ⟨k1, k2, k3⟩ := vx_keep h0 e1 hS (fun _ _ h => h) (fun _ h => h) hL hF
    obtain ⟨t2, a1, b1⟩ := kk u ra T'.heap (locs ++ L) hp (by rw [e1]; exact hb) k3 T' rfl X'
    exact ⟨t2, st t2 a1, b1⟩
  · obtain ⟨k1, k2, k3⟩ := vx_keep h0 e1 hS (fun _ _ h => h) (fun _ h => h) hL hF
    obtain ⟨t2, a1, b1⟩ := x_out hQ hxt hlk k3 (by rw [e1]; exact hce) hcv hcl (kx E _ hb.1 (by rw [e1]; exact hb.2)) hc hs T' rfl X'
    exact ⟨t2, st.trans a1, b1⟩
end XTC
theorem xk_product (l : Launch) (hlt : l.stackTraces = false) (g : xg) (A : Nat → Prop) (w : xw_W) (k : Int32) :
    vx_Met l yX1_product (ws_ yX1_product cX1_product 1 (some .int)) (xrm 7 9 1530) (xPw g A w [.int k]) (zQi A (xw g A w) (fun r => ∃ i, xr k 20 = some i ∧ r = nI i)) (xQX A (xw g A w) (fun E => E = eIB ∧ xr k 20 = none)) 9 1530 A := by
  refine x_startX rfl (Nat.le_of_ble_eq_true rfl) ?_
  intro p e s m below meth c hx hb hr hlk hml hxt hown hts hnm hE hM hS ls hl
  have hF : xFix p m c cX1_product 1 s _ RX1 := ⟨hx, hb, hml, hown, hts⟩
  generalize hargs : List.toArray _ = args at hts hF ⊢
  generalize hQ : vx_MQ below _ _ _ s _ _ A = Q
  refine lv_iload_n hx hb dX1_product_0 rfl (lh_at hl rfl) ?_
  refine n_bipush hx hb 20 dX1_product_1 (by decide +kernel) ?_
  refine xr_ldc hx hb hown hE (i := 0) (k := 105) rfl dX1_product_3 ?_
  refine x_tcalli (x_runSX (As := [.int k, .int (nI 20), .ref (g.2 (100 + 105))]) hF hE hS hM hl (xk_within l hlt g A w k 20 (105, "product") (List.mem_of_getElem? (i := 0) rfl) (by decide)) q296 q297 q38 q298 ⟨by decide +kernel, by decide +kernel, by show _ = some 3; decide +kernel⟩ rfl rfl ⟨Nat.le_of_ble_eq_true rfl, Nat.le_of_ble_eq_true rfl⟩ rfl (Nat.le_of_ble_eq_true rfl) dX1_product_5 ⟨Nat.le_of_ble_eq_true rfl, Nat.le_of_ble_eq_true rfl⟩) hS hQ hxt hlk (Nat.le_of_ble_eq_true rfl) (Nat.le_of_ble_eq_true rfl) (fun E9 H9 hE9 hP9 => ?_) (fun r uu H locs hq hM hS => ?_)
  · exact ⟨hE9, hP9⟩
  · exact hQ ▸ vx_ret (x_iret hx hb hr hlk hS () hq hM dX1_product_8)
