/-! THE LAW: the two sides beside each other, and calls that move one of them -/
set_option maxRecDepth 100000
/-- the system's world, the reference's world and the cell of one long, apart from each other and new -/
def LV (g : xg) (N m0 o : Nat) (PX : xw_W → Prop) (PM : mS → Prop) (z : Int64) (H : Heap) : Prop :=
  ∃ (A1 A2 : Nat → Prop) (w : xw_W) (ad : Nat → Nat) (μ : mS), PX w ∧ PM μ ∧ xw g A1 w H ∧ mW g A2 m0 ad μ H ∧ yO g o z H ∧ (∀ q, A1 q → N ≤ q ∧ q < H.size ∧ ¬ A2 q ∧ q ≠ o) ∧ (∀ q, A2 q → N ≤ q ∧ q < H.size ∧ q ≠ o) ∧ N ≤ o
theorem LV.mono {g : xg} {N m0 o : Nat} {PX PX' : xw_W → Prop} {PM PM' : mS → Prop} {z : Int64} {H : Heap} (h : LV g N m0 o PX PM z H) (hX : ∀ w, PX w → PX' w) (hM : ∀ μ, PM μ → PM' μ) : LV g N m0 o PX' PM' z H := by
  obtain ⟨A1, A2, w, ad, μ, h1, h2, h3⟩ := h
  exact ⟨A1, A2, w, ad, μ, hX _ h1, hM _ h2, h3⟩
theorem LV.get {g : xg} {N m0 o : Nat} {PX : xw_W → Prop} {PM : mS → Prop} {z : Int64} {H : Heap} (h : LV g N m0 o PX PM z H) : (∃ w, PX w) ∧ (∃ μ, PM μ) ∧ yO g o z H := by
  obtain ⟨A1, A2, w, ad, μ, h1, h2, -, -, h5, -⟩ := h
  exact ⟨⟨w, h1⟩, ⟨μ, h2⟩, h5⟩
theorem lh_put2 {nL : Nat} {lf : Nat → Option Value} {i : Nat} {v : Value} {lv : List (Nat × Value)} (h2 : ∀ i v, lf i = some v → (i, v) ∈ lv) {ls' : Array Slot}
    (h : lv_has ls' nL ((i, v) :: lv.filter (fun q => !(q.1 == i) && (!(q.1 == i + 1) && !(q.1 + 1 == i && q.2.category == 2))))) : lh ls' nL (fun j => if j = i + 1 then none else xl_put lf i v j) := by
  refine ⟨_, h, fun j u e => ?_⟩
  dsimp only at e
  by_cases hj2 : j = i + 1
  · rw [if_pos hj2] at e
    cases e
  · rw [if_neg hj2] at e
    unfold xl_put at e
    by_cases hj : j = i
    · rw [if_pos hj] at e
      cases e
      rw [hj]
      exact List.mem_cons_self
    · rw [if_neg hj] at e
      refine List.mem_cons_of_mem _ (List.mem_filter.mpr ?_)
      by_cases hj1 : j + 1 = i
      · rw [if_pos hj1] at e
        cases hlf : lf j with
        | none => rw [hlf] at e; cases e
        | some u0 =>
          rw [hlf] at e
          by_cases hc : u0.category = 2
          · simp [hc] at e
          · simp only [hc, if_false, Option.some.injEq] at e
            subst e
            refine ⟨h2 _ _ hlf, ?_⟩
            simp [hj, hj2, hc]
      · rw [if_neg hj1] at e
        refine ⟨h2 _ _ e, ?_⟩
        simp [hj, hj1, hj2]
section YL
variable {p : Program} {l : Launch} {e : Env} {R : Room} {s : State} {m : MethodId} {args : Array Value} {below : List Frame} {meth : Method} {c : Code} {H : Heap} {locs : List Loc} {cells slots : Nat} {Q : State → Prop}
variable {cc bytes : ByteArray} {pc nL maxL n mc ms : Nat} {ls : Array Slot} {rest st0 As : List Value} {g : xg} {own C : String} {index : Nat} {y : MethodName} {ret : Option FieldType} {rm : Room} {x0 m0 o : Nat} {lf : Nat → Option Value} {w : xw_W} {hh : List (Nat × Nat × Nat × Nat)} {PX : xw_W → Prop} {PM : mS → Prop} {z : Int64} {ν : nS}
theorem x_dstore (hexec : p.tables.exec = Jvm.exec) (hb : c.code = cc) {i : Nat} {x : UInt64} (hdg : decode cc pc = .ok (.dstore i, 2)) (h : lh ls nL lf) (hn : i + 1 < nL)
    (kk : ∀ ls' : Array Slot, lh ls' nL (fun j => if j = i + 1 then none else xl_put lf i (.double x) j) → W p l e R s m args below meth c H locs cells slots Q (F0 m (pc + 2) ls' rest)) : W p l e R s m args below meth c H locs cells slots Q (F0 m pc ls (.double x :: rest)) := by
  obtain ⟨lv, h1, h2⟩ := h
  exact lv_dstore hexec hb hdg h1 hn rfl (fun ls' h' => kk ls' (lh_put2 h2 h'))
/-- the script is read -/
theorem l_iald {bb L i : Nat} {xs : Nat → Int32} (hF : xFix p m c cc nL s args own) (hX : va_X bb L xs s s.heap) (hbl : bb < s.heap.size) (hS : va_S (x3 s.heap.size) s.heap H locs) (hi : i < L) (hL : L ≤ 259) (hdg : decode cc pc = .ok (.iaload, 1))
    (kk : W p l e R s m args below meth c H locs cells slots Q (F0 m (pc + 1) ls (.int (xs i) :: rest))) : W p l e R s m args below meth c H locs cells slots Q (F0 m pc ls (.int (nI i) :: .ref bb :: rest)) := by
  refine va_sld hF.1 hF.2.1 hX hbl (Nat.not_le.mpr hbl) hS (vp_in_nI hi (by omega)) hdg ?_
  rw [nI_clamp (by omega)]
  exact kk
theorem l_len {bb L : Nat} {xs : Nat → Int32} (hF : xFix p m c cc nL s args own) (hX : va_X bb L xs s s.heap) (hbl : bb < s.heap.size) (hS : va_S (x3 s.heap.size) s.heap H locs) (hdg : decode cc pc = .ok (.arraylength, 1))
    (kk : W p l e R s m args below meth c H locs cells slots Q (F0 m (pc + 1) ls (.int (nI L) :: rest))) : W p l e R s m args below meth c H locs cells slots Q (F0 m pc ls (.ref bb :: rest)) :=
  va_slen hF.1 hF.2.1 hX hbl (Nat.not_le.mpr hbl) hS hdg kk
theorem l_lald (hF : xFix p m c cc nL s args own) (hE : xE g (x3 s.heap.size) s) (hV : LV g s.heap.size m0 o PX PM z H) (hdg : decode cc pc = .ok (.laload, 1))
    (kk : W p l e R s m args below meth c H locs cells slots Q (F0 m (pc + 1) ls (.long z :: rest))) : W p l e R s m args below meth c H locs cells slots Q (F0 m pc ls (.int (nI 0) :: .ref o :: rest)) :=
  y_lald hF.1 hF.2.1 hE hV.get.2.2 hdg kk
/-- a wrapper over the system -/
theorem l_x {t : opT} (hF : xFix p m c cc nL s args own) (hE : xE g (x3 s.heap.size) s) (hNc : xNc s) (hS : va_S (x3 s.heap.size) s.heap H locs) (hV : LV g s.heap.size m0 o (xI g ν x0) PM z H) (hls : lh ls nL lf)
    (hM : ∀ (B : Nat → Prop) (w : xw_W), xI g ν x0 w → ¬ B o → vx_Met l y (wsW_ y bytes maxL ret hh) rm (yPc g (yA B o) As (fun H => xw g B w H ∧ yO g o z H)) (yQ g B x0 o t) (yX B o) mc ms (yA B o))
    (h1 : Cond.methodLink own index y ∈ lw_all) (h2 : Cond.static y ∈ lw_all) (h4 : Cond.initialized y.cls ∈ lw_all) (h5 : Cond.codeWith y bytes maxL ret hh ∈ lw_all) (hd : y.cls ≠ "java/lang/invoke/MethodHandle" ∧ y.cls ≠ "java/lang/invoke/VarHandle" ∧ (parseMethodDescriptor y.desc).map (fun d => d.parameters.length) = some As.length)
    (hrc : rm.cells = mc) (hrs : rm.slots = ms) (hR : rm.frames + 1 ≤ R.frames ∧ 8 + (maxL + 11) + rm.locals ≤ R.locals) (hst : st0 = As.reverse ++ rest) (hcat : (rest.map fun v => v.category).sum ≤ 8) (hdg : decode cc pc = .ok (.invokestatic index, 3)) (hf : cells + mc ≤ R.cells ∧ slots + ms ≤ R.slots)
    (kk : ∀ (z1 : Int64) (H1 : Heap) (locs1 : List Loc), (t.1 = 0 → z1 = t.2.1.toInt64) → LV g s.heap.size m0 o (fun w => vOk t.2.2 → xI g t.2.2 x0 w) PM z1 H1 → va_S (x3 s.heap.size) s.heap H1 locs1 → W p l e R s m args below meth c H1 locs1 (cells + mc) (slots + ms) Q (F0 m (pc + 3) ls (.int (nI t.1) :: rest))) :
    W p l e R s m args below meth c H locs cells slots Q (F0 m pc ls st0) := by
  obtain ⟨A1, A2, w, ad, μ, hX, hm, hM1, hM2, hO, d1, d2, d3⟩ := hV
  have hoH := hO.lt
  have hoB : ¬ (fun q : Nat => A1 q ∨ H.size ≤ q) o := fun h => by
    rcases h with h | h
    · exact (d1 o h).2.2.2 rfl
    · omega
  have hNH : s.heap.size ≤ H.size := hS.1
  have hBA : ∀ q, yA (fun q : Nat => A1 q ∨ H.size ≤ q) o q → x3 s.heap.size q := fun q h => by
    rcases h with (h | h) | h
    · exact (d1 q h).1
    · exact Nat.le_trans hNH h
    · exact h ▸ d3
  refine vx_calli (y_runSH (As := As) hF hE hNc hS hBA (fun q h => Or.inl (Or.inr h)) (P := fun H1 => xw g (fun q : Nat => A1 q ∨ H.size ≤ q) w H1 ∧ yO g o z H1) ⟨hM1.sub (fun q h => Or.inl h), hO⟩ hls (hM _ w hX hoB) h1 h2 h4 h5 hd hrc hrs hR hst hcat hdg hf) hS (fun q _ h => hBA q h) (fun q h => hBA q h) (fun q _ h => hBA q h)
    (fun E ce q9 u t1 H1 locs1 _ _ hu => absurd hu id) (fun r u t1 H1 locs1 ht _ hp hB hz hk hS1 => ?_)
  obtain ⟨hr, hz1, hx1⟩ := hp
  rw [ht] at hB
  rw [hr]
  refine kk u.2 H1 locs1 hz1 ⟨fun q => (A1 q ∨ H.size ≤ q) ∧ q < H1.size, A2, u.1, ad, μ, hx1, hm, hB.1.cut, hM2.stays (fun q h1 h2 => hk q h1 (fun h => ?_)), hB.2, fun q h => ?_, fun q h => ⟨(d2 q h).1, Nat.lt_of_lt_of_le (d2 q h).2.1 hz, (d2 q h).2.2⟩, d3⟩ hS1
  · rcases h with (h | h) | h
    · exact (d1 q h).2.2.1 h2
    · omega
    · exact (d2 q h2).2.2 h
  · obtain ⟨h | h, h3⟩ := h
    · exact ⟨(d1 q h).1, h3, (d1 q h).2.2⟩
    · exact ⟨Nat.le_trans hNH h, h3, fun h4 => absurd (d2 q h4).2.1 (Nat.not_lt.mpr h), fun h4 => by omega⟩
/-- a count of the system's, the heap as it is -/
theorem l_xi {post : Int32 → Prop} (hF : xFix p m c cc nL s args own) (hE : xE g (x3 s.heap.size) s) (hS : va_S (x3 s.heap.size) s.heap H locs) (hV : LV g s.heap.size m0 o (xI g ν x0) PM z H) (hls : lh ls nL lf)
    (hM : ∀ (B : Nat → Prop) (w : xw_W), xI g ν x0 w → Met l y (ws_ y bytes maxL ret) rm (xPw g B w (.ref x0 :: As)) (zQi B (xw g B w) post) mc ms B)
    (h1 : Cond.methodLink own index y ∈ lw_all) (h2 : Cond.instanceMethod y ∈ lw_all) (h3 : Cond.selects RX1 y y ∈ lw_all) (h4 : Cond.initialized RX1 ∈ lw_all) (h5 : Cond.code y bytes maxL ret ∈ lw_all) (hd : y.cls = RX1 ∧ y.cls ≠ "java/lang/invoke/MethodHandle" ∧ y.cls ≠ "java/lang/invoke/VarHandle" ∧ (parseMethodDescriptor y.desc).map (fun d => d.parameters.length) = some As.length)
    (hrc : rm.cells = mc) (hrs : rm.slots = ms) (hR : rm.frames + 1 ≤ R.frames ∧ 8 + (maxL + 11) + rm.locals ≤ R.locals) (hst : st0 = As.reverse ++ .ref x0 :: rest) (hcat : (rest.map fun v => v.category).sum ≤ 8) (hdg : decode cc pc = .ok (.invokevirtual index, 3)) (hf : cells + mc ≤ R.cells ∧ slots + ms ≤ R.slots)
    (kk : ∀ (r : Int32) (H1 : Heap) (locs1 : List Loc), post r → LV g s.heap.size m0 o (xI g ν x0) PM z H1 → va_S (x3 s.heap.size) s.heap H1 locs1 → W p l e R s m args below meth c H1 locs1 (cells + mc) (slots + ms) Q (F0 m (pc + 3) ls (.int r :: rest))) :
    W p l e R s m args below meth c H locs cells slots Q (F0 m pc ls st0) := by
  obtain ⟨A1, A2, w, ad, μ, hX, hm, hM1, hM2, hO, d1, d2, d3⟩ := hV
  have hNH : s.heap.size ≤ H.size := hS.1
  have hoH := hO.lt
  have hBA : ∀ q, (fun q : Nat => A1 q ∨ H.size ≤ q) q → x3 s.heap.size q := fun q h => by
    rcases h with h | h
    · exact (d1 q h).1
    · exact Nat.le_trans hNH h
  obtain ⟨fs0, h00⟩ := hX.obj
  refine va_calli (y_runV (As := As) hF hE hS hBA (fun q h => Or.inr h) (P := xw g (fun q : Nat => A1 q ∨ H.size ≤ q) w) (hM1.sub (fun q h => Or.inl h)) hls (hM _ w hX) (xw.recv3 hE hM1 h00 rfl) h1 h2 h3 h4 h5 hd hrc hrs hR hst hcat hdg hf) hS (fun q _ h => hBA q h) (fun q h => hBA q h)
    (fun r u t1 H1 locs1 ht _ hp hB hz hk hS1 => ?_)
  rw [ht] at hB
  refine kk r H1 locs1 hp ⟨fun q => (A1 q ∨ H.size ≤ q) ∧ q < H1.size, A2, w, ad, μ, hX, hm, hB.cut, hM2.stays (fun q h1 h2 => hk q h1 (fun h => ?_)), hO.stays (hk o hoH (fun h => ?_)), fun q h => ?_, fun q h => ⟨(d2 q h).1, Nat.lt_of_lt_of_le (d2 q h).2.1 hz, (d2 q h).2.2⟩, d3⟩ hS1
  · rcases h with h | h
    · exact (d1 q h).2.2.1 h2
    · omega
  · rcases h with h | h
    · exact (d1 o h).2.2.2 rfl
    · omega
  · obtain ⟨h | h, h3⟩ := h
    · exact ⟨(d1 q h).1, h3, (d1 q h).2.2⟩
    · exact ⟨Nat.le_trans hNH h, h3, fun h4 => absurd (d2 q h4).2.1 (Nat.not_lt.mpr h), fun h4 => by omega⟩
theorem l_xd {post : UInt64 → Prop} (hF : xFix p m c cc nL s args own) (hE : xE g (x3 s.heap.size) s) (hS : va_S (x3 s.heap.size) s.heap H locs) (hV : LV g s.heap.size m0 o (xI g ν x0) PM z H) (hls : lh ls nL lf)
    (hM : ∀ (B : Nat → Prop) (w : xw_W), xI g ν x0 w → Met l y (ws_ y bytes maxL ret) rm (xPw g B w (.ref x0 :: As)) (xQd (S := Unit) (fun r _ => post r) (fun _ => xw g B w) B) mc ms B)
    (h1 : Cond.methodLink own index y ∈ lw_all) (h2 : Cond.instanceMethod y ∈ lw_all) (h3 : Cond.selects RX1 y y ∈ lw_all) (h4 : Cond.initialized RX1 ∈ lw_all) (h5 : Cond.code y bytes maxL ret ∈ lw_all) (hd : y.cls = RX1 ∧ y.cls ≠ "java/lang/invoke/MethodHandle" ∧ y.cls ≠ "java/lang/invoke/VarHandle" ∧ (parseMethodDescriptor y.desc).map (fun d => d.parameters.length) = some As.length)
    (hrc : rm.cells = mc) (hrs : rm.slots = ms) (hR : rm.frames + 1 ≤ R.frames ∧ 8 + (maxL + 11) + rm.locals ≤ R.locals) (hst : st0 = As.reverse ++ .ref x0 :: rest) (hcat : (rest.map fun v => v.category).sum ≤ 8) (hdg : decode cc pc = .ok (.invokevirtual index, 3)) (hf : cells + mc ≤ R.cells ∧ slots + ms ≤ R.slots)
    (kk : ∀ (r : UInt64) (H1 : Heap) (locs1 : List Loc), post r → LV g s.heap.size m0 o (xI g ν x0) PM z H1 → va_S (x3 s.heap.size) s.heap H1 locs1 → W p l e R s m args below meth c H1 locs1 (cells + mc) (slots + ms) Q (F0 m (pc + 3) ls (.double r :: rest))) :
    W p l e R s m args below meth c H locs cells slots Q (F0 m pc ls st0) := by
  obtain ⟨A1, A2, w, ad, μ, hX, hm, hM1, hM2, hO, d1, d2, d3⟩ := hV
  have hNH : s.heap.size ≤ H.size := hS.1
  have hoH := hO.lt
  have hBA : ∀ q, (fun q : Nat => A1 q ∨ H.size ≤ q) q → x3 s.heap.size q := fun q h => by
    rcases h with h | h
    · exact (d1 q h).1
    · exact Nat.le_trans hNH h
  obtain ⟨fs0, h00⟩ := hX.obj
  refine va_calld (y_runV (As := As) hF hE hS hBA (fun q h => Or.inr h) (P := xw g (fun q : Nat => A1 q ∨ H.size ≤ q) w) (hM1.sub (fun q h => Or.inl h)) hls (hM _ w hX) (xw.recv3 hE hM1 h00 rfl) h1 h2 h3 h4 h5 hd hrc hrs hR hst hcat hdg hf) hS (fun q _ h => hBA q h) (fun q h => hBA q h)
    (fun r u t1 H1 locs1 ht _ hp hB hz hk hS1 => ?_)
  rw [ht] at hB
  refine kk r H1 locs1 hp ⟨fun q => (A1 q ∨ H.size ≤ q) ∧ q < H1.size, A2, w, ad, μ, hX, hm, hB.cut, hM2.stays (fun q h1 h2 => hk q h1 (fun h => ?_)), hO.stays (hk o hoH (fun h => ?_)), fun q h => ?_, fun q h => ⟨(d2 q h).1, Nat.lt_of_lt_of_le (d2 q h).2.1 hz, (d2 q h).2.2⟩, d3⟩ hS1
  · rcases h with h | h
    · exact (d1 q h).2.2.1 h2
    · omega
  · rcases h with h | h
    · exact (d1 o h).2.2.2 rfl
    · omega
  · obtain ⟨h | h, h3⟩ := h
    · exact ⟨(d1 q h).1, h3, (d1 q h).2.2⟩
    · exact ⟨Nat.le_trans hNH h, h3, fun h4 => absurd (d2 q h4).2.1 (Nat.not_lt.mpr h), fun h4 => by omega⟩
/-- a method of the reference -/
theorem l_m {post : mS → Int32 → mS → Prop} (hF : xFix p m c cc nL s args own) (hE : xE g (x3 s.heap.size) s) (hS : va_S (x3 s.heap.size) s.heap H locs) (hV : LV g s.heap.size m0 o PX PM z H) (hls : lh ls nL lf)
    (hM : ∀ (A : Nat → Prop) (ad : Nat → Nat) (μ : mS), PM μ → Met l y (ws_ y bytes maxL ret) rm (mPc g A m0 ad μ As) (mQi g A m0 ad (post μ)) mc ms A)
    (h1 : Cond.methodLink own index y ∈ lw_all) (h2 : Cond.instanceMethod y ∈ lw_all) (h3 : Cond.selects RX3 y y ∈ lw_all) (h4 : Cond.initialized RX3 ∈ lw_all) (h5 : Cond.code y bytes maxL ret ∈ lw_all) (hd : y.cls = RX3 ∧ y.cls ≠ "java/lang/invoke/MethodHandle" ∧ y.cls ≠ "java/lang/invoke/VarHandle" ∧ (parseMethodDescriptor y.desc).map (fun d => d.parameters.length) = some As.length)
    (hrc : rm.cells = mc) (hrs : rm.slots = ms) (hR : rm.frames + 1 ≤ R.frames ∧ 8 + (maxL + 11) + rm.locals ≤ R.locals) (hst : st0 = As.reverse ++ .ref m0 :: rest) (hcat : (rest.map fun v => v.category).sum ≤ 8) (hdg : decode cc pc = .ok (.invokevirtual index, 3)) (hf : cells + mc ≤ R.cells ∧ slots + ms ≤ R.slots)
    (kk : ∀ (r : Int32) (H1 : Heap) (locs1 : List Loc), LV g s.heap.size m0 o PX (fun u => ∃ μ, PM μ ∧ post μ r u) z H1 → va_S (x3 s.heap.size) s.heap H1 locs1 → W p l e R s m args below meth c H1 locs1 (cells + mc) (slots + ms) Q (F0 m (pc + 3) ls (.int r :: rest))) :
    W p l e R s m args below meth c H locs cells slots Q (F0 m pc ls st0) := by
  obtain ⟨A1, A2, w, ad, μ, hX, hm, hM1, hM2, hO, d1, d2, d3⟩ := hV
  have hNH : s.heap.size ≤ H.size := hS.1
  have hoH := hO.lt
  have hBA : ∀ q, (fun q : Nat => A2 q ∨ H.size ≤ q) q → x3 s.heap.size q := fun q h => by
    rcases h with h | h
    · exact (d2 q h).1
    · exact Nat.le_trans hNH h
  refine va_calli (y_runV (As := As) hF hE hS hBA (fun q h => Or.inr h) (P := mW g (fun q : Nat => A2 q ∨ H.size ≤ q) m0 ad μ) (hM2.sub (fun q h => Or.inl h)) hls (hM _ ad μ hm) (xw.recv3 hE hM2 mw_obj rfl) h1 h2 h3 h4 h5 hd hrc hrs hR hst hcat hdg hf) hS (fun q _ h => hBA q h) (fun q h => hBA q h)
    (fun r u t1 H1 locs1 ht _ hp hB hz hk hS1 => ?_)
  rw [ht] at hB
  refine kk r H1 locs1 ⟨A1, fun q => (A2 q ∨ H.size ≤ q) ∧ q < H1.size, w, ad, u, hX, ⟨μ, hm, hp⟩, hM1.stays (fun q h1 h2 => hk q h1 (fun h => ?_)), hB.cut, hO.stays (hk o hoH (fun h => ?_)), fun q h => ⟨(d1 q h).1, Nat.lt_of_lt_of_le (d1 q h).2.1 hz, fun h2 => ?_, (d1 q h).2.2.2⟩, fun q h => ?_, d3⟩ hS1
  · rcases h with h | h
    · exact (d1 q h2).2.2.1 h
    · omega
  · rcases h with h | h
    · exact (d2 o h).2.2 rfl
    · omega
  · rcases h2.1 with h3 | h3
    · exact (d1 q h).2.2.1 h3
    · exact absurd (d1 q h).2.1 (Nat.not_lt.mpr h3)
  · obtain ⟨h | h, h3⟩ := h
    · exact ⟨(d2 q h).1, h3, (d2 q h).2.2⟩
    · exact ⟨Nat.le_trans hNH h, h3, fun h4 => by omega⟩
theorem l_md {post : mS → UInt64 → mS → Prop} (hF : xFix p m c cc nL s args own) (hE : xE g (x3 s.heap.size) s) (hS : va_S (x3 s.heap.size) s.heap H locs) (hV : LV g s.heap.size m0 o PX PM z H) (hls : lh ls nL lf)
    (hM : ∀ (A : Nat → Prop) (ad : Nat → Nat) (μ : mS), PM μ → Met l y (ws_ y bytes maxL ret) rm (mPc g A m0 ad μ As) (xQd (post μ) (fun u => mW g A m0 ad u) A) mc ms A)
    (h1 : Cond.methodLink own index y ∈ lw_all) (h2 : Cond.instanceMethod y ∈ lw_all) (h3 : Cond.selects RX3 y y ∈ lw_all) (h4 : Cond.initialized RX3 ∈ lw_all) (h5 : Cond.code y bytes maxL ret ∈ lw_all) (hd : y.cls = RX3 ∧ y.cls ≠ "java/lang/invoke/MethodHandle" ∧ y.cls ≠ "java/lang/invoke/VarHandle" ∧ (parseMethodDescriptor y.desc).map (fun d => d.parameters.length) = some As.length)
    (hrc : rm.cells = mc) (hrs : rm.slots = ms) (hR : rm.frames + 1 ≤ R.frames ∧ 8 + (maxL + 11) + rm.locals ≤ R.locals) (hst : st0 = As.reverse ++ .ref m0 :: rest) (hcat : (rest.map fun v => v.category).sum ≤ 8) (hdg : decode cc pc = .ok (.invokevirtual index, 3)) (hf : cells + mc ≤ R.cells ∧ slots + ms ≤ R.slots)
    (kk : ∀ (r : UInt64) (H1 : Heap) (locs1 : List Loc), LV g s.heap.size m0 o PX (fun u => ∃ μ, PM μ ∧ post μ r u) z H1 → va_S (x3 s.heap.size) s.heap H1 locs1 → W p l e R s m args below meth c H1 locs1 (cells + mc) (slots + ms) Q (F0 m (pc + 3) ls (.double r :: rest))) :
    W p l e R s m args below meth c H locs cells slots Q (F0 m pc ls st0) := by
  obtain ⟨A1, A2, w, ad, μ, hX, hm, hM1, hM2, hO, d1, d2, d3⟩ := hV
  have hNH : s.heap.size ≤ H.size := hS.1
  have hoH := hO.lt
  have hBA : ∀ q, (fun q : Nat => A2 q ∨ H.size ≤ q) q → x3 s.heap.size q := fun q h => by
    rcases h with h | h
    · exact (d2 q h).1
    · exact Nat.le_trans hNH h
  refine va_calld (y_runV (As := As) hF hE hS hBA (fun q h => Or.inr h) (P := mW g (fun q : Nat => A2 q ∨ H.size ≤ q) m0 ad μ) (hM2.sub (fun q h => Or.inl h)) hls (hM _ ad μ hm) (xw.recv3 hE hM2 mw_obj rfl) h1 h2 h3 h4 h5 hd hrc hrs hR hst hcat hdg hf) hS (fun q _ h => hBA q h) (fun q h => hBA q h)
    (fun r u t1 H1 locs1 ht _ hp hB hz hk hS1 => ?_)
  rw [ht] at hB
  refine kk r H1 locs1 ⟨A1, fun q => (A2 q ∨ H.size ≤ q) ∧ q < H1.size, w, ad, u, hX, ⟨μ, hm, hp⟩, hM1.stays (fun q h1 h2 => hk q h1 (fun h => ?_)), hB.cut, hO.stays (hk o hoH (fun h => ?_)), fun q h => ⟨(d1 q h).1, Nat.lt_of_lt_of_le (d1 q h).2.1 hz, fun h2 => ?_, (d1 q h).2.2.2⟩, fun q h => ?_, d3⟩ hS1
  · rcases h with h | h
    · exact (d1 q h2).2.2.1 h
    · omega
  · rcases h with h | h
    · exact (d2 o h).2.2 rfl
    · omega
  · rcases h2.1 with h3 | h3
    · exact (d1 q h).2.2.1 h3
    · exact absurd (d1 q h).2.1 (Nat.not_lt.mpr h3)
  · obtain ⟨h | h, h3⟩ := h
    · exact ⟨(d2 q h).1, h3, (d2 q h).2.2⟩
    · exact ⟨Nat.le_trans hNH h, h3, fun h4 => by omega⟩
end YL
