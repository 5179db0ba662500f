/-! ArrayList grows and takes -/
set_option maxRecDepth 100000
section XN
variable {p : Program} {l : Launch} {e : Env} {R : Room} {s : State} {m : MethodId} {args : Array Value} {below : List Frame} {meth : Method} {c : Code} {H : Heap} {locs : List Loc} {cells slots : Nat} {Q : State → Prop}
variable {cc : ByteArray} {pc nL : Nat} {ls : Array Slot} {rest : List Value} {own : String} {index : Nat} {lf : Nat → Option Value} {g : xg} {A : Nat → Prop} {w : xw_W} {a : Nat}
theorem v_max (hexec : p.tables.exec = Jvm.exec) (hb : c.code = cc) (hml : c.maxLocals = nL) (hls : lh ls nL lf) (hown : s.vm.findClass own = some m.cls) (hlink : (Cond.methodLink own index Lib.Math.max.name).before args s = true) (hstat : (Cond.static Lib.Math.max.name).before args s = true) (hini : (Cond.initialized "java/lang/Math").before args s = true) (hcode : (Cond.code Lib.Math.max.name Lib.Math.max.code 2 (some .int)).before args s = true)
    (hframes : 1 ≤ R.frames) (hlocals : (rest.map fun v => v.category).sum + 13 ≤ R.locals) (hc : cells ≤ R.cells) (hs : slots ≤ R.slots) {x y : Int32} (hdg : decode cc pc = .ok (.invokestatic index, 3))
    (kk : W p l e R s m args below meth c H locs cells slots Q (F0 m (pc + 3) ls (.int (if x < y then y else x) :: rest))) : W p l e R s m args below meth c H locs cells slots Q (F0 m pc ls (.int y :: .int x :: rest)) :=
  va_mmax hexec hb (by rw [hml]; exact (lh_size hls).symm) hown hlink hstat hini hcode hframes hlocals hc hs hdg kk
theorem v_min (hexec : p.tables.exec = Jvm.exec) (hb : c.code = cc) (hml : c.maxLocals = nL) (hls : lh ls nL lf) (hown : s.vm.findClass own = some m.cls) (hlink : (Cond.methodLink own index Lib.Math.min.name).before args s = true) (hstat : (Cond.static Lib.Math.min.name).before args s = true) (hini : (Cond.initialized "java/lang/Math").before args s = true) (hcode : (Cond.code Lib.Math.min.name Lib.Math.min.code 2 (some .int)).before args s = true)
    (hframes : 1 ≤ R.frames) (hlocals : (rest.map fun v => v.category).sum + 13 ≤ R.locals) (hc : cells ≤ R.cells) (hs : slots ≤ R.slots) {x y : Int32} (hdg : decode cc pc = .ok (.invokestatic index, 3))
    (kk : W p l e R s m args below meth c H locs cells slots Q (F0 m (pc + 3) ls (.int (if y < x then y else x) :: rest))) : W p l e R s m args below meth c H locs cells slots Q (F0 m pc ls (.int y :: .int x :: rest)) :=
  va_mmin hexec hb (by rw [hml]; exact (lh_size hls).symm) hown hlink hstat hini hcode hframes hlocals hc hs hdg kk
theorem v_abs (hexec : p.tables.exec = Jvm.exec) (hb : c.code = cc) (hml : c.maxLocals = nL) (hls : lh ls nL lf) (hown : s.vm.findClass own = some m.cls) (hlink : (Cond.methodLink own index Lib.Math.abs.name).before args s = true) (hstat : (Cond.static Lib.Math.abs.name).before args s = true) (hini : (Cond.initialized "java/lang/Math").before args s = true) (hcode : (Cond.code Lib.Math.abs.name Lib.Math.abs.code 1 (some .int)).before args s = true)
    (hframes : 1 ≤ R.frames) (hlocals : (rest.map fun v => v.category).sum + 13 ≤ R.locals) (hc : cells ≤ R.cells) (hs : slots ≤ R.slots) {x : Int32} (hdg : decode cc pc = .ok (.invokestatic index, 3))
    (kk : W p l e R s m args below meth c H locs cells slots Q (F0 m (pc + 3) ls (.int (if 0 ≤ x then x else 0 - x) :: rest))) : W p l e R s m args below meth c H locs cells slots Q (F0 m pc ls (.int x :: rest)) :=
  va_mabs hexec hb (by rw [hml]; exact (lh_size hls).symm) hown hlink hstat hini hcode hframes hlocals hc hs hdg kk
theorem n_max (hexec : p.tables.exec = Jvm.exec) (hb : c.code = cc) (hml : c.maxLocals = nL) (hls : lh ls nL lf) (hown : s.vm.findClass own = some m.cls) (hlink : (Cond.methodLink own index Lib.Math.max.name).before args s = true) (hstat : (Cond.static Lib.Math.max.name).before args s = true) (hini : (Cond.initialized "java/lang/Math").before args s = true) (hcode : (Cond.code Lib.Math.max.name Lib.Math.max.code 2 (some .int)).before args s = true) {x y : Nat} (hx1 : x < 2 ^ 31) (hy1 : y < 2 ^ 31)
    (hframes : 1 ≤ R.frames) (hlocals : (rest.map fun v => v.category).sum + 13 ≤ R.locals) (hc : cells ≤ R.cells) (hs : slots ≤ R.slots) (hdg : decode cc pc = .ok (.invokestatic index, 3))
    (kk : W p l e R s m args below meth c H locs cells slots Q (F0 m (pc + 3) ls (.int (nI (max x y)) :: rest))) : W p l e R s m args below meth c H locs cells slots Q (F0 m pc ls (.int (nI y) :: .int (nI x) :: rest)) := by
  refine v_max hexec hb hml hls hown hlink hstat hini hcode hframes hlocals hc hs hdg (x_top ?_ kk)
  by_cases h : x < y
  · rw [if_pos ((nI_ltI hx1 hy1).mpr h), Nat.max_eq_right (by omega)]
  · rw [if_neg (fun z => h ((nI_ltI hx1 hy1).mp z)), Nat.max_eq_left (by omega)]
theorem n_min (hexec : p.tables.exec = Jvm.exec) (hb : c.code = cc) (hml : c.maxLocals = nL) (hls : lh ls nL lf) (hown : s.vm.findClass own = some m.cls) (hlink : (Cond.methodLink own index Lib.Math.min.name).before args s = true) (hstat : (Cond.static Lib.Math.min.name).before args s = true) (hini : (Cond.initialized "java/lang/Math").before args s = true) (hcode : (Cond.code Lib.Math.min.name Lib.Math.min.code 2 (some .int)).before args s = true) {x y : Nat} (hx1 : x < 2 ^ 31) (hy1 : y < 2 ^ 31)
    (hframes : 1 ≤ R.frames) (hlocals : (rest.map fun v => v.category).sum + 13 ≤ R.locals) (hc : cells ≤ R.cells) (hs : slots ≤ R.slots) (hdg : decode cc pc = .ok (.invokestatic index, 3))
    (kk : W p l e R s m args below meth c H locs cells slots Q (F0 m (pc + 3) ls (.int (nI (min x y)) :: rest))) : W p l e R s m args below meth c H locs cells slots Q (F0 m pc ls (.int (nI y) :: .int (nI x) :: rest)) := by
  refine v_min hexec hb hml hls hown hlink hstat hini hcode hframes hlocals hc hs hdg (x_top ?_ kk)
  by_cases h : y < x
  · rw [if_pos ((nI_ltI hy1 hx1).mpr h), Nat.min_eq_right (by omega)]
  · rw [if_neg (fun z => h ((nI_ltI hy1 hx1).mp z)), Nat.min_eq_left (by omega)]
theorem xr_getC (hexec : p.tables.exec = Jvm.exec) (hb : c.code = cc) (hml : c.maxLocals = nL) (hls : lh ls nL lf) (hts : ∀ w ∈ lw_all, w.before args s = true) (hown : s.vm.findClass own = some m.cls) (hE : xE g A s) (hM : xw g A w H) {n : Nat} {x : vp_A} (he : w n = some (a, .inl (g.2 1, x))) (hlink : Cond.methodLink own index ⟨"java/lang/Object", "getClass", "()Ljava/lang/Class;"⟩ ∈ lw_all)
    (hinst : Cond.instanceMethod ⟨"java/lang/Object", "getClass", "()Ljava/lang/Class;"⟩ ∈ lw_all) (hnat : Cond.native ⟨"java/lang/Object", "getClass", "()Ljava/lang/Class;"⟩ ∈ lw_all) (hframes : 1 ≤ R.frames) (hlocals : (rest.map fun v => v.category).sum + 14 ≤ R.locals) (hdg : decode cc pc = .ok (.invokevirtual index, 3))
    (k : W p l e R s m args below meth c H locs cells slots Q (F0 m (pc + 3) ls (.ref (g.2 6) :: rest))) : W p l e R s m args below meth c H locs cells slots Q (F0 m pc ls (.ref a :: rest)) := by
  obtain ⟨ws, hP, hD, h3, h4⟩ := hM
  obtain ⟨q0, hq⟩ := h3 n _ he
  have hvm0 : (vp_cell (g.2 1) x).vm = .none := by
    obtain ⟨n, f | f | f | f | f⟩ := x <;> rfl
  have hcl0 : (vp_cell (g.2 1) x).cls = g.2 1 := by
    obtain ⟨n, f | f | f | f | f⟩ := x <;> rfl
  exact va_getC (C := "[Ljava/lang/Object;") hexec hb (by rw [hml]; exact (lh_size hls).symm) hown (hts _ hlink) (va_Nw.use rfl (hE.2.2.1 _ q1591 rfl)) (hts _ q1590) (hts _ hinst) (hts _ hnat) hE.2.2.2.2.2.2.2.2.2.2.2.1 ⟨_, hP q0 _ hq, by rw [hvm0]; rfl, by rw [hcl0]; exact va_nmO (hE.1.2 1 (g.2 1, .object "java/lang/Object") rfl).2 (by decide +kernel)⟩ hframes hlocals hdg k
end XN
/-- one name for another -/
theorem xw.ren {g : xg} {A : Nat → Prop} {w : xw_W} {H : Heap} (h : xw g A w H) {n1 : Nat} (n2 : Nat) {q : Nat × va_E} (hq : w n1 = some q) : xw g A (va_up (va_up w n1 none) n2 (some q)) H := by
  obtain ⟨ws, hP, hD, h3, h4⟩ := h
  have key : ∀ n x, va_up (va_up w n1 none) n2 (some q) n = some x → (n = n2 ∧ x = q) ∨ (n ≠ n2 ∧ n ≠ n1 ∧ w n = some x) := by
    intro n x hx
    by_cases e2 : n = n2
    · subst e2
      rw [va_up_s] at hx
      exact Or.inl ⟨rfl, (Option.some.inj hx).symm⟩
    · rw [va_up_n e2] at hx
      by_cases e1 : n = n1
      · subst e1
        rw [va_up_s] at hx
        cases hx
      · rw [va_up_n e1] at hx
        exact Or.inr ⟨e2, e1, hx⟩
  refine ⟨ws, hP, hD, fun n x hx => ?_, fun n n' x x' hx hx' e => ?_⟩
  · rcases key n x hx with ⟨-, rfl⟩ | ⟨-, -, e⟩
    · exact h3 _ _ hq
    · exact h3 _ _ e
  · rcases key n x hx with ⟨e1, rfl⟩ | ⟨a1, a2, a3⟩ <;> rcases key n' x' hx' with ⟨e2, rfl⟩ | ⟨b1, b2, b3⟩
    · rw [e1, e2]
    · exact absurd (h4 _ _ _ _ hq b3 e).symm b2
    · exact absurd (h4 _ _ _ _ a3 hq e) a2
    · exact h4 _ _ _ _ a3 b3 e
theorem jk_newLength (l : Launch) (g : xg) (A : Nat → Prop) (P : Heap → Prop) (o mg pg : Nat) (h0 : 0 < o + max mg pg) (h : o + max mg pg ≤ 1000000) : Met l yJ13_newLength (ws_ yJ13_newLength cJ13_newLength 4 (some .int)) (xrm 1 0 0) (xPc g A [.int (nI o), .int (nI mg), .int (nI pg)] P) (zQi A P (fun r => r = nI (o + max mg pg))) 0 0 A := by
  have h1 : mg ≤ max mg pg := Nat.le_max_left _ _
  have h2 : pg ≤ max mg pg := Nat.le_max_right _ _
  refine x_start rfl (Nat.le_of_ble_eq_true rfl) ?_
  intro p e s m below meth c hx hb hr hlk hml hown hts hnm hE hM hS ls hl
  have hF : xFix p m c cJ13_newLength 4 s _ RJ13 := ⟨hx, hb, hml, hown, hts⟩
  generalize hargs : List.toArray _ = args at hts hF ⊢
  generalize hQ : MQ below _ _ s _ _ A = Q
  refine lv_iload_n hx hb dJ13_newLength_0 rfl (lh_at hl rfl) ?_
  refine lv_iload_n hx hb dJ13_newLength_1 rfl (lh_at hl rfl) ?_
  refine lv_iload_n hx hb dJ13_newLength_2 rfl (lh_at hl rfl) ?_
  refine n_max hx hb hml hl hown (hts _ q362) (hts _ q136) (hts _ q43) (hts _ q137) (by omega) (by omega) (Nat.le_of_ble_eq_true rfl) (Nat.le_of_ble_eq_true rfl) (Nat.le_of_ble_eq_true rfl) (Nat.le_of_ble_eq_true rfl) dJ13_newLength_3 ?_
  refine n_iadd hx hb dJ13_newLength_6 ?_
  refine x_istore_n hx hb dJ13_newLength_7 rfl hl (by decide) (fun ls hl => ?_)
  refine n_const hx hb 0 dJ13_newLength_8 (by decide +kernel) ?_
  refine lv_iload_n hx hb dJ13_newLength_9 rfl (lh_at hl rfl) ?_
  refine n_icmp_ge (tgt := 21) hx hb dJ13_newLength_10 (by decide) (by omega) (by omega) (fun c1 => ?_) (fun c1 => ?_)
  · omega
  refine lv_iload_n hx hb dJ13_newLength_13 rfl (lh_at hl rfl) ?_
  refine lv_ldc (v := nI 2147483639) hx hb hown (hts _ q363) dJ13_newLength_14 ?_
  refine n_icmp_gt (tgt := 21) hx hb dJ13_newLength_16 (by decide) (by omega) (by omega) (fun c2 => ?_) (fun c2 => ?_)
  · omega
  refine lv_iload_n hx hb dJ13_newLength_19 rfl (lh_at hl rfl) ?_
  exact hQ ▸ x_iret hx hb hr hlk hS () rfl hM dJ13_newLength_20
def xOb (ci : Nat) : Prop := ∃ r, xCl[ci]? = some r ∧ Cond.castable r.1 "java/lang/Object" ∈ lw_tbl
theorem jk_copyOf3 (l : Launch) (g : xg) (A : Nat → Prop) (w : xw_W) (nD nT d cap N ci : Nat) (f : Nat → Option Nat) (es : List Nat) (h : w nD = some (d, .inl (g.2 1, aQ cap f))) (hf : ∀ i, i < cap → f i = es[i]?) (hel : ∀ y ∈ es, xEl w ci y) (hlen : es.length ≤ cap) (hcap : cap ≤ N) (hN : N ≤ 60) (hT : w nT = none) (hob : xOb ci) :
    Met l yJ14_copyOf_3 (ws_ yJ14_copyOf_3 cJ14_copyOf_3 4 (some (.array (.object "java/lang/Object")))) (xrm 1 1 60) (xPw g A w [.ref d, .int (nI N), .ref (g.2 6)]) (xQwr g A (fun ra u => ∃ f', u nT = some (ra, .inl (g.2 1, aQ N f')) ∧ (∀ i, i < N → f' i = es[i]?) ∧ xAg1 w u nT)) 1 60 A := by
  obtain ⟨r, hc, hca⟩ := hob
  have hne : nD ≠ nT := by
    intro z
    rw [z, hT] at h
    cases h
  refine x_start rfl (Nat.le_of_ble_eq_true rfl) ?_
  intro p e s m below meth c hx hb hr hlk hml hown hts hnm hE hM hS ls hl
  have hF : xFix p m c cJ14_copyOf_3 4 s _ RJ14 := ⟨hx, hb, hml, hown, hts⟩
  generalize hargs : List.toArray _ = args at hts hF ⊢
  generalize hQ : MQ below _ _ s _ _ A = Q
  refine lv_aload_n hx hb dJ14_copyOf_3_0 rfl (lh_at hl rfl) ?_
  refine va_ldcM hx hb hown (hts _ q896) hE.2.2.2.2.2.2.2.2.2.2.2.1 dJ14_copyOf_3_1 ?_
  refine lv_acmp_ne (rx := some (g.2 6)) (ry := some (g.2 6)) (tgt := 13) hx hb dJ14_copyOf_3_3 (by decide) (fun h1 => absurd rfl h1) (fun h1 => ?_)
  refine lv_iload_n hx hb dJ14_copyOf_3_6 rfl (lh_at hl rfl) ?_
  refine xr_newq hx hb hown (hts _ q898) hE hM hS nT (by omega) (Nat.le_of_ble_eq_true rfl) (by show 0 + N ≤ 60; omega) dJ14_copyOf_3_7 (fun q H hq hM hS => ?_)
  refine lv_goto (tgt := 24) hx hb dJ14_copyOf_3_10 (by decide) ?_
  refine x_astore_n hx hb dJ14_copyOf_3_24 rfl hl (by decide) (fun ls hl => ?_)
  refine lv_aload_n hx hb dJ14_copyOf_3_25 rfl (lh_at hl rfl) ?_
  refine n_const hx hb 0 dJ14_copyOf_3_26 (by decide +kernel) ?_
  refine lv_aload_n hx hb dJ14_copyOf_3_27 rfl (lh_at hl rfl) ?_
  refine n_const hx hb 0 dJ14_copyOf_3_28 (by decide +kernel) ?_
  refine lv_aload_n hx hb dJ14_copyOf_3_29 rfl (lh_at hl rfl) ?_
  refine xr_len (n := nD) hx hb hE hM (by first | assumption | exact va_up_s | rfl | (refine (va_up_n ?_).trans ?_; rotate_left; (first | assumption | exact va_up_s | rfl | (refine (va_up_n ?_).trans ?_; rotate_left; (first | assumption | exact va_up_s | rfl | (refine (va_up_n ?_).trans ?_; rotate_left; (first | assumption | exact va_up_s | rfl | (refine (va_up_n ?_).trans ?_; rotate_left; (first | assumption | exact va_up_s | rfl | (refine (va_up_n ?_).trans ?_; rotate_left; (assumption); omega)); omega)); omega)); omega)); omega)) rfl dJ14_copyOf_3_30 ?_
  refine lv_iload_n hx hb dJ14_copyOf_3_31 rfl (lh_at hl rfl) ?_
  refine n_min hx hb hml hl hown (hts _ q378) (hts _ q133) (hts _ q43) (hts _ q134) (by omega) (by omega) (Nat.le_of_ble_eq_true rfl) (Nat.le_of_ble_eq_true rfl) (Nat.le_of_ble_eq_true rfl) (by show 0 + N ≤ 60; omega) dJ14_copyOf_3_32 ?_
  rw [Nat.min_eq_left hcap]
  refine xr_copyq (ci := ci) (r := r) (sp := 0) (dp := 0) (n0 := nD) (n1 := nT) hx hb hml hl hts hown hE hM hS q379 hc hca (by first | assumption | exact va_up_s | rfl | (refine (va_up_n ?_).trans ?_; rotate_left; (first | assumption | exact va_up_s | rfl | (refine (va_up_n ?_).trans ?_; rotate_left; (first | assumption | exact va_up_s | rfl | (refine (va_up_n ?_).trans ?_; rotate_left; (first | assumption | exact va_up_s | rfl | (refine (va_up_n ?_).trans ?_; rotate_left; (first | assumption | exact va_up_s | rfl | (refine (va_up_n ?_).trans ?_; rotate_left; (assumption); omega)); omega)); omega)); omega)); omega)) (by first | assumption | exact va_up_s | rfl | (refine (va_up_n ?_).trans ?_; rotate_left; (first | assumption | exact va_up_s | rfl | (refine (va_up_n ?_).trans ?_; rotate_left; (first | assumption | exact va_up_s | rfl | (refine (va_up_n ?_).trans ?_; rotate_left; (first | assumption | exact va_up_s | rfl | (refine (va_up_n ?_).trans ?_; rotate_left; (first | assumption | exact va_up_s | rfl | (refine (va_up_n ?_).trans ?_; rotate_left; (assumption); omega)); omega)); omega)); omega)); omega)) (by omega) (by omega) (by omega) (by omega) ?_ (Nat.le_of_ble_eq_true rfl) (Nat.le_of_ble_eq_true rfl) (Nat.le_of_ble_eq_true rfl) dJ14_copyOf_3_35 (fun H locs hM hS => ?_)
  · intro i hi y hy
    rw [Nat.zero_add, hf i hi] at hy
    obtain ⟨n, fs, hn⟩ := hel y (List.mem_of_getElem? hy)
    refine ⟨n, fs, ?_⟩
    rw [va_up_n (fun z => by rw [z, hT] at hn; cases hn)]
    exact hn
  refine lv_aload_n hx hb dJ14_copyOf_3_38 rfl (lh_at hl rfl) ?_
  refine W.widen (k := 1) (n := 60) (Nat.le_of_ble_eq_true rfl) (by omega) ?_
  refine hQ ▸ x_aret hx hb hr (Or.inr ⟨_, rfl⟩) hlk hS _ trivial ⟨⟨_, va_up_s, ?_, ?_⟩, hM⟩ dJ14_copyOf_3_39
  · intro i hi
    unfold va_cpy
    by_cases h3 : i < cap
    · rw [if_pos ⟨Nat.zero_le _, by omega⟩, Nat.zero_add, Nat.sub_zero]
      exact hf i h3
    · rw [if_neg (by omega), List.getElem?_eq_none (by omega)]
  · intro n hn
    rw [va_up_n hn, va_up_n hn]
theorem jk_copyOf2 (l : Launch) (g : xg) (A : Nat → Prop) (w : xw_W) (nD nT d cap N ci : Nat) (f : Nat → Option Nat) (es : List Nat) (h : w nD = some (d, .inl (g.2 1, aQ cap f))) (hf : ∀ i, i < cap → f i = es[i]?) (hel : ∀ y ∈ es, xEl w ci y) (hlen : es.length ≤ cap) (hcap : cap ≤ N) (hN : N ≤ 60) (hT : w nT = none) (hob : xOb ci) :
    Met l yJ14_copyOf_2 (ws_ yJ14_copyOf_2 cJ14_copyOf_2 2 (some (.array (.object "java/lang/Object")))) (xrm 2 1 60) (xPw g A w [.ref d, .int (nI N)]) (xQwr g A (fun ra u => ∃ f', u nT = some (ra, .inl (g.2 1, aQ N f')) ∧ (∀ i, i < N → f' i = es[i]?) ∧ xAg1 w u nT)) 1 60 A := by
  refine x_start rfl (Nat.le_of_ble_eq_true rfl) ?_
  intro p e s m below meth c hx hb hr hlk hml hown hts hnm hE hM hS ls hl
  have hF : xFix p m c cJ14_copyOf_2 2 s _ RJ14 := ⟨hx, hb, hml, hown, hts⟩
  generalize hargs : List.toArray _ = args at hts hF ⊢
  generalize hQ : MQ below _ _ s _ _ A = Q
  refine lv_aload_n hx hb dJ14_copyOf_2_0 rfl (lh_at hl rfl) ?_
  refine lv_iload_n hx hb dJ14_copyOf_2_1 rfl (lh_at hl rfl) ?_
  refine lv_aload_n hx hb dJ14_copyOf_2_2 rfl (lh_at hl rfl) ?_
  refine xr_getC (n := nD) hx hb hml hl hts hown hE hM h q874 q875 q892 (Nat.le_of_ble_eq_true rfl) (Nat.le_of_ble_eq_true rfl) dJ14_copyOf_2_3 ?_
  refine x_callr (x_runS (As := [.ref d, .int (nI N), .ref (g.2 6)]) hF hE hS hM hl (jk_copyOf3 l g A w nD nT d cap N ci f es h hf hel hlen hcap hN hT hob) q893 q894 q55 q895 ⟨by decide +kernel, by decide +kernel, by show _ = some 3; decide +kernel⟩ rfl rfl ⟨Nat.le_of_ble_eq_true rfl, Nat.le_of_ble_eq_true rfl⟩ rfl (Nat.le_of_ble_eq_true rfl) dJ14_copyOf_2_6 ⟨Nat.le_of_ble_eq_true rfl, Nat.le_of_ble_eq_true rfl⟩) hS (fun u ra H locs hq hM hS => ?_)
  exact hQ ▸ x_aret hx hb hr (Or.inr ⟨_, rfl⟩) hlk hS _ trivial hM dJ14_copyOf_2_9
