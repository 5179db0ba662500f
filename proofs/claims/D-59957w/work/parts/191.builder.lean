/-! StringBuilder: its lengths alone -/
set_option maxRecDepth 100000
theorem x_selPriv {C : String} {y : MethodName} {s : State} {args : Array Value} {n : Nat} (hy : y.cls ≠ "java/lang/invoke/MethodHandle" ∧ y.cls ≠ "java/lang/invoke/VarHandle")
    (hins : (Cond.instantiable C n).before args s = true) (hpriv : (Cond.privateMethod y).before args s = true) (hinst : (Cond.instanceMethod y).before args s = true) (hsame : (Cond.sameMethod y.cls y.cls y.name y.desc).before args s = true) :
    (Cond.selects C y y).before args s = true := by
  obtain ⟨c, k, hc, hk, -, hniab, -, -⟩ := Cond.instantiable_spec hins
  obtain ⟨cn, ck, r1, hcn, hck, hni, -, -⟩ := Cond.sameMethod_found hsame
  obtain ⟨mk, methM, hnamed, hmethM, -, -⟩ := Cond.instanceMethod_spec hinst
  have hfound : s.methodFound? y.cls y.name y.desc = some mk := State.methodFound?_of_named hnamed hy
  have hsel : selectMethod {} s.vm c mk = .method mk := selectMethod_private hmethM (Cond.privateMethod_at hpriv mk methM hnamed hmethM)
  have hcls : mk.cls = cn := Option.some.inj ((findClass_of_methodNamed hnamed).symm.trans hcn)
  simp only [Cond.before, Cond.holds, Cond.value, hc, hfound, hnamed, hsel, hcls, hck]
  simp; exact hni
section XU2
variable {p : Program} {l : Launch} {e : Env} {R : Room} {s : State} {m : MethodId} {args : Array Value} {below : List Frame} {meth : Method} {c : Code} {H : Heap} {locs : List Loc} {cells slots : Nat} {Q : State → Prop}
variable {cc bytes : ByteArray} {pc nL maxL n mc ms : Nat} {ls : Array Slot} {rest st0 As : List Value} {g : xg} {A : Nat → Prop} {P : Heap → Prop} {own C : String} {index : Nat} {y : MethodName} {ret : Option FieldType} {rm : Room} {b : Nat} {lf : Nat → Option Value}
/-- a method of a class above the receiver's -/
theorem x_runU {Qc : Array Value → State → Outcome → State → Prop} (hF : xFix p m c cc nL s args own) (hE : xE g A s) (hS : va_S A s.heap H locs) (hP : P H) (hls : lh ls nL lf) (hM : Met l y (ws_ y bytes maxL ret) rm (xPc g A (.ref b :: As) P) Qc mc ms A) (hrv : xRv s H C b)
    (h1 : Cond.methodLink own index y ∈ lw_all) (hsm : Cond.sameMethod y.cls y.cls y.name y.desc ∈ lw_all) (h3 : (Cond.selects C y y).before args s = true) (h2 : Cond.instanceMethod y ∈ lw_all) (h4 : Cond.initialized y.cls ∈ lw_all) (h5 : Cond.code y bytes maxL ret ∈ lw_all) (hyx : y = ⟨y.cls, y.name, y.desc⟩) (hd : y.cls ≠ "java/lang/invoke/MethodHandle" ∧ y.cls ≠ "java/lang/invoke/VarHandle" ∧ (parseMethodDescriptor y.desc).map (fun d => d.parameters.length) = some As.length)
    (hrc : rm.cells = mc) (hrs : rm.slots = ms) (hR : rm.frames + 1 ≤ R.frames ∧ 8 + (maxL + 11) + rm.locals ≤ R.locals) (hst : st0 = As.reverse ++ .ref b :: rest) (hcat : (rest.map fun v => v.category).sum ≤ 8) (hdg : decode cc pc = .ok (.invokevirtual index, 3)) (hf : cells + mc ≤ R.cells ∧ slots + ms ≤ R.slots) :
    va_Run p l e R s m args below meth c H locs cells slots mc ms (F0 m pc ls st0) rest (Qc (Value.ref b :: As).toArray) A := by
  have hts := hF.2.2.2.2
  have hG := lw_meth h5
  refine va_runU (C := C) (owner := y.cls) (x := y) (n := As.length) hF hM ⟨⟨hrc, hrs, hR.1, hR.2, pay_in hts hG, List.mem_cons_self⟩, hts _ h5, hts _ h4, ⟨hd.1, hd.2.1⟩, fun sig h => ?_, hts _ h1, hts _ hsm, va_Decl.of (hts _ h2) (hts _ h5), h3, hts _ h2⟩ (x_preV hE hS hP hrv) rfl rfl (lh_size hls) hst (lv_room hcat) hdg hf
  have h9 := hd.2.2
  rw [h] at h9
  exact (Option.some.inj h9).symm
end XU2
theorem xE.cs {g : xg} {A : Nat → Prop} {s : State} (hE : xE g A s) : va_Z "java/lang/String" "COMPACT_STRINGS" "Z" (.int 1) A s s.heap := hE.2.2.2.2.2.2.2.2.1
/-- a builder of n signs -/
def sB (g : xg) (w : xw_W) (nS nV a v cap n : Nat) : Prop := ∃ (ml : Int32) (f : Nat → Int32), w nS = some (a, .inr (8, [.ref v, .int (nI 0), .int ml, .int (nI n)])) ∧ w nV = some (v, .inl (g.2 4, cap, .inl f)) ∧ n ≤ cap ∧ cap ≤ 300 ∧ bF f
theorem jk_sbInit10 (l : Launch) (g : xg) (A : Nat → Prop) (w : xw_W) (nS nV a : Nat) (hne : nS ≠ nV) (h : w nS = some (a, .inr (8, [.null, .int 0, .int 0, .int 0]))) :
    Met l yJ10_init (ws_ yJ10_init cJ10_init 2 none) (xrm 0 1 16) (xPw g A w [.ref a, .int (nI 16)]) (xQwv g A (fun u => (∃ v, sB g u nS nV a v 16 0) ∧ xAg2 w u nS nV)) 1 16 A := by
  refine x_start rfl (Nat.le_of_ble_eq_true rfl) ?_
  intro p e s m below meth c hx hb hr hlk hml hown hts hnm hE hM hS ls hl
  have hF : xFix p m c cJ10_init 2 s _ RJ10 := ⟨hx, hb, hml, hown, hts⟩
  generalize hargs : List.toArray _ = args at hts hF ⊢
  generalize hQ : MQ below _ _ s _ _ A = Q
  refine lv_aload_n hx hb dJ10_init_0 rfl (lh_at hl rfl) ?_
  refine x_obj hx hb hml hown (hts _ q316) (hts _ q77) (hts _ q78) hl dJ10_init_1 (Nat.le_of_ble_eq_true rfl) (Nat.le_of_ble_eq_true rfl) ?_
  refine va_gets hx hb hE.cs hS hown (hts _ q317) (fun _ h => h) dJ10_init_4 ?_
  refine lv_if_eq (tgt := 25) hx hb dJ10_init_7 (by decide) (fun c1 => ?_) (fun c1 => ?_)
  · exact absurd c1 (by decide)
  · refine lv_aload_n hx hb dJ10_init_10 rfl (lh_at hl rfl) ?_
    refine lv_iload_n hx hb dJ10_init_11 rfl (lh_at hl rfl) ?_
    refine xr_newb hx hb (hts _ q282) hE hM hS nV (by omega) (Nat.le_of_ble_eq_true rfl) (Nat.le_of_ble_eq_true rfl) dJ10_init_12 (fun v H hv hM hS => ?_)
    refine xr_put (C := RJ11) (T := TJ11) (N := 4) (ci := 8) (n := nS) hx hb hts in_J11 tyJ11 tyJ11_ok nmJ11 hown hE hM hS (by first | assumption | exact va_up_s | rfl | (refine (va_up_n ?_).trans ?_; rotate_left; (first | assumption | exact va_up_s | rfl | (refine (va_up_n ?_).trans ?_; rotate_left; (first | assumption | exact va_up_s | rfl | (refine (va_up_n ?_).trans ?_; rotate_left; (first | assumption | exact va_up_s | rfl | (refine (va_up_n ?_).trans ?_; rotate_left; (first | assumption | exact va_up_s | rfl | (refine (va_up_n ?_).trans ?_; rotate_left; (assumption); omega)); omega)); omega)); omega)); omega)) rfl 0 (by decide) (hts _ q326) (fun _ h => h) rfl (tyJ11_ok 0 (by decide)) rfl rfl (Nat.le_of_ble_eq_true rfl) dJ10_init_14 (fun H locs hM hS => ?_)
    refine lv_aload_n hx hb dJ10_init_17 rfl (lh_at hl rfl) ?_
    refine n_const hx hb 0 dJ10_init_18 (by decide +kernel) ?_
    refine xr_put (C := RJ11) (T := TJ11) (N := 4) (ci := 8) (n := nS) hx hb hts in_J11 tyJ11 tyJ11_ok nmJ11 hown hE hM hS (by first | assumption | exact va_up_s | rfl | (refine (va_up_n ?_).trans ?_; rotate_left; (first | assumption | exact va_up_s | rfl | (refine (va_up_n ?_).trans ?_; rotate_left; (first | assumption | exact va_up_s | rfl | (refine (va_up_n ?_).trans ?_; rotate_left; (first | assumption | exact va_up_s | rfl | (refine (va_up_n ?_).trans ?_; rotate_left; (first | assumption | exact va_up_s | rfl | (refine (va_up_n ?_).trans ?_; rotate_left; (assumption); omega)); omega)); omega)); omega)); omega)) rfl 1 (by decide) (hts _ q327) (fun _ h => h) rfl (tyJ11_ok 1 (by decide)) rfl rfl (Nat.le_of_ble_eq_true rfl) dJ10_init_19 (fun H locs hM hS => ?_)
    refine lv_goto (tgt := 38) hx hb dJ10_init_22 (by decide) ?_
    refine hQ ▸ x_vret hx hb hr hlk hS _ ⟨⟨v, 0, fun _ => 0, va_up_s, ?_, Nat.zero_le _, by decide, bF_zero⟩, fun k k1 k2 => ?_⟩ hM dJ10_init_38
    · rw [va_up_n hne.symm, va_up_n hne.symm]
      exact va_up_s
    · rw [va_up_n k1, va_up_n k1, va_up_n k2]
theorem jk_sbInit (l : Launch) (g : xg) (A : Nat → Prop) (w : xw_W) (nS nV a : Nat) (hne : nS ≠ nV) (h : w nS = some (a, .inr (8, [.null, .int 0, .int 0, .int 0]))) :
    Met l yJ11_init (ws_ yJ11_init cJ11_init 1 none) (xrm 1 1 16) (xPw g A w [.ref a]) (xQwv g A (fun u => (∃ v, sB g u nS nV a v 16 0) ∧ xAg2 w u nS nV)) 1 16 A := by
  refine x_start rfl (Nat.le_of_ble_eq_true rfl) ?_
  intro p e s m below meth c hx hb hr hlk hml hown hts hnm hE hM hS ls hl
  have hF : xFix p m c cJ11_init 1 s _ RJ11 := ⟨hx, hb, hml, hown, hts⟩
  generalize hargs : List.toArray _ = args at hts hF ⊢
  generalize hQ : MQ below _ _ s _ _ A = Q
  refine lv_aload_n hx hb dJ11_init_0 rfl (lh_at hl rfl) ?_
  refine n_bipush hx hb 16 dJ11_init_1 (by decide +kernel) ?_
  refine x_callv (x_runI (As := [.int (nI 16)]) hF hE hS hM hl (jk_sbInit10 l g A w nS nV a hne h) q313 q314 q51 q315 rfl ⟨by decide +kernel, by decide +kernel, by show _ = some 1; decide +kernel⟩ rfl rfl ⟨Nat.le_of_ble_eq_true rfl, Nat.le_of_ble_eq_true rfl⟩ rfl (Nat.le_of_ble_eq_true rfl) dJ11_init_3 ⟨Nat.le_of_ble_eq_true rfl, Nat.le_of_ble_eq_true rfl⟩) hS (fun u H locs hq hM hS => ?_)
  exact hQ ▸ x_vret hx hb hr hlk hS u hq hM dJ11_init_6
theorem jk_isLatin1 (l : Launch) (g : xg) (A : Nat → Prop) (w : xw_W) (nS nV a v cap n : Nat) (h : sB g w nS nV a v cap n) :
    Met l yJ10_isLatin1 (ws_ yJ10_isLatin1 cJ10_isLatin1 1 (some .boolean)) (xrm 0 0 0) (xPw g A w [.ref a]) (zQi A (xw g A w) (fun r => r = 1)) 0 0 A := by
  obtain ⟨ml, f, h1, h2, h3, h4, h5⟩ := h
  refine x_start rfl (Nat.le_of_ble_eq_true rfl) ?_
  intro p e s m below meth c hx hb hr hlk hml hown hts hnm hE hM hS ls hl
  have hF : xFix p m c cJ10_isLatin1 1 s _ RJ10 := ⟨hx, hb, hml, hown, hts⟩
  generalize hargs : List.toArray _ = args at hts hF ⊢
  generalize hQ : MQ below _ _ s _ _ A = Q
  refine va_gets hx hb hE.cs hS hown (hts _ q317) (fun _ h => h) dJ10_isLatin1_0 ?_
  refine lv_if_eq (tgt := 17) hx hb dJ10_isLatin1_3 (by decide) (fun c1 => ?_) (fun c1 => ?_)
  · exact absurd c1 (by decide)
  · refine lv_aload_n hx hb dJ10_isLatin1_6 rfl (lh_at hl rfl) ?_
    refine xr_get (C := RJ11) (T := TJ11) (N := 4) (ci := 8) (n := nS) hx hb hts in_J11 hown hE hM (by first | assumption | exact va_up_s | rfl | (refine (va_up_n ?_).trans ?_; rotate_left; (first | assumption | exact va_up_s | rfl | (refine (va_up_n ?_).trans ?_; rotate_left; (first | assumption | exact va_up_s | rfl | (refine (va_up_n ?_).trans ?_; rotate_left; (first | assumption | exact va_up_s | rfl | (refine (va_up_n ?_).trans ?_; rotate_left; (first | assumption | exact va_up_s | rfl | (refine (va_up_n ?_).trans ?_; rotate_left; (assumption); omega)); omega)); omega)); omega)); omega)) rfl 1 (by decide) (hts _ q327) (fun _ h => h) rfl dJ10_isLatin1_7 ?_
    refine n_if_ne (tgt := 17) hx hb dJ10_isLatin1_10 (by decide) (by omega) (fun c2 => ?_) (fun c2 => ?_)
    · exact absurd rfl c2
    · refine lv_iconst (v := 1) hx hb dJ10_isLatin1_13 (by decide +kernel) ?_
      refine lv_goto (tgt := 18) hx hb dJ10_isLatin1_14 (by decide) ?_
      exact hQ ▸ x_zret hx hb hr hlk hS () rfl rfl hM dJ10_isLatin1_18
theorem jk_sbLength (l : Launch) (g : xg) (A : Nat → Prop) (w : xw_W) (nS nV a v cap n : Nat) (h : sB g w nS nV a v cap n) :
    Met l yJ10_length (ws_ yJ10_length cJ10_length 1 (some .int)) (xrm 0 0 0) (xPw g A w [.ref a]) (zQi A (xw g A w) (fun r => r = nI n)) 0 0 A := by
  obtain ⟨ml, f, h1, h2, h3, h4, h5⟩ := h
  refine x_start rfl (Nat.le_of_ble_eq_true rfl) ?_
  intro p e s m below meth c hx hb hr hlk hml hown hts hnm hE hM hS ls hl
  have hF : xFix p m c cJ10_length 1 s _ RJ10 := ⟨hx, hb, hml, hown, hts⟩
  generalize hargs : List.toArray _ = args at hts hF ⊢
  generalize hQ : MQ below _ _ s _ _ A = Q
  refine lv_aload_n hx hb dJ10_length_0 rfl (lh_at hl rfl) ?_
  refine xr_get (C := RJ11) (T := TJ11) (N := 4) (ci := 8) (n := nS) hx hb hts in_J11 hown hE hM (by first | assumption | exact va_up_s | rfl | (refine (va_up_n ?_).trans ?_; rotate_left; (first | assumption | exact va_up_s | rfl | (refine (va_up_n ?_).trans ?_; rotate_left; (first | assumption | exact va_up_s | rfl | (refine (va_up_n ?_).trans ?_; rotate_left; (first | assumption | exact va_up_s | rfl | (refine (va_up_n ?_).trans ?_; rotate_left; (first | assumption | exact va_up_s | rfl | (refine (va_up_n ?_).trans ?_; rotate_left; (assumption); omega)); omega)); omega)); omega)); omega)) rfl 3 (by decide) (hts _ q329) (fun _ h => h) rfl dJ10_length_1 ?_
  exact hQ ▸ x_iret hx hb hr hlk hS () rfl hM dJ10_length_4
theorem jk_getValue (l : Launch) (g : xg) (A : Nat → Prop) (w : xw_W) (nS nV a v cap n : Nat) (h : sB g w nS nV a v cap n) :
    Met l yJ10_getValue (ws_ yJ10_getValue cJ10_getValue 1 (some (.array .byte))) (xrm 0 0 0) (xPw g A w [.ref a]) (zQr A (xw g A w) (fun r => r = v)) 0 0 A := by
  obtain ⟨ml, f, h1, h2, h3, h4, h5⟩ := h
  refine x_start rfl (Nat.le_of_ble_eq_true rfl) ?_
  intro p e s m below meth c hx hb hr hlk hml hown hts hnm hE hM hS ls hl
  have hF : xFix p m c cJ10_getValue 1 s _ RJ10 := ⟨hx, hb, hml, hown, hts⟩
  generalize hargs : List.toArray _ = args at hts hF ⊢
  generalize hQ : MQ below _ _ s _ _ A = Q
  refine lv_aload_n hx hb dJ10_getValue_0 rfl (lh_at hl rfl) ?_
  refine xr_get (C := RJ11) (T := TJ11) (N := 4) (ci := 8) (n := nS) hx hb hts in_J11 hown hE hM (by first | assumption | exact va_up_s | rfl | (refine (va_up_n ?_).trans ?_; rotate_left; (first | assumption | exact va_up_s | rfl | (refine (va_up_n ?_).trans ?_; rotate_left; (first | assumption | exact va_up_s | rfl | (refine (va_up_n ?_).trans ?_; rotate_left; (first | assumption | exact va_up_s | rfl | (refine (va_up_n ?_).trans ?_; rotate_left; (first | assumption | exact va_up_s | rfl | (refine (va_up_n ?_).trans ?_; rotate_left; (assumption); omega)); omega)); omega)); omega)); omega)) rfl 0 (by decide) (hts _ q326) (fun _ h => h) rfl dJ10_getValue_1 ?_
  exact hQ ▸ x_aret hx hb hr (Or.inr ⟨_, rfl⟩) hlk hS () trivial ⟨rfl, hM⟩ dJ10_getValue_4
theorem jk_newCapacity (l : Launch) (g : xg) (A : Nat → Prop) (w : xw_W) (nS nV a v cap n mn : Nat) (h : sB g w nS nV a v cap n) (h1 : cap < mn) (h2 : mn ≤ 140) :
    Met l yJ10_newCapacity (ws_ yJ10_newCapacity cJ10_newCapacity 6 (some .int)) (xrm 2 0 0) (xPw g A w [.ref a, .int (nI mn)]) (zQi A (xw g A w) (fun r => ∃ c2, mn ≤ c2 ∧ c2 ≤ 300 ∧ r = nI c2)) 0 0 A := by
  obtain ⟨ml, f, g1, g2, g3, g4, g5⟩ := h
  have hm : mn ≤ cap + max (mn - cap) (cap + 2 <<< 0) ∧ cap + max (mn - cap) (cap + 2 <<< 0) ≤ 300 := by
    show mn ≤ cap + max (mn - cap) (cap + 2) ∧ cap + max (mn - cap) (cap + 2) ≤ 300
    omega
  refine x_start rfl (Nat.le_of_ble_eq_true rfl) ?_
  intro p e s m below meth c hx hb hr hlk hml hown hts hnm hE hM hS ls hl
  have hF : xFix p m c cJ10_newCapacity 6 s _ RJ10 := ⟨hx, hb, hml, hown, hts⟩
  generalize hargs : List.toArray _ = args at hts hF ⊢
  generalize hQ : MQ below _ _ s _ _ A = Q
  refine lv_aload_n hx hb dJ10_newCapacity_0 rfl (lh_at hl rfl) ?_
  refine xr_get (C := RJ11) (T := TJ11) (N := 4) (ci := 8) (n := nS) hx hb hts in_J11 hown hE hM (by first | assumption | exact va_up_s | rfl | (refine (va_up_n ?_).trans ?_; rotate_left; (first | assumption | exact va_up_s | rfl | (refine (va_up_n ?_).trans ?_; rotate_left; (first | assumption | exact va_up_s | rfl | (refine (va_up_n ?_).trans ?_; rotate_left; (first | assumption | exact va_up_s | rfl | (refine (va_up_n ?_).trans ?_; rotate_left; (first | assumption | exact va_up_s | rfl | (refine (va_up_n ?_).trans ?_; rotate_left; (assumption); omega)); omega)); omega)); omega)); omega)) rfl 0 (by decide) (hts _ q326) (fun _ h => h) rfl dJ10_newCapacity_1 ?_
  refine xr_len (n := nV) hx hb hE hM (by first | assumption | exact va_up_s | rfl | (refine (va_up_n ?_).trans ?_; rotate_left; (first | assumption | exact va_up_s | rfl | (refine (va_up_n ?_).trans ?_; rotate_left; (first | assumption | exact va_up_s | rfl | (refine (va_up_n ?_).trans ?_; rotate_left; (first | assumption | exact va_up_s | rfl | (refine (va_up_n ?_).trans ?_; rotate_left; (first | assumption | exact va_up_s | rfl | (refine (va_up_n ?_).trans ?_; rotate_left; (assumption); omega)); omega)); omega)); omega)); omega)) rfl dJ10_newCapacity_4 ?_
  refine x_istore_n hx hb dJ10_newCapacity_5 rfl hl (by decide) (fun ls hl => ?_)
  refine lv_iload_n hx hb dJ10_newCapacity_6 rfl (lh_at hl rfl) ?_
  refine lv_aload_n hx hb dJ10_newCapacity_7 rfl (lh_at hl rfl) ?_
  refine xr_get (C := RJ11) (T := TJ11) (N := 4) (ci := 8) (n := nS) hx hb hts in_J11 hown hE hM (by first | assumption | exact va_up_s | rfl | (refine (va_up_n ?_).trans ?_; rotate_left; (first | assumption | exact va_up_s | rfl | (refine (va_up_n ?_).trans ?_; rotate_left; (first | assumption | exact va_up_s | rfl | (refine (va_up_n ?_).trans ?_; rotate_left; (first | assumption | exact va_up_s | rfl | (refine (va_up_n ?_).trans ?_; rotate_left; (first | assumption | exact va_up_s | rfl | (refine (va_up_n ?_).trans ?_; rotate_left; (assumption); omega)); omega)); omega)); omega)); omega)) rfl 1 (by decide) (hts _ q327) (fun _ h => h) rfl dJ10_newCapacity_8 ?_
  refine n_ishl hx hb (by omega) (by omega) dJ10_newCapacity_11 ?_
  rw [Nat.shiftLeft_zero]
  refine x_istore_n hx hb dJ10_newCapacity_12 rfl hl (by decide) (fun ls hl => ?_)
  refine lv_iload_n hx hb dJ10_newCapacity_13 rfl (lh_at hl rfl) ?_
  refine lv_iload_n hx hb dJ10_newCapacity_14 rfl (lh_at hl rfl) ?_
  refine n_isub hx hb (by omega) dJ10_newCapacity_15 ?_
  refine x_istore hx hb dJ10_newCapacity_16 hl (by decide) (fun ls hl => ?_)
  refine lv_iload_n hx hb dJ10_newCapacity_18 rfl (lh_at hl rfl) ?_
  refine lv_iload hx hb dJ10_newCapacity_19 (lh_at hl rfl) ?_
  refine lv_iload_n hx hb dJ10_newCapacity_21 rfl (lh_at hl rfl) ?_
  refine n_const hx hb 2 dJ10_newCapacity_22 (by decide +kernel) ?_
  refine lv_aload_n hx hb dJ10_newCapacity_23 rfl (lh_at hl rfl) ?_
  refine xr_get (C := RJ11) (T := TJ11) (N := 4) (ci := 8) (n := nS) hx hb hts in_J11 hown hE hM (by first | assumption | exact va_up_s | rfl | (refine (va_up_n ?_).trans ?_; rotate_left; (first | assumption | exact va_up_s | rfl | (refine (va_up_n ?_).trans ?_; rotate_left; (first | assumption | exact va_up_s | rfl | (refine (va_up_n ?_).trans ?_; rotate_left; (first | assumption | exact va_up_s | rfl | (refine (va_up_n ?_).trans ?_; rotate_left; (first | assumption | exact va_up_s | rfl | (refine (va_up_n ?_).trans ?_; rotate_left; (assumption); omega)); omega)); omega)); omega)); omega)) rfl 1 (by decide) (hts _ q327) (fun _ h => h) rfl dJ10_newCapacity_24 ?_
  refine n_ishl hx hb (by omega) (by omega) dJ10_newCapacity_27 ?_
  refine n_iadd hx hb dJ10_newCapacity_28 ?_
  refine x_calli (x_runS (As := [.int (nI cap), .int (nI (mn - cap)), .int (nI (cap + 2 <<< 0))]) hF hE hS hM hl (jk_newLength l g A (xw g A w) cap (mn - cap) (cap + 2 <<< 0) (by omega) (by omega)) q359 q360 q54 q361 ⟨by decide +kernel, by decide +kernel, by show _ = some 3; decide +kernel⟩ rfl rfl ⟨Nat.le_of_ble_eq_true rfl, Nat.le_of_ble_eq_true rfl⟩ rfl (Nat.le_of_ble_eq_true rfl) dJ10_newCapacity_29 ⟨Nat.le_of_ble_eq_true rfl, Nat.le_of_ble_eq_true rfl⟩) hS (fun r uu H locs hq hM hS => ?_)
  subst hq
  refine x_istore hx hb dJ10_newCapacity_32 hl (by decide) (fun ls hl => ?_)
  refine lv_iload hx hb dJ10_newCapacity_34 (lh_at hl rfl) ?_
  refine lv_ldc (v := nI 2147483647) hx hb hown (hts _ q367) dJ10_newCapacity_36 ?_
  refine n_icmp_ne (tgt := 51) hx hb dJ10_newCapacity_38 (by decide) (by omega) (by omega) (fun c1 => ?_) (fun c1 => ?_)
  · refine lv_iload hx hb dJ10_newCapacity_51 (lh_at hl rfl) ?_
    refine lv_aload_n hx hb dJ10_newCapacity_53 rfl (lh_at hl rfl) ?_
    refine xr_get (C := RJ11) (T := TJ11) (N := 4) (ci := 8) (n := nS) hx hb hts in_J11 hown hE hM (by first | assumption | exact va_up_s | rfl | (refine (va_up_n ?_).trans ?_; rotate_left; (first | assumption | exact va_up_s | rfl | (refine (va_up_n ?_).trans ?_; rotate_left; (first | assumption | exact va_up_s | rfl | (refine (va_up_n ?_).trans ?_; rotate_left; (first | assumption | exact va_up_s | rfl | (refine (va_up_n ?_).trans ?_; rotate_left; (first | assumption | exact va_up_s | rfl | (refine (va_up_n ?_).trans ?_; rotate_left; (assumption); omega)); omega)); omega)); omega)); omega)) rfl 1 (by decide) (hts _ q327) (fun _ h => h) rfl dJ10_newCapacity_54 ?_
    refine n_ishr hx hb (by omega) (by omega) dJ10_newCapacity_57 ?_
    rw [Nat.shiftRight_zero]
    exact hQ ▸ x_iret hx hb hr hlk hS () ⟨_, hm.1, hm.2, rfl⟩ hM dJ10_newCapacity_58
  · omega
theorem jk_copyOfB (l : Launch) (g : xg) (A : Nat → Prop) (w : xw_W) (nV nT v cap N : Nat) (f : Nat → Int32) (h : w nV = some (v, .inl (g.2 4, cap, .inl f))) (hf : bF f) (hc : cap < N) (hN : N ≤ 300) (hne : nV ≠ nT) :
    Met l yJ14_copyOf (ws_ yJ14_copyOf cJ14_copyOf 3 (some (.array .byte))) (xrm 1 1 300) (xPw g A w [.ref v, .int (nI N)]) (xQwr g A (fun ra u => (∃ f', u nT = some (ra, .inl (g.2 4, N, .inl f')) ∧ bF f') ∧ xAg1 w u nT)) 1 300 A := by
  refine x_start rfl (Nat.le_of_ble_eq_true rfl) ?_
  intro p e s m below meth c hx hb hr hlk hml hown hts hnm hE hM hS ls hl
  have hF : xFix p m c cJ14_copyOf 3 s _ RJ14 := ⟨hx, hb, hml, hown, hts⟩
  generalize hargs : List.toArray _ = args at hts hF ⊢
  generalize hQ : MQ below _ _ s _ _ A = Q
  refine lv_iload_n hx hb dJ14_copyOf_0 rfl (lh_at hl rfl) ?_
  refine lv_aload_n hx hb dJ14_copyOf_1 rfl (lh_at hl rfl) ?_
  refine xr_len (n := nV) hx hb hE hM (by first | assumption | exact va_up_s | rfl | (refine (va_up_n ?_).trans ?_; rotate_left; (first | assumption | exact va_up_s | rfl | (refine (va_up_n ?_).trans ?_; rotate_left; (first | assumption | exact va_up_s | rfl | (refine (va_up_n ?_).trans ?_; rotate_left; (first | assumption | exact va_up_s | rfl | (refine (va_up_n ?_).trans ?_; rotate_left; (first | assumption | exact va_up_s | rfl | (refine (va_up_n ?_).trans ?_; rotate_left; (assumption); omega)); omega)); omega)); omega)); omega)) rfl dJ14_copyOf_2 ?_
  refine n_icmp_ne (tgt := 14) hx hb dJ14_copyOf_3 (by decide) (by omega) (by omega) (fun c1 => ?_) (fun c1 => ?_)
  · refine lv_iload_n hx hb dJ14_copyOf_14 rfl (lh_at hl rfl) ?_
    refine xr_newb hx hb (hts _ q282) hE hM hS nT (by omega) (Nat.le_of_ble_eq_true rfl) (by show 0 + N ≤ 300; omega) dJ14_copyOf_15 (fun q H hq hM hS => ?_)
    refine x_astore_n hx hb dJ14_copyOf_17 rfl hl (by decide) (fun ls hl => ?_)
    refine lv_aload_n hx hb dJ14_copyOf_18 rfl (lh_at hl rfl) ?_
    refine n_const hx hb 0 dJ14_copyOf_19 (by decide +kernel) ?_
    refine lv_aload_n hx hb dJ14_copyOf_20 rfl (lh_at hl rfl) ?_
    refine n_const hx hb 0 dJ14_copyOf_21 (by decide +kernel) ?_
    refine lv_aload_n hx hb dJ14_copyOf_22 rfl (lh_at hl rfl) ?_
    refine xr_len (n := nV) hx hb hE hM (by first | assumption | exact va_up_s | rfl | (refine (va_up_n ?_).trans ?_; rotate_left; (first | assumption | exact va_up_s | rfl | (refine (va_up_n ?_).trans ?_; rotate_left; (first | assumption | exact va_up_s | rfl | (refine (va_up_n ?_).trans ?_; rotate_left; (first | assumption | exact va_up_s | rfl | (refine (va_up_n ?_).trans ?_; rotate_left; (first | assumption | exact va_up_s | rfl | (refine (va_up_n ?_).trans ?_; rotate_left; (assumption); omega)); omega)); omega)); omega)); omega)) rfl dJ14_copyOf_23 ?_
    refine lv_iload_n hx hb dJ14_copyOf_24 rfl (lh_at hl rfl) ?_
    refine n_min hx hb hml hl hown (hts _ q378) (hts _ q133) (hts _ q43) (hts _ q134) (by omega) (by omega) (Nat.le_of_ble_eq_true rfl) (Nat.le_of_ble_eq_true rfl) (Nat.le_of_ble_eq_true rfl) (by show 0 + N ≤ 300; omega) dJ14_copyOf_25 ?_
    rw [Nat.min_eq_left (show cap ≤ N by omega)]
    refine xr_copyb (sp := 0) (dp := 0) (n0 := nV) (n1 := nT) hx hb hml hl hts hown hE hM hS q379 (by first | assumption | exact va_up_s | rfl | (refine (va_up_n ?_).trans ?_; rotate_left; (first | assumption | exact va_up_s | rfl | (refine (va_up_n ?_).trans ?_; rotate_left; (first | assumption | exact va_up_s | rfl | (refine (va_up_n ?_).trans ?_; rotate_left; (first | assumption | exact va_up_s | rfl | (refine (va_up_n ?_).trans ?_; rotate_left; (first | assumption | exact va_up_s | rfl | (refine (va_up_n ?_).trans ?_; rotate_left; (assumption); omega)); omega)); omega)); omega)); omega)) (by first | assumption | exact va_up_s | rfl | (refine (va_up_n ?_).trans ?_; rotate_left; (first | assumption | exact va_up_s | rfl | (refine (va_up_n ?_).trans ?_; rotate_left; (first | assumption | exact va_up_s | rfl | (refine (va_up_n ?_).trans ?_; rotate_left; (first | assumption | exact va_up_s | rfl | (refine (va_up_n ?_).trans ?_; rotate_left; (first | assumption | exact va_up_s | rfl | (refine (va_up_n ?_).trans ?_; rotate_left; (assumption); omega)); omega)); omega)); omega)); omega)) hf (by omega) (by omega) (by omega) (by omega) (Nat.le_of_ble_eq_true rfl) (Nat.le_of_ble_eq_true rfl) (Nat.le_of_ble_eq_true rfl) dJ14_copyOf_28 (fun H locs hM hS => ?_)
    refine lv_aload_n hx hb dJ14_copyOf_31 rfl (lh_at hl rfl) ?_
    refine W.widen (k := 1) (n := 300) (Nat.le_of_ble_eq_true rfl) (by omega) ?_
    exact hQ ▸ x_aret hx hb hr (Or.inr ⟨_, rfl⟩) hlk hS _ trivial ⟨⟨⟨_, va_up_s, bF_cpy (N0 := cap) (fun j _ => hf j) (by omega) bF_zero⟩, fun k k1 => by rw [va_up_n k1, va_up_n k1]⟩, hM⟩ dJ14_copyOf_32
  · omega
theorem nI_sub_le {a b : Nat} (ha : a < 2 ^ 30) (hb : b < 2 ^ 30) : nI a - nI b ≤ 0 ↔ a ≤ b := by
  rw [Int32.le_iff_toInt_le, nI_sub_toInt ha hb, Int32.toInt_zero]
  omega
theorem jk_ensure (l : Launch) (g : xg) (A : Nat → Prop) (w : xw_W) (nS nV nT a v cap n mn : Nat) (h : sB g w nS nV a v cap n) (h2 : mn ≤ 140) (hSV : nS ≠ nV) (hTV : nT ≠ nV) (hT : w nT = none) :
    Met l yJ10_ensureCapacityInternal (ws_ yJ10_ensureCapacityInternal cJ10_ensureCapacityInternal 3 none) (xrm 3 1 300) (xPw g A w [.ref a, .int (nI mn)]) (xQwv g A (fun u => (∃ v' cap', sB g u nS nV a v' cap' n ∧ mn ≤ cap') ∧ xAg2 w u nS nV)) 1 300 A := by
  obtain ⟨ml, f, g1, g2, g3, g4, g5⟩ := id h
  have hTS : nT ≠ nS := by
    intro z
    rw [z, g1] at hT
    cases hT
  refine x_start rfl (Nat.le_of_ble_eq_true rfl) ?_
  intro p e s m below meth c hx hb hr hlk hml hown hts hnm hE hM hS ls hl
  have hF : xFix p m c cJ10_ensureCapacityInternal 3 s _ RJ10 := ⟨hx, hb, hml, hown, hts⟩
  generalize hargs : List.toArray _ = args at hts hF ⊢
  generalize hQ : MQ below _ _ s _ _ A = Q
  refine lv_aload_n hx hb dJ10_ensureCapacityInternal_0 rfl (lh_at hl rfl) ?_
  refine xr_get (C := RJ11) (T := TJ11) (N := 4) (ci := 8) (n := nS) hx hb hts in_J11 hown hE hM (by first | assumption | exact va_up_s | rfl | (refine (va_up_n ?_).trans ?_; rotate_left; (first | assumption | exact va_up_s | rfl | (refine (va_up_n ?_).trans ?_; rotate_left; (first | assumption | exact va_up_s | rfl | (refine (va_up_n ?_).trans ?_; rotate_left; (first | assumption | exact va_up_s | rfl | (refine (va_up_n ?_).trans ?_; rotate_left; (first | assumption | exact va_up_s | rfl | (refine (va_up_n ?_).trans ?_; rotate_left; (assumption); omega)); omega)); omega)); omega)); omega)) rfl 0 (by decide) (hts _ q326) (fun _ h => h) rfl dJ10_ensureCapacityInternal_1 ?_
  refine xr_len (n := nV) hx hb hE hM (by first | assumption | exact va_up_s | rfl | (refine (va_up_n ?_).trans ?_; rotate_left; (first | assumption | exact va_up_s | rfl | (refine (va_up_n ?_).trans ?_; rotate_left; (first | assumption | exact va_up_s | rfl | (refine (va_up_n ?_).trans ?_; rotate_left; (first | assumption | exact va_up_s | rfl | (refine (va_up_n ?_).trans ?_; rotate_left; (first | assumption | exact va_up_s | rfl | (refine (va_up_n ?_).trans ?_; rotate_left; (assumption); omega)); omega)); omega)); omega)); omega)) rfl dJ10_ensureCapacityInternal_4 ?_
  refine lv_aload_n hx hb dJ10_ensureCapacityInternal_5 rfl (lh_at hl rfl) ?_
  refine xr_get (C := RJ11) (T := TJ11) (N := 4) (ci := 8) (n := nS) hx hb hts in_J11 hown hE hM (by first | assumption | exact va_up_s | rfl | (refine (va_up_n ?_).trans ?_; rotate_left; (first | assumption | exact va_up_s | rfl | (refine (va_up_n ?_).trans ?_; rotate_left; (first | assumption | exact va_up_s | rfl | (refine (va_up_n ?_).trans ?_; rotate_left; (first | assumption | exact va_up_s | rfl | (refine (va_up_n ?_).trans ?_; rotate_left; (first | assumption | exact va_up_s | rfl | (refine (va_up_n ?_).trans ?_; rotate_left; (assumption); omega)); omega)); omega)); omega)); omega)) rfl 1 (by decide) (hts _ q327) (fun _ h => h) rfl dJ10_ensureCapacityInternal_6 ?_
  refine n_ishr hx hb (by omega) (by omega) dJ10_ensureCapacityInternal_9 ?_
  rw [Nat.shiftRight_zero]
  refine x_istore_n hx hb dJ10_ensureCapacityInternal_10 rfl hl (by decide) (fun ls hl => ?_)
  refine lv_iload_n hx hb dJ10_ensureCapacityInternal_11 rfl (lh_at hl rfl) ?_
  refine lv_iload_n hx hb dJ10_ensureCapacityInternal_12 rfl (lh_at hl rfl) ?_
  refine lv_isub hx hb dJ10_ensureCapacityInternal_13 ?_
  refine lv_if_le (tgt := 38) hx hb dJ10_ensureCapacityInternal_14 (by decide) (fun c1 => ?_) (fun c1 => ?_)
  · have c2 := (nI_sub_le (by omega) (by omega)).mp c1
    refine W.widen (k := 1) (n := 300) (Nat.le_of_ble_eq_true rfl) (Nat.le_of_ble_eq_true rfl) ?_
    exact hQ ▸ x_vret hx hb hr hlk hS w ⟨⟨v, cap, h, c2⟩, fun _ _ _ => rfl⟩ hM dJ10_ensureCapacityInternal_38
  · have c2 : ¬ mn ≤ cap := fun z => c1 ((nI_sub_le (by omega) (by omega)).mpr z)
    refine lv_aload_n hx hb dJ10_ensureCapacityInternal_17 rfl (lh_at hl rfl) ?_
    refine lv_aload_n hx hb dJ10_ensureCapacityInternal_18 rfl (lh_at hl rfl) ?_
    refine xr_get (C := RJ11) (T := TJ11) (N := 4) (ci := 8) (n := nS) hx hb hts in_J11 hown hE hM (by first | assumption | exact va_up_s | rfl | (refine (va_up_n ?_).trans ?_; rotate_left; (first | assumption | exact va_up_s | rfl | (refine (va_up_n ?_).trans ?_; rotate_left; (first | assumption | exact va_up_s | rfl | (refine (va_up_n ?_).trans ?_; rotate_left; (first | assumption | exact va_up_s | rfl | (refine (va_up_n ?_).trans ?_; rotate_left; (first | assumption | exact va_up_s | rfl | (refine (va_up_n ?_).trans ?_; rotate_left; (assumption); omega)); omega)); omega)); omega)); omega)) rfl 0 (by decide) (hts _ q326) (fun _ h => h) rfl dJ10_ensureCapacityInternal_19 ?_
    refine lv_aload_n hx hb dJ10_ensureCapacityInternal_22 rfl (lh_at hl rfl) ?_
    refine lv_iload_n hx hb dJ10_ensureCapacityInternal_23 rfl (lh_at hl rfl) ?_
    refine x_calli (x_runU (As := [.int (nI mn)]) hF hE hS hM hl (jk_newCapacity l g A w nS nV a v cap n mn h (by omega) h2) (xw.recv hE hM (by first | assumption | exact va_up_s | rfl | (refine (va_up_n ?_).trans ?_; rotate_left; (first | assumption | exact va_up_s | rfl | (refine (va_up_n ?_).trans ?_; rotate_left; (first | assumption | exact va_up_s | rfl | (refine (va_up_n ?_).trans ?_; rotate_left; (first | assumption | exact va_up_s | rfl | (refine (va_up_n ?_).trans ?_; rotate_left; (first | assumption | exact va_up_s | rfl | (refine (va_up_n ?_).trans ?_; rotate_left; (assumption); omega)); omega)); omega)); omega)); omega)) rfl) q355 q1565 (x_selPriv ⟨by decide +kernel, by decide +kernel⟩ (hts _ q309) (va_Nw.use rfl (hE.2.2.1 _ q356 rfl)) (hts _ q357) (hts _ q1565)) q357 q51 q358 rfl ⟨by decide +kernel, by decide +kernel, by show _ = some 1; decide +kernel⟩ rfl rfl ⟨Nat.le_of_ble_eq_true rfl, Nat.le_of_ble_eq_true rfl⟩ rfl (Nat.le_of_ble_eq_true rfl) dJ10_ensureCapacityInternal_24 ⟨Nat.le_of_ble_eq_true rfl, Nat.le_of_ble_eq_true rfl⟩) hS (fun r uu H locs hq hM hS => ?_)
    obtain ⟨cp2, hc1, hc2, rfl⟩ := hq
    refine lv_aload_n hx hb dJ10_ensureCapacityInternal_27 rfl (lh_at hl rfl) ?_
    refine xr_get (C := RJ11) (T := TJ11) (N := 4) (ci := 8) (n := nS) hx hb hts in_J11 hown hE hM (by first | assumption | exact va_up_s | rfl | (refine (va_up_n ?_).trans ?_; rotate_left; (first | assumption | exact va_up_s | rfl | (refine (va_up_n ?_).trans ?_; rotate_left; (first | assumption | exact va_up_s | rfl | (refine (va_up_n ?_).trans ?_; rotate_left; (first | assumption | exact va_up_s | rfl | (refine (va_up_n ?_).trans ?_; rotate_left; (first | assumption | exact va_up_s | rfl | (refine (va_up_n ?_).trans ?_; rotate_left; (assumption); omega)); omega)); omega)); omega)); omega)) rfl 1 (by decide) (hts _ q327) (fun _ h => h) rfl dJ10_ensureCapacityInternal_28 ?_
    refine n_ishl hx hb (by omega) (by omega) dJ10_ensureCapacityInternal_31 ?_
    rw [Nat.shiftLeft_zero]
    refine x_callr (x_runS (As := [.ref v, .int (nI cp2)]) hF hE hS hM hl (jk_copyOfB l g A w nV nT v cap cp2 f g2 g5 (by omega) hc2 (fun z => hTV z.symm)) q368 q369 q55 q370 ⟨by decide +kernel, by decide +kernel, by show _ = some 2; decide +kernel⟩ rfl rfl ⟨Nat.le_of_ble_eq_true rfl, Nat.le_of_ble_eq_true rfl⟩ rfl (Nat.le_of_ble_eq_true rfl) dJ10_ensureCapacityInternal_32 ⟨Nat.le_of_ble_eq_true rfl, Nat.le_of_ble_eq_true rfl⟩) hS (fun u ra H locs hq hM hS => ?_)
    obtain ⟨⟨⟨f', hf1, hf2⟩, hag⟩, hM⟩ := hM
    have g1' := (hag nS (fun z => hTS z.symm)).trans g1
    refine xr_put (C := RJ11) (T := TJ11) (N := 4) (ci := 8) (n := nS) hx hb hts in_J11 tyJ11 tyJ11_ok nmJ11 hown hE hM hS (by first | assumption | exact va_up_s | rfl | (refine (va_up_n ?_).trans ?_; rotate_left; (first | assumption | exact va_up_s | rfl | (refine (va_up_n ?_).trans ?_; rotate_left; (first | assumption | exact va_up_s | rfl | (refine (va_up_n ?_).trans ?_; rotate_left; (first | assumption | exact va_up_s | rfl | (refine (va_up_n ?_).trans ?_; rotate_left; (first | assumption | exact va_up_s | rfl | (refine (va_up_n ?_).trans ?_; rotate_left; (assumption); omega)); omega)); omega)); omega)); omega)) rfl 0 (by decide) (hts _ q326) (fun _ h => h) rfl (tyJ11_ok 0 (by decide)) rfl rfl (Nat.le_of_ble_eq_true rfl) dJ10_ensureCapacityInternal_35 (fun H locs hM hS => ?_)
    have hM := xw.ren hM nV (n1 := nT) ((va_up_n hTS).trans hf1)
    refine hQ ▸ x_vret hx hb hr hlk hS _ ⟨⟨ra, cp2, ⟨ml, f', ?_, va_up_s, by omega, hc2, hf2⟩, hc1⟩, fun k k1 k2 => ?_⟩ hM dJ10_ensureCapacityInternal_38
    · rw [va_up_n hSV, va_up_n (fun z => hTS z.symm)]
      exact va_up_s
    · rw [va_up_n k2]
      by_cases k3 : k = nT
      · rw [k3, va_up_s, hT]
      · rw [va_up_n k3, va_up_n k1]
        exact hag k k3
