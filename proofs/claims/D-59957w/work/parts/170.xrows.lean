/-! ROWS of the x side: references, nest mates, casts, arrays of arrays, calls by interface, static fields -/
set_option maxRecDepth 100000
abbrev aQ (N : Nat) (f : Nat → Option Nat) : vp_A := (N, .inr (.inr (.inr (.inr f))))
theorem nI_ge0 {n : Nat} (h : n < 2 ^ 31) : ¬ nI n < 0 := nI_pos (by omega)
theorem arrayOver_ii {args : Array Value} {s : State} {t : FieldType} (h : (Cond.arrayOver (.array t)).before args s = true) :
    ∃ comp c k, s.vm.findClass (FieldType.array t).toString = some comp ∧ s.vm.classes[c]? = some k ∧ k.kind = .array comp (.array t) ∧ s.vm.findClass ("[" ++ (FieldType.array t).toString) = some c := by
  unfold Cond.before at h
  simp only [Cond.holds, Cond.value, beq_iff_eq] at h
  cases hc : s.vm.findClass (FieldType.array t).toString with
  | none => simp [hc] at h
  | some comp =>
    simp only [hc, Option.bind_some, Option.bind_eq_some_iff, Option.map_eq_some_iff] at h
    obtain ⟨c, hi, k, hk, hb⟩ := h
    obtain ⟨hlt, hp, -⟩ := Array.findIdx?_eq_some_iff_getElem.mp hi
    have hkk : s.vm.classes[c] = k := (Array.getElem?_eq_some_iff.mp hk).2
    rw [hkk] at hp
    cases hkind : k.kind with
    | array component ty =>
      rw [hkind] at hb hp
      simp at hb hp
      exact ⟨comp, c, k, rfl, hk, by rw [hkind, hp, hb.1], hb.2⟩
    | _ => rw [hkind] at hb; simp at hb
section XX
variable {p : Program} {l : Launch} {e : Env} {R : Room} {s : State} {m : MethodId} {args : Array Value} {below : List Frame} {meth : Method} {c : Code} {H : Heap} {locs : List Loc} {cells slots : Nat} {Q : State → Prop}
variable {cc : ByteArray} {pc nL : Nat} {ls : Array Slot} {rest : List Value} {g : xg} {A : Nat → Prop} {w : xw_W} {a : Nat} {own : String} {index : Nat}
/-- the world's cell changes at one name -/
theorem xw_put1 {n : Nat} {e0 e1 : va_E} {ws : va_W} {k0 : Nat} (hk : ws[k0]? = some (a, e0)) (he : w n = some (a, e0)) (h3 : ∀ n q, w n = some q → ∃ k : Nat, ws[k]? = some q) (h4 : ∀ n n' q q', w n = some q → w n' = some q' → q.1 = q'.1 → n = n')
    {H1 : Heap} (hP : va_P g.1 xCl (ws.set k0 (a, e1)) H1) (hD : va_D A (ws.set k0 (a, e1))) : xw g A (va_up w n (some (a, e1))) H1 := by
  obtain ⟨h5, h6⟩ := xw_set (e := e1) hk he h3 h4
  exact ⟨_, hP, hD, h5, h6⟩
theorem xw_add1 {n q : Nat} {e1 : va_E} {ws : va_W} {H1 : Heap} (hP0 : va_P g.1 xCl ws H) (hq : H.size ≤ q) (h3 : ∀ n q, w n = some q → ∃ k : Nat, ws[k]? = some q) (h4 : ∀ n n' q q', w n = some q → w n' = some q' → q.1 = q'.1 → n = n')
    (hP : va_P g.1 xCl (ws ++ [(q, e1)]) H1) (hD : va_D A (ws ++ [(q, e1)])) : xw g A (va_up w n (some (q, e1))) H1 := by
  obtain ⟨h5, h6⟩ := xw_push (n := n) (e := e1) hP0 hq h3 h4
  exact ⟨_, hP, hD, h5, h6⟩
theorem xr_qald (hexec : p.tables.exec = Jvm.exec) (hb : c.code = cc) (hE : xE g A s) (hM : xw g A w H) {n N i : Nat} {f : Nat → Option Nat} {y : Nat} (he : w n = some (a, .inl (g.2 1, aQ N f))) (hi : i < N) (hN : N < 2 ^ 31) (hy : f i = some y) (hdg : decode cc pc = .ok (.aaload, 1))
    (kk : W p l e R s m args below meth c H locs cells slots Q (F0 m (pc + 1) ls (.ref y :: rest))) : W p l e R s m args below meth c H locs cells slots Q (F0 m pc ls (.int (nI i) :: .ref a :: rest)) := by
  obtain ⟨ws, hP, hD, h3, h4⟩ := hM
  obtain ⟨q0, hq⟩ := h3 n _ he
  refine va_aldq (C := "java/lang/Object") hexec hb hE.1 hP q0 1 hq rfl (vp_in_nI hi hN) hdg ?_
  rw [nI_clamp (by omega), hy]
  exact kk
theorem xr_qast (hexec : p.tables.exec = Jvm.exec) (hb : c.code = cc) (hE : xE g A s) (hM : xw g A w H) (hS : va_S A s.heap H locs) {n N i n2 v ci : Nat} {r : vw_C} {vs : List Value} {f : Nat → Option Nat} (he : w n = some (a, .inl (g.2 1, aQ N f))) (hi : i < N) (hN : N < 2 ^ 31) (he2 : w n2 = some (v, .inr (ci, vs))) (hc : xCl[ci]? = some r) (hca : Cond.castable r.1 "java/lang/Object" ∈ lw_tbl) (hdg : decode cc pc = .ok (.aastore, 1))
    (kk : ∀ (H1 : Heap) (locs1 : List Loc), xw g A (va_up w n (some (a, .inl (g.2 1, aQ N (va_up f i (some v)))))) H1 → va_S A s.heap H1 locs1 → W p l e R s m args below meth c H1 locs1 cells slots Q (F0 m (pc + 1) ls rest)) : W p l e R s m args below meth c H locs cells slots Q (F0 m pc ls (.ref v :: .int (nI i) :: .ref a :: rest)) := by
  obtain ⟨ws, hP, hD, h3, h4⟩ := hM
  obtain ⟨q0, hq⟩ := h3 n _ he
  obtain ⟨q2, hq2⟩ := h3 n2 _ he2
  refine va_astqO (E := "java/lang/Object") hexec hb hE.1 hP hD hS q0 1 q2 ci hq rfl (hE.2.2.1 _ hca rfl) hq2 hc (vp_in_nI hi hN) hdg (fun H1 locs1 hP1 hD1 hS1 => kk H1 locs1 ?_ hS1)
  rw [nI_clamp (by omega)] at hP1 hD1
  exact xw_put1 hq he h3 h4 hP1 hD1
theorem xr_qnull (hexec : p.tables.exec = Jvm.exec) (hb : c.code = cc) (hE : xE g A s) (hM : xw g A w H) (hS : va_S A s.heap H locs) {n N i : Nat} {f : Nat → Option Nat} (he : w n = some (a, .inl (g.2 1, aQ N f))) (hi : i < N) (hN : N < 2 ^ 31) (hdg : decode cc pc = .ok (.aastore, 1))
    (kk : ∀ (H1 : Heap) (locs1 : List Loc), xw g A (va_up w n (some (a, .inl (g.2 1, aQ N (va_up f i none))))) H1 → va_S A s.heap H1 locs1 → W p l e R s m args below meth c H1 locs1 cells slots Q (F0 m (pc + 1) ls rest)) : W p l e R s m args below meth c H locs cells slots Q (F0 m pc ls (.null :: .int (nI i) :: .ref a :: rest)) := by
  obtain ⟨ws, hP, hD, h3, h4⟩ := hM
  obtain ⟨q0, hq⟩ := h3 n _ he
  refine va_astqN (C := "java/lang/Object") hexec hb hE.1 hP hD hS q0 1 hq rfl (vp_in_nI hi hN) hdg (fun H1 locs1 hP1 hD1 hS1 => kk H1 locs1 ?_ hS1)
  rw [nI_clamp (by omega)] at hP1 hD1
  exact xw_put1 hq he h3 h4 hP1 hD1
theorem xr_newq (hexec : p.tables.exec = Jvm.exec) (hb : c.code = cc) (hown : s.vm.findClass own = some m.cls) (hcl : (Cond.classLink own index "java/lang/Object").before args s = true) (hE : xE g A s) (hM : xw g A w H) (hS : va_S A s.heap H locs) (n : Nat) {N : Nat} (hN : N < 100000000) (hcells : cells + 1 ≤ R.cells) (hslots : slots + N ≤ R.slots) (hdg : decode cc pc = .ok (.anewarray index, 3))
    (kk : ∀ (q : Nat) (H1 : Heap), H.size ≤ q → xw g A (va_up w n (some (q, .inl (g.2 1, aQ N (fun _ => none))))) H1 → va_S A s.heap H1 locs →
      W p l e R s m args below meth c H1 locs (cells + 1) (slots + N) Q (F0 m (pc + 3) ls (.ref q :: rest))) : W p l e R s m args below meth c H locs cells slots Q (F0 m pc ls (.int (nI N) :: rest)) := by
  obtain ⟨ws, hP, hD, h3, h4⟩ := hM
  have hNc : (nI N).toNatClampNeg = N := nI_clamp (by omega)
  refine W.anew hexec hb hown hcl (va_AO.use (hE.2.2.1 _ q897 rfl)) rfl hdg rfl (nI_pos (by omega)) (by rw [hNc]; omega) hcells (by rw [hNc]; exact hslots) fun cA kA comp f1 f2 f3 f4 => ?_
  rw [hNc]
  have hcA : cA = g.2 1 := by
    obtain ⟨kB, comp2, -, -, -, b4⟩ := (hE.1.2 1 (g.2 1, .object "java/lang/Object") rfl).2
    exact Option.some.inj (f1.symm.trans b4)
  subst hcA
  generalize hH1 : H.push ({ cls := g.2 1, slots := Array.replicate N .null, vm := .none } : Cell) = H1
  have z1 : H1.size = H.size + 1 := by rw [← hH1, Array.size_push]
  have e1 : H1[H.size]? = some (arrV (g.2 1) N (fun _ => .null)) := by rw [← hH1, Array.getElem?_push_size, ← arrV_new]
  have o1 : ∀ q : Nat, q < H.size → H1[q]? = H[q]? := fun q hq => by rw [← hH1, Array.getElem?_push, if_neg (Nat.ne_of_lt hq)]
  have hk : ∀ (k : Nat) (x : Nat × va_E), ws[k]? = some x → H1[x.1]? = H[x.1]? := fun k x hx => o1 x.1 ((hP k x hx).lt)
  refine kk H.size H1 (Nat.le_refl _) (xw_add1 hP (Nat.le_refl _) h3 h4 ((hP.kept hk).app (fun k x hx => ?_)) (hD.push hP rfl (hE.2.1 _ hS.1))) ⟨Nat.le_trans hS.1 (by omega), fun x h1 h2 => (o1 x (Nat.lt_of_lt_of_le h1 hS.1)).trans (hS.2.1 x h1 h2), hS.2.2⟩
  have hz : k < 1 := (List.getElem?_eq_some_iff.mp hx).1
  rw [show k = 0 by omega] at hx
  cases hx
  show H1[H.size]? = some (vp_cell _ _)
  rw [vp_cell_q]
  exact e1
/-! arrays of int arrays -/
theorem xK_ii (hE : xE g A s) : ∃ comp k, s.vm.findClass "[I" = some comp ∧ comp = g.2 0 ∧ s.vm.classes[g.2 2]? = some k ∧ k.kind = .array comp (.array .int) ∧ s.vm.findClass "[[I" = some (g.2 2) := by
  have e1 : (FieldType.array .int).toString = "[I" := by decide +kernel
  have e2 : "[" ++ (FieldType.array .int).toString = "[[I" := by decide +kernel
  obtain ⟨comp, cI, k, h1, h2, h3, h4⟩ := arrayOver_ii (args := #[]) (hE.2.2.1 _ q110 rfl)
  have hR : s.vm.findClass ("[" ++ (FieldType.array .int).toString) = some (g.2 2) := (hE.1.2 2 (g.2 2, .array .int) rfl).2
  have hc : cI = g.2 2 := Option.some.inj (h4.symm.trans hR)
  subst hc
  rw [e1] at h1
  rw [e2] at h4
  have hR0 := va_nm_int (s := s) (cA := g.2 0) (hE.1.2 0 (g.2 0, .int) rfl).2
  exact ⟨comp, k, h1, Option.some.inj (h1.symm.trans hR0), h2, h3, h4⟩
theorem xr_iiald (hexec : p.tables.exec = Jvm.exec) (hb : c.code = cc) (hE : xE g A s) (hM : xw g A w H) {n N i : Nat} {f : Nat → Option Nat} {y : Nat} (he : w n = some (a, .inl (g.2 2, aQ N f))) (hi : i < N) (hN : N < 2 ^ 31) (hy : f i = some y) (hdg : decode cc pc = .ok (.aaload, 1))
    (kk : W p l e R s m args below meth c H locs cells slots Q (F0 m (pc + 1) ls (.ref y :: rest))) : W p l e R s m args below meth c H locs cells slots Q (F0 m pc ls (.int (nI i) :: .ref a :: rest)) := by
  obtain ⟨ws, hP, hD, h3, h4⟩ := hM
  obtain ⟨q0, hq⟩ := h3 n _ he
  have hin : vp_in (nI i) N := vp_in_nI hi hN
  have hcl : (nI i).toNatClampNeg = i := nI_clamp (by omega)
  exact W.aald (v := .ref y) (ty := .array .int) hexec hb (hP q0 _ hq) ((hE.1.2 2 (g.2 2, .array .int) rfl).1 N (fun j => va_rf (f j))) rfl (fun q => by cases q) (by show ¬ (_ < 0 ∨ (arrV _ _ _).slots.size ≤ _); rw [arrV_size]; exact hin) (by show (arrV _ _ _).slots[_]? = _; rw [hcl, arrV_read _ _ hi, hy]; rfl) rfl rfl hdg kk
theorem xr_iiast (hexec : p.tables.exec = Jvm.exec) (hb : c.code = cc) (hE : xE g A s) (hM : xw g A w H) (hS : va_S A s.heap H locs) {n N i n2 v : Nat} {x : vp_A} {f : Nat → Option Nat} (he : w n = some (a, .inl (g.2 2, aQ N f))) (hi : i < N) (hN : N < 2 ^ 31) (he2 : w n2 = some (v, .inl (g.2 0, x))) (hdg : decode cc pc = .ok (.aastore, 1))
    (kk : ∀ (H1 : Heap) (locs1 : List Loc), xw g A (va_up w n (some (a, .inl (g.2 2, aQ N (va_up f i (some v)))))) H1 → va_S A s.heap H1 locs1 → W p l e R s m args below meth c H1 locs1 cells slots Q (F0 m (pc + 1) ls rest)) : W p l e R s m args below meth c H locs cells slots Q (F0 m pc ls (.ref v :: .int (nI i) :: .ref a :: rest)) := by
  obtain ⟨comp, kA, k0, k1, k2, k3, k4⟩ := xK_ii hE
  obtain ⟨ws, hP, hD, h3, h4⟩ := hM
  obtain ⟨q0, hq⟩ := h3 n _ he
  obtain ⟨q2, hq2⟩ := h3 n2 _ he2
  have hcl : (nI i).toNatClampNeg = i := nI_clamp (by omega)
  have hvm0 : (vp_cell (g.2 0) x).vm = .none := by
    obtain ⟨n, f | f | f | f | f⟩ := x <;> rfl
  have hcl0 : (vp_cell (g.2 0) x).cls = g.2 0 := by
    obtain ⟨n, f | f | f | f | f⟩ := x <;> rfl
  obtain ⟨kE, hkE, -⟩ := Vm.findClass_spec k0
  rw [k1] at hkE k3
  refine W.aast hexec hb (hP q0 _ hq) (fun q h => by cases h) (fun h => by cases h) k2 k3 rfl hkE ⟨nI_ge0 (by omega), by show _ < (arrV _ _ _).slots.size; rw [arrV_size, hcl]; exact hi⟩ (hP q2 _ hq2) (fun q h => by rw [hvm0] at h; cases h) (by rw [hcl0]; exact hkE) (by rw [hcl0]; exact va_asg _ _) rfl rfl hdg fun H1 e z oq => ?_
  rw [hcl] at e
  refine kk H1 _ (xw_put1 hq he h3 h4 (hP.set hD hq ?_ oq) (hD.set hq)) (hS.put z oq (hD.2 q0 _ hq))
  show H1[a]? = some (vp_cell _ _)
  rw [e]
  rw [vp_cell_q, vp_cell_q, arrV_store]
  congr 2
  funext q
  by_cases hq' : q = i
  · subst hq'
    simp [updV, va_up, va_rf]
  · simp [updV, va_up, hq']
end XX
