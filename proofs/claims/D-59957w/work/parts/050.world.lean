/-! WORLDS BY NAMES: a world is a partial map from names to (address, cell); rows over it; contracts' shape; calls -/
set_option maxRecDepth 100000
/-- the classes of the system, by number -/
abbrev xCl : List vw_C := [(RX1, TX1, 12), (RX2, TX2, 4), (RX3, TX3, 22), (RX4, TX4, 2), (RX5, TX5, 4), (RX6, TX6, 3), (RJ2, TJ2, 3), (RJ23, TJ23, 4), (RJ11, TJ11, 4), (RJ9, TJ9, 4)]
abbrev xg : Type := va_G × (Nat → ClassId)
abbrev xTy (g : xg) : List (ClassId × FieldType) := [(g.2 0, .int), (g.2 1, .object "java/lang/Object"), (g.2 2, .array .int), (g.2 3, .long), (g.2 4, .byte)]
abbrev xK (g : xg) (U : State) : Prop := va_K g.1 xCl (xTy g) U
theorem xK.warm {g : xg} {s U : State} (hW : s.WarmedH U.vm) (h : xK g s) : xK g U := va_K.moved hW.alike h
/-! ### what the tables and the constants hold all through a run -/
def xKnd : Cond → Bool
  | .fieldLinkNest .. => true
  | .methodLinkNest .. => true
  | .castable .. => true
  | .declares .. => true
  | .publicMethod .. => true
  | .privateMethod .. => true
  | .unhidden .. => true
  | .arrayOver .. => true
  | _ => false
theorem xAO_same {ty : FieldType} {u U : State} (hv : u.vm = U.vm) (h : va_Nw (.arrayOver ty) u) : va_Nw (.arrayOver ty) U := by
  unfold va_Nw at h ⊢
  simp only [Cond.before, Cond.holds, Cond.value] at h ⊢
  rw [← hv]
  exact h
theorem xNw_warm {w : Cond} (hw : xKnd w = true) {s U : State} (hW : s.WarmedH U.vm) (h : va_Nw w s) : va_Nw w U := by
  cases w <;> simp only [xKnd, Bool.false_eq_true] at hw
  case fieldLinkNest => exact va_Nw.warmF hW h
  case methodLinkNest => exact va_Nw.warmM hW h
  case castable => exact va_Nw.warmC hW h
  case declares => exact va_Nw.warmD hW h
  case publicMethod => exact va_tabs rfl (rfl : (s.setVm U.vm).vm = U.vm) (by rw [Cond.publicMethod_setVm hW.alike]; exact h)
  case privateMethod => exact va_tabs rfl (rfl : (s.setVm U.vm).vm = U.vm) (by rw [Cond.privateMethod_setVm hW.alike]; exact h)
  case unhidden => exact va_tabs rfl (rfl : (s.setVm U.vm).vm = U.vm) (by rw [Cond.unhidden_setVm hW.alike]; exact h)
  case arrayOver ty => exact xAO_same (rfl : (s.setVm U.vm).vm = U.vm) (by show (Cond.arrayOver ty).before #[] (s.setVm U.vm) = true; rw [Cond.arrayOver_setVmC hW.alike]; exact h)
theorem xNw_same {w : Cond} (hw : xKnd w = true) {s U : State} (hv : s.vm = U.vm) (h : va_Nw w s) : va_Nw w U := by
  cases w <;> simp only [xKnd, Bool.false_eq_true] at hw
  case arrayOver => exact xAO_same hv h
  all_goals exact va_Nw.same rfl hv h
def xT (U : State) : Prop := ∀ w ∈ lw_tbl, xKnd w = true → va_Nw w U
theorem xT.warm {s U : State} (hW : s.WarmedH U.vm) (h : xT s) : xT U := fun w hw hk => xNw_warm hk hW (h w hw hk)
theorem xT.same {s U : State} (hv : s.vm = U.vm) (h : xT s) : xT U := fun w hw hk => xNw_same hk hv (h w hw hk)
abbrev xLst (n d : String) : MethodName := ⟨"java/util/List", n, d⟩
/-- calls through an interface: the receiver's class, what is named, what runs -/
def xFl : List (String × MethodName × MethodName) := [
  (RJ2, xLst "size" "()I", yJ2_size), (RJ2, xLst "isEmpty" "()Z", yJ2_isEmpty), (RJ2, xLst "get" "(I)Ljava/lang/Object;", yJ2_get),
  (RJ2, xLst "add" "(ILjava/lang/Object;)V", yJ2_add), (RJ2, xLst "add" "(Ljava/lang/Object;)Z", yJ2_add_2), (RJ2, xLst "iterator" "()Ljava/util/Iterator;", yJ2_iterator),
  (RJ2, xLst "remove" "(I)Ljava/lang/Object;", yJ2_remove), (RJ2, xLst "contains" "(Ljava/lang/Object;)Z", yJ2_contains),
  (RJ23, ⟨"java/util/Iterator", "hasNext", "()Z"⟩, yJ23_hasNext), (RJ23, ⟨"java/util/Iterator", "next", "()Ljava/lang/Object;"⟩, yJ23_next),
  (RX4, ⟨"java/lang/Comparable", "compareTo", "(Ljava/lang/Object;)I"⟩, yX4_compareTo)]
def xF (U : State) : Prop := ∀ q ∈ xFl, va_Fw q.1 q.2.1 q.2.2 U
theorem xFl_no : ∀ q ∈ xFl, q.2.1.cls ≠ "java/lang/invoke/MethodHandle" ∧ q.2.1.cls ≠ "java/lang/invoke/VarHandle" := by decide +kernel
theorem xF.moved {s U : State} (hvm : s.vm.Alike U.vm) (h : xF s) : xF U := fun q hq => va_Fw.moved (xFl_no q hq) hvm (h q hq)
/-- the String constants of the messages -/
def xLl : List (Nat × String) := [(105, "product"), (87, "no "), (93, " "), (135, "aisle"), (137, "position"), (143, "the product cannot be put there"), (149, "there is a wave"), (166, "a product is at no place"), (121, " is not from "), (123, " to "), (175, "there are too many orders"), (111, "order"), (196, "the line cannot be written"), (217, "the capacity cannot be set"), (225, "no order can be taken"), (115, "batch"), (275, "there are too many places"), (289, "stop")]
/-- a constant String: its object at a, its n bytes at v -/
def xStr (a v n : Nat) (A : Nat → Prop) (U : State) (H : Heap) : Prop := va_O "java/lang/String" a A U H ∧ va_OF "java/lang/String" "coder" "B" (.int 0) a A U H ∧
  va_OF "java/lang/String" "value" "[B" (.ref v) a A U H ∧ ∃ b : Nat → Int32, (∀ j, j < n → fits .byte (.int (b j)) = true) ∧ va_T .byte v n (fun j => .int (b j)) A U H
/-- the constant at place k of the class's pool lies at the addresses that the tables' numbers name -/
def xLit (g : xg) (k : Nat) (tx : String) (A : Nat → Prop) (U : State) (H : Heap) : Prop := vk_R "Aislewright" k tx (g.2 (100 + k)) U ∧ xStr (g.2 (100 + k)) (g.2 (400 + k)) tx.length A U H
def xDig (n : String) (A : Nat → Prop) (U : State) (H : Heap) : Prop := ∃ (v : Nat) (b : Nat → Int32), va_Z "java/lang/Integer" n "[B" (.ref v) A U H ∧ va_T .byte v 100 (fun j => .int (b j)) A U H
/-- the constants; place 5 of the tables' numbers is the empty array that new lists share -/
def xC (g : xg) (A : Nat → Prop) (U : State) (H : Heap) : Prop :=
  va_Z "java/util/ArrayList" "DEFAULTCAPACITY_EMPTY_ELEMENTDATA" "[Ljava/lang/Object;" (.ref (g.2 5)) A U H ∧
  va_T (.object "java/lang/Object") (g.2 5) 0 (fun _ => .null) A U H ∧
  vx_Zq "java/lang/Throwable" "UNASSIGNED_STACK" "[Ljava/lang/StackTraceElement;" A U H ∧
  vx_Zq "java/lang/Throwable" "SUPPRESSED_SENTINEL" "Ljava/util/List;" A U H ∧
  va_Z "java/lang/String" "COMPACT_STRINGS" "Z" (.int 1) A U H ∧
  xDig "DigitTens" A U H ∧ xDig "DigitOnes" A U H ∧ va_Mi "[Ljava/lang/Object;" (g.2 6) U ∧ ∀ q ∈ xLl, xLit g q.1 q.2 A U H
theorem xC.go {g : xg} {A : Nat → Prop} {s U : State} {H H1 : Heap} (hW : s.WarmedH U.vm) (hq : ∀ a : Nat, a < H.size → ¬ A a → H1[a]? = H[a]?) (h : xC g A s H) : xC g A U H1 := by
  have hvm := hW.alike
  obtain ⟨h1, h2, h3, h4, h5, ⟨v6, b6, h6, h6'⟩, ⟨v7, b7, h7, h7'⟩, h9, h8⟩ := h
  refine ⟨(h1.moved hvm).kept hq, (h2.moved hvm).kept hq, (h3.moved hvm).kept hq, (h4.moved hvm).kept hq, (h5.moved hvm).kept hq, ⟨v6, b6, (h6.moved hvm).kept hq, (h6'.moved hvm).kept hq⟩, ⟨v7, b7, (h7.moved hvm).kept hq, (h7'.moved hvm).kept hq⟩, h9.moved hvm, fun q hq' => ?_⟩
  obtain ⟨r, o1, o2, o3, b, hn, o4⟩ := h8 q hq'
  exact ⟨r.warm hW, (o1.moved hvm).kept hq, (o2.moved hvm).kept hq, (o3.moved hvm).kept hq, b, hn, (o4.moved hvm).kept hq⟩
theorem xC.narrow {g : xg} {A B : Nat → Prop} {U : State} {H : Heap} (hAB : ∀ q, B q → A q) (h : xC g A U H) : xC g B U H := by
  obtain ⟨h1, h2, h3, h4, h5, ⟨v6, b6, h6, h6'⟩, ⟨v7, b7, h7, h7'⟩, h9, h8⟩ := h
  refine ⟨h1.narrow hAB, h2.narrow hAB, h3.narrow hAB, h4.narrow hAB, h5.narrow hAB, ⟨v6, b6, h6.narrow hAB, h6'.narrow hAB⟩, ⟨v7, b7, h7.narrow hAB, h7'.narrow hAB⟩, h9, fun q hq' => ?_⟩
  obtain ⟨r, o1, o2, o3, b, hn, o4⟩ := h8 q hq'
  exact ⟨r, o1.narrow hAB, o2.narrow hAB, o3.narrow hAB, b, hn, o4.narrow hAB⟩
theorem xC.same {g : xg} {A : Nat → Prop} {s U : State} {H : Heap} (hv : s.vm = U.vm) (h : xC g A s H) : xC g A U H := by
  have hvm : s.vm.Alike U.vm := by rw [hv]; exact Vm.Alike.refl _
  obtain ⟨h1, h2, h3, h4, h5, ⟨v6, b6, h6, h6'⟩, ⟨v7, b7, h7, h7'⟩, h9, h8⟩ := h
  refine ⟨h1.moved hvm, h2.moved hvm, h3.moved hvm, h4.moved hvm, h5.moved hvm, ⟨v6, b6, h6.moved hvm, h6'.moved hvm⟩, ⟨v7, b7, h7.moved hvm, h7'.moved hvm⟩, h9.moved hvm, fun q hq' => ?_⟩
  obtain ⟨r, o1, o2, o3, b, hn, o4⟩ := h8 q hq'
  exact ⟨r.same hv.symm, o1.moved hvm, o2.moved hvm, o3.moved hvm, b, hn, o4.moved hvm⟩
/-- what holds around every method: the tables, that new cells are the world's, the tables' special words, the constants -/
def xE (g : xg) (A : Nat → Prop) (U : State) : Prop := xK g U ∧ (∀ q : Nat, U.heap.size ≤ q → A q) ∧ xT U ∧ xF U ∧ xC g A U U.heap
theorem xE.go {g : xg} {A : Nat → Prop} {s U : State} {H : Heap} {locs : List Loc} (hS : va_S A s.heap H locs) (hU : U.heap = H) (hW : s.WarmedH U.vm) (h : xE g A s) : xE g A U :=
  ⟨h.1.warm hW, fun q hq => h.2.1 q (Nat.le_trans hS.1 (by rw [hU] at hq; exact hq)), h.2.2.1.warm hW, h.2.2.2.1.moved hW.alike, h.2.2.2.2.go hW (by rw [hU]; exact hS.2.1)⟩
theorem xE.blind {g : xg} {A : Nat → Prop} {U : State} {fr : JFrame} {mk : MethodId} {a : Array Value} (h : xE g A U) : xE g A (U.calling fr mk a) :=
  ⟨va_K.moved (u := U) (U := U.calling fr mk a) (Vm.Alike.refl U.vm) h.1, h.2.1, xT.same (s := U) (U := U.calling fr mk a) rfl h.2.2.1, xF.moved (s := U) (U := U.calling fr mk a) (Vm.Alike.refl U.vm) h.2.2.2.1, xC.same (s := U) (U := U.calling fr mk a) rfl h.2.2.2.2⟩
/-! ## worlds -/
abbrev xw_W : Type := Nat → Option (Nat × va_E)
def xw (g : xg) (A : Nat → Prop) (w : xw_W) (H : Heap) : Prop :=
  ∃ ws : va_W, va_P g.1 xCl ws H ∧ va_D A ws ∧ (∀ n q, w n = some q → ∃ k : Nat, ws[k]? = some q) ∧ (∀ n n' q q', w n = some q → w n' = some q' → q.1 = q'.1 → n = n')
theorem va_up_s {α : Type} {f : Nat → α} {k : Nat} {v : α} : va_up f k v k = v := by simp [va_up]
theorem va_up_n {α : Type} {f : Nat → α} {k j : Nat} {v : α} (h : j ≠ k) : va_up f k v j = f j := by simp [va_up, h]
theorem xw_set {w : xw_W} {ws : va_W} {k n a : Nat} {e0 e : va_E} (hk : ws[k]? = some (a, e0)) (hw : w n = some (a, e0))
    (h3 : ∀ n q, w n = some q → ∃ k : Nat, ws[k]? = some q) (h4 : ∀ n n' q q', w n = some q → w n' = some q' → q.1 = q'.1 → n = n') :
    (∀ n' q, va_up w n (some (a, e)) n' = some q → ∃ j : Nat, (ws.set k (a, e))[j]? = some q) ∧
    (∀ n1 n2 q q', va_up w n (some (a, e)) n1 = some q → va_up w n (some (a, e)) n2 = some q' → q.1 = q'.1 → n1 = n2) := by
  have hl := (List.getElem?_eq_some_iff.mp hk).1
  constructor
  · intro n' q h
    by_cases hn : n' = n
    · subst hn
      rw [va_up_s] at h
      cases h
      exact ⟨k, List.getElem?_set_self hl⟩
    · rw [va_up_n hn] at h
      obtain ⟨j, hj⟩ := h3 n' q h
      refine ⟨j, ?_⟩
      have hjk : k ≠ j := by
        intro e
        subst e
        rw [hk] at hj
        cases hj
        exact hn (h4 _ _ _ _ h hw rfl)
      rw [List.getElem?_set_ne hjk]
      exact hj
  · have key : ∀ n1 q, va_up w n (some (a, e)) n1 = some q → ∃ q0, w n1 = some q0 ∧ q0.1 = q.1 := by
      intro n1 q h
      by_cases hn : n1 = n
      · subst hn
        rw [va_up_s] at h
        cases h
        exact ⟨_, hw, rfl⟩
      · rw [va_up_n hn] at h
        exact ⟨q, h, rfl⟩
    intro n1 n2 q q' h1 h2 e
    obtain ⟨a1, b1, c1⟩ := key n1 q h1
    obtain ⟨a2, b2, c2⟩ := key n2 q' h2
    exact h4 _ _ _ _ b1 b2 (c1.trans (e.trans c2.symm))
theorem xw_push {g : xg} {w : xw_W} {ws : va_W} {H : Heap} {n : Nat} {a : Nat} {e : va_E} (hP : va_P g.1 xCl ws H) (ha : H.size ≤ a)
    (h3 : ∀ n q, w n = some q → ∃ k : Nat, ws[k]? = some q) (h4 : ∀ n n' q q', w n = some q → w n' = some q' → q.1 = q'.1 → n = n') :
    (∀ n' q, va_up w n (some (a, e)) n' = some q → ∃ j : Nat, (ws ++ [(a, e)])[j]? = some q) ∧
    (∀ n1 n2 q q', va_up w n (some (a, e)) n1 = some q → va_up w n (some (a, e)) n2 = some q' → q.1 = q'.1 → n1 = n2) := by
  have hlt : ∀ n' q, w n' = some q → q.1 < a := by
    intro n' q h
    obtain ⟨j, hj⟩ := h3 n' q h
    exact Nat.lt_of_lt_of_le ((hP j q hj).lt) ha
  constructor
  · intro n' q h
    by_cases hn : n' = n
    · subst hn
      rw [va_up_s] at h
      cases h
      exact ⟨ws.length, by simp⟩
    · rw [va_up_n hn] at h
      obtain ⟨j, hj⟩ := h3 n' q h
      have hl := (List.getElem?_eq_some_iff.mp hj).1
      exact ⟨j, by rw [List.getElem?_append_left hl]; exact hj⟩
  · intro n1 n2 q q' h1 h2 e
    by_cases e1 : n1 = n <;> by_cases e2 : n2 = n
    · rw [e1, e2]
    · subst e1
      rw [va_up_s] at h1
      rw [va_up_n e2] at h2
      cases h1
      have := hlt _ _ h2
      simp only at e
      omega
    · subst e2
      rw [va_up_s] at h2
      rw [va_up_n e1] at h1
      cases h2
      have := hlt _ _ h1
      simp only at e
      omega
    · rw [va_up_n e1] at h1
      rw [va_up_n e2] at h2
      exact h4 _ _ _ _ h1 h2 e
/-- fewer names, or the same under another reading -/
theorem xw.mono {g : xg} {A : Nat → Prop} {w w' : xw_W} {H : Heap} (h : xw g A w H) (hw : ∀ n q, w' n = some q → w n = some q) : xw g A w' H := by
  obtain ⟨ws, hP, hD, h3, h4⟩ := h
  exact ⟨ws, hP, hD, fun n q e => h3 n q (hw n q e), fun n n' q q' a b => h4 n n' q q' (hw _ _ a) (hw _ _ b)⟩
theorem xw.eq {g : xg} {A : Nat → Prop} {w w' : xw_W} {H : Heap} (h : xw g A w H) (hw : ∀ n, w' n = w n) : xw g A w' H := h.mono (fun n q e => by rw [← hw]; exact e)
theorem xw.inj {g : xg} {A : Nat → Prop} {w : xw_W} {H : Heap} (h : xw g A w H) {n n' : Nat} {q q' : Nat × va_E} (h1 : w n = some q) (h2 : w n' = some q') (hn : n ≠ n') : q.1 ≠ q'.1 := by
  obtain ⟨ws, hP, hD, h3, h4⟩ := h
  exact fun e => hn (h4 _ _ _ _ h1 h2 e)
theorem xw.in {g : xg} {A : Nat → Prop} {w : xw_W} {H : Heap} (h : xw g A w H) {n : Nat} {q : Nat × va_E} (h1 : w n = some q) : A q.1 := by
  obtain ⟨ws, hP, hD, h3, h4⟩ := h
  obtain ⟨k, hk⟩ := h3 _ _ h1
  exact hD.2 _ _ hk
theorem xw.lt {g : xg} {A : Nat → Prop} {w : xw_W} {H : Heap} (h : xw g A w H) {n : Nat} {q : Nat × va_E} (h1 : w n = some q) : q.1 < H.size := by
  obtain ⟨ws, hP, hD, h3, h4⟩ := h
  obtain ⟨k, hk⟩ := h3 _ _ h1
  exact (hP _ _ hk).lt
/-- the world stays where its cells do -/
theorem xw.kept {g : xg} {A : Nat → Prop} {w : xw_W} {H H1 : Heap} (h : xw g A w H) (hq : ∀ n q, w n = some q → H1[q.1]? = H[q.1]?) : xw g A w H1 := by
  obtain ⟨ws, hP, hD, h3, h4⟩ := h
  classical
  let ok : Nat × va_E → Bool := fun q => decide (∃ n, w n = some q)
  have hsub : ∀ (l : va_W) (k : Nat) (q : Nat × va_E), (l.filter ok)[k]? = some q → q ∈ l ∧ ∃ n, w n = some q := by
    intro l k q hk
    have := List.mem_filter.mp (List.mem_of_getElem? hk)
    exact ⟨this.1, of_decide_eq_true this.2⟩
  refine ⟨ws.filter ok, fun k q hk => ?_, ⟨?_, fun k q hk => ?_⟩, fun n q e => ?_, h4⟩
  · obtain ⟨h1, n, hn⟩ := hsub ws k q hk
    obtain ⟨j, hj⟩ := List.getElem?_of_mem h1
    exact (hP j q hj).kept (hq n q hn)
  · have hnd : ∀ (l : va_W), (∀ (i j : Nat) (p q : Nat × va_E), l[i]? = some p → l[j]? = some q → p.1 = q.1 → i = j) → ∀ (i j : Nat) (p q : Nat × va_E), (l.filter ok)[i]? = some p → (l.filter ok)[j]? = some q → p.1 = q.1 → i = j := by
      intro l
      induction l with
      | nil => intro _ i j p q hi; simp at hi
      | cons x t ih =>
        intro hl i j p q hi hj e
        have ht : ∀ (i j : Nat) (p q : Nat × va_E), t[i]? = some p → t[j]? = some q → p.1 = q.1 → i = j := by
          intro i j p q a b e
          have := hl (i + 1) (j + 1) p q (by simpa using a) (by simpa using b) e
          omega
        by_cases hx : ok x = true
        · rw [List.filter_cons_of_pos hx] at hi hj
          cases i with
          | zero =>
            cases j with
            | zero => rfl
            | succ j =>
              simp only [List.getElem?_cons_zero, Option.some.injEq] at hi
              simp only [List.getElem?_cons_succ] at hj
              obtain ⟨h1, -⟩ := hsub t j q hj
              obtain ⟨j', hj'⟩ := List.getElem?_of_mem h1
              have := hl 0 (j' + 1) p q (by simp [hi]) (by simpa using hj') e
              omega
          | succ i =>
            cases j with
            | zero =>
              simp only [List.getElem?_cons_zero, Option.some.injEq] at hj
              simp only [List.getElem?_cons_succ] at hi
              obtain ⟨h1, -⟩ := hsub t i p hi
              obtain ⟨i', hi'⟩ := List.getElem?_of_mem h1
              have := hl (i' + 1) 0 p q (by simpa using hi') (by simp [hj]) e
              omega
            | succ j =>
              simp only [List.getElem?_cons_succ] at hi hj
              rw [ih ht i j p q hi hj e]
        · rw [List.filter_cons_of_neg hx] at hi hj
          exact ih ht i j p q hi hj e
    exact hnd ws hD.1
  · obtain ⟨h1, -⟩ := hsub ws k q hk
    obtain ⟨j, hj⟩ := List.getElem?_of_mem h1
    exact hD.2 j q hj
  · obtain ⟨k, hk⟩ := h3 n q e
    exact List.getElem?_of_mem (List.mem_filter.mpr ⟨List.mem_of_getElem? hk, decide_eq_true ⟨n, e⟩⟩)
/-! ## locals as a function -/
def lh (ls : Array Slot) (nL : Nat) (lf : Nat → Option Value) : Prop := ∃ lv : List (Nat × Value), lv_has ls nL lv ∧ ∀ i v, lf i = some v → (i, v) ∈ lv
def xl (l : List (Nat × Value)) : Nat → Option Value := fun i => (l.find? (fun q => q.1 == i)).map (fun q => q.2)
def xl_all (lf : Nat → Option Value) : List (Nat × Value) → Prop
  | [] => True
  | q :: t => lf q.1 = some q.2 ∧ xl_all lf t
theorem xl_all_mem {lf : Nat → Option Value} : ∀ {l : List (Nat × Value)}, xl_all lf l → ∀ q ∈ l, lf q.1 = some q.2
  | [], _, q, h => absurd h List.not_mem_nil
  | x :: t, h, q, hq => by
    rcases List.mem_cons.mp hq with e | e
    · rw [e]; exact h.1
    · exact xl_all_mem h.2 q e
theorem lh_at {ls : Array Slot} {nL : Nat} {lf : Nat → Option Value} (h : lh ls nL lf) {i : Nat} {v : Value} (hv : lf i = some v) : ls[i]? = some (.val v) := by
  obtain ⟨lv, h1, h2⟩ := h
  exact h1.2.2 (i, v) (h2 i v hv)
theorem lh_size {ls : Array Slot} {nL : Nat} {lf : Nat → Option Value} (h : lh ls nL lf) : ls.size = nL := by
  obtain ⟨lv, h1, h2⟩ := h
  exact h1.1
theorem lh_of {ls : Array Slot} {nL : Nat} {l : List (Nat × Value)} (h : lv_has ls nL l) : lh ls nL (xl l) := by
  refine ⟨l, h, fun i v e => ?_⟩
  unfold xl at e
  cases hf : l.find? (fun q => q.1 == i) with
  | none => rw [hf] at e; cases e
  | some q =>
    rw [hf] at e
    have h1 := List.mem_of_find?_eq_some hf
    have h2 : q.1 = i := by simpa using List.find?_some hf
    cases e
    rw [← h2]
    exact h1
/-- at a loop's head: the named locals -/
theorem lh_sub {ls : Array Slot} {nL : Nat} {lf : Nat → Option Value} (h : lh ls nL lf) (l : List (Nat × Value)) (ha : xl_all lf l) : lh ls nL (xl l) := by
  obtain ⟨lv, h1, h2⟩ := h
  exact lh_of (l := l) ⟨h1.1, h1.2.1, fun q hq => h1.2.2 q (h2 q.1 q.2 (xl_all_mem ha q hq))⟩
/-- what a store of one slot leaves -/
def xl_put (lf : Nat → Option Value) (i : Nat) (v : Value) : Nat → Option Value := fun j => if j = i then some v else if j + 1 = i then (match lf j with | some u => if u.category = 2 then none else some u | none => none) else lf j
theorem lh_put {nL : Nat} {lf : Nat → Option Value} {i : Nat} {v : Value} {lv : List (Nat × Value)} (h2 : ∀ i v, lf i = some v → (i, v) ∈ lv) {ls' : Array Slot}
    (h : lv_has ls' nL ((i, v) :: lv.filter (fun q => !(q.1 == i) && !(q.1 + 1 == i && q.2.category == 2)))) : lh ls' nL (xl_put lf i v) := by
  refine ⟨_, h, fun j u e => ?_⟩
  unfold xl_put at e
  by_cases hj : j = i
  · rw [if_pos hj] at e
    cases e
    rw [hj]
    exact List.mem_cons_self
  · rw [if_neg hj] at e
    refine List.mem_cons_of_mem _ (List.mem_filter.mpr ?_)
    by_cases hj1 : j + 1 = i
    · rw [if_pos hj1] at e
      cases hlf : lf j with
      | none => rw [hlf] at e; cases e
      | some u0 =>
        rw [hlf] at e
        by_cases hc : u0.category = 2
        · simp [hc] at e
        · simp [hc] at e
          subst e
          exact ⟨h2 _ _ hlf, by simp [hj, hc]⟩
    · rw [if_neg hj1] at e
      exact ⟨h2 _ _ e, by simp [hj, hj1]⟩
section XR
variable {p : Program} {l : Launch} {e : Env} {R : Room} {s : State} {m : MethodId} {args : Array Value} {below : List Frame} {meth : Method} {c : Code} {H : Heap} {locs : List Loc} {cells slots : Nat} {Q : State → Prop}
variable {cc : ByteArray} {pc nL : Nat} {ls : Array Slot} {rest : List Value} {lf : Nat → Option Value} {g : xg} {A : Nat → Prop} {w : xw_W} {a : Nat}
theorem x_istore_n (hexec : p.tables.exec = Jvm.exec) (hb : c.code = cc) {k : Fin 4} {i : Nat} {x : Int32} (hdg : decode cc pc = .ok (.istore_n k, 1)) (hi : (k : Nat) = i) (h : lh ls nL lf) (hn : i < nL)
    (kk : ∀ ls' : Array Slot, lh ls' nL (xl_put lf i (.int x)) → W p l e R s m args below meth c H locs cells slots Q (F0 m (pc + 1) ls' rest)) : W p l e R s m args below meth c H locs cells slots Q (F0 m pc ls (.int x :: rest)) := by
  obtain ⟨lv, h1, h2⟩ := h
  exact lv_istore_n hexec hb hdg hi h1 hn rfl (fun ls' h' => kk ls' (lh_put h2 h'))
theorem x_istore (hexec : p.tables.exec = Jvm.exec) (hb : c.code = cc) {i : Nat} {x : Int32} (hdg : decode cc pc = .ok (.istore i, 2)) (h : lh ls nL lf) (hn : i < nL)
    (kk : ∀ ls' : Array Slot, lh ls' nL (xl_put lf i (.int x)) → W p l e R s m args below meth c H locs cells slots Q (F0 m (pc + 2) ls' rest)) : W p l e R s m args below meth c H locs cells slots Q (F0 m pc ls (.int x :: rest)) := by
  obtain ⟨lv, h1, h2⟩ := h
  exact lv_istore hexec hb hdg h1 hn rfl (fun ls' h' => kk ls' (lh_put h2 h'))
theorem x_astore_n (hexec : p.tables.exec = Jvm.exec) (hb : c.code = cc) {k : Fin 4} {i : Nat} {x : Nat} (hdg : decode cc pc = .ok (.astore_n k, 1)) (hi : (k : Nat) = i) (h : lh ls nL lf) (hn : i < nL)
    (kk : ∀ ls' : Array Slot, lh ls' nL (xl_put lf i (.ref x)) → W p l e R s m args below meth c H locs cells slots Q (F0 m (pc + 1) ls' rest)) : W p l e R s m args below meth c H locs cells slots Q (F0 m pc ls (.ref x :: rest)) := by
  obtain ⟨lv, h1, h2⟩ := h
  exact lv_astore_n hexec hb hdg hi h1 hn rfl (fun ls' h' => kk ls' (lh_put h2 h'))
theorem x_astore (hexec : p.tables.exec = Jvm.exec) (hb : c.code = cc) {i : Nat} {x : Nat} (hdg : decode cc pc = .ok (.astore i, 2)) (h : lh ls nL lf) (hn : i < nL)
    (kk : ∀ ls' : Array Slot, lh ls' nL (xl_put lf i (.ref x)) → W p l e R s m args below meth c H locs cells slots Q (F0 m (pc + 2) ls' rest)) : W p l e R s m args below meth c H locs cells slots Q (F0 m pc ls (.ref x :: rest)) := by
  obtain ⟨lv, h1, h2⟩ := h
  exact lv_astore hexec hb hdg h1 hn rfl (fun ls' h' => kk ls' (lh_put h2 h'))
/-- iinc, by the name that the new number shall have -/
theorem x_iinc (hexec : p.tables.exec = Jvm.exec) (hb : c.code = cc) {i : Nat} {n : Int} {x v : Int32} (hdg : decode cc pc = .ok (.iinc i n, 3)) (h : lh ls nL lf) (hk : lf i = some (.int x)) (hv : x + Int32.ofInt n = v) (hn : i < nL)
    (kk : ∀ ls' : Array Slot, lh ls' nL (xl_put lf i (.int v)) → W p l e R s m args below meth c H locs cells slots Q (F0 m (pc + 3) ls' rest)) : W p l e R s m args below meth c H locs cells slots Q (F0 m pc ls rest) := by
  obtain ⟨lv, h1, h2⟩ := h
  obtain ⟨k, hk2⟩ := List.getElem?_of_mem (h2 _ _ hk)
  exact lv_iinc hexec hb hdg h1 hk2 hv hn rfl (fun ls' h' => kk ls' (lh_put h2 h'))
/-! ## numbers -/
theorem n_const (hexec : p.tables.exec = Jvm.exec) (hb : c.code = cc) {n : Int} (k : Nat) (hdg : decode cc pc = .ok (.iconst n, 1)) (hv : Int32.ofInt n = nI k)
    (kk : W p l e R s m args below meth c H locs cells slots Q (F0 m (pc + 1) ls (.int (nI k) :: rest))) : W p l e R s m args below meth c H locs cells slots Q (F0 m pc ls (rest)) := lv_iconst hexec hb hdg hv kk
theorem n_bipush (hexec : p.tables.exec = Jvm.exec) (hb : c.code = cc) {n : Int} (k : Nat) (hdg : decode cc pc = .ok (.bipush n, 2)) (hv : (Int8.ofInt n).toInt32 = nI k)
    (kk : W p l e R s m args below meth c H locs cells slots Q (F0 m (pc + 2) ls (.int (nI k) :: rest))) : W p l e R s m args below meth c H locs cells slots Q (F0 m pc ls (rest)) := lv_bipush hexec hb hdg hv kk
theorem n_sipush (hexec : p.tables.exec = Jvm.exec) (hb : c.code = cc) {n : Int} (k : Nat) (hdg : decode cc pc = .ok (.sipush n, 3)) (hv : (Int16.ofInt n).toInt32 = nI k)
    (kk : W p l e R s m args below meth c H locs cells slots Q (F0 m (pc + 3) ls (.int (nI k) :: rest))) : W p l e R s m args below meth c H locs cells slots Q (F0 m pc ls (rest)) := lv_sipush hexec hb hdg hv kk
theorem n_iadd (hexec : p.tables.exec = Jvm.exec) (hb : c.code = cc) {x y : Nat} (hdg : decode cc pc = .ok (.iadd, 1))
    (k : W p l e R s m args below meth c H locs cells slots Q (F0 m (pc + 1) ls (.int (nI (x + y)) :: rest))) : W p l e R s m args below meth c H locs cells slots Q (F0 m pc ls (.int (nI y) :: .int (nI x) :: rest)) :=
  lv_iadd hexec hb hdg (by rw [nI_add]; exact k)
theorem n_isub (hexec : p.tables.exec = Jvm.exec) (hb : c.code = cc) {x y : Nat} (h : y ≤ x) (hdg : decode cc pc = .ok (.isub, 1))
    (k : W p l e R s m args below meth c H locs cells slots Q (F0 m (pc + 1) ls (.int (nI (x - y)) :: rest))) : W p l e R s m args below meth c H locs cells slots Q (F0 m pc ls (.int (nI y) :: .int (nI x) :: rest)) :=
  lv_isub hexec hb hdg (by rw [pk_sub h]; exact k)
theorem n_imul (hexec : p.tables.exec = Jvm.exec) (hb : c.code = cc) {x y : Nat} (hdg : decode cc pc = .ok (.imul, 1))
    (k : W p l e R s m args below meth c H locs cells slots Q (F0 m (pc + 1) ls (.int (nI (x * y)) :: rest))) : W p l e R s m args below meth c H locs cells slots Q (F0 m pc ls (.int (nI y) :: .int (nI x) :: rest)) :=
  lv_imul hexec hb hdg (by rw [pk_mul]; exact k)
theorem nI_nz {d : Nat} (h0 : 0 < d) (hd : d < 2 ^ 31) : nI d ≠ 0 := nI_ne0 h0 hd
theorem n_idiv (hexec : p.tables.exec = Jvm.exec) (hb : c.code = cc) {x d : Nat} (hx : x < 2 ^ 31) (h0 : 0 < d) (hd : d < 2 ^ 31) (hdg : decode cc pc = .ok (.idiv, 1))
    (k : W p l e R s m args below meth c H locs cells slots Q (F0 m (pc + 1) ls (.int (nI (x / d)) :: rest))) : W p l e R s m args below meth c H locs cells slots Q (F0 m pc ls (.int (nI d) :: .int (nI x) :: rest)) :=
  lv_idiv hexec hb hdg (nI_nz h0 hd) (by rw [pk_div hx h0 hd]; exact k)
theorem n_irem (hexec : p.tables.exec = Jvm.exec) (hb : c.code = cc) {x d : Nat} (hx : x < 2 ^ 31) (h0 : 0 < d) (hd : d < 2 ^ 31) (hdg : decode cc pc = .ok (.irem, 1))
    (k : W p l e R s m args below meth c H locs cells slots Q (F0 m (pc + 1) ls (.int (nI (x % d)) :: rest))) : W p l e R s m args below meth c H locs cells slots Q (F0 m pc ls (.int (nI d) :: .int (nI x) :: rest)) :=
  lv_irem hexec hb hdg (nI_nz h0 hd) (by rw [pk_rem hx h0 hd]; exact k)
theorem n_icmp_eq (hexec : p.tables.exec = Jvm.exec) (hb : c.code = cc) {x y : Nat} {off : Int} {tgt : Nat} (hdg : decode cc pc = .ok (.if_icmp .eq off, 3)) (ht : (pc : Int) + off = (tgt : Int)) (ha : x < 2 ^ 31) (hb2 : y < 2 ^ 31)
    (kt : x = y → W p l e R s m args below meth c H locs cells slots Q (F0 m tgt ls rest)) (kf : ¬ (x = y) → W p l e R s m args below meth c H locs cells slots Q (F0 m (pc + 3) ls rest)) : W p l e R s m args below meth c H locs cells slots Q (F0 m pc ls (.int (nI y) :: .int (nI x) :: rest)) :=
  lv_icmp_eq hexec hb hdg ht (fun q => kt ((nI_eq ha hb2).mp q)) (fun q => kf (fun z => q ((nI_eq ha hb2).mpr z)))
theorem n_if_eq (hexec : p.tables.exec = Jvm.exec) (hb : c.code = cc) {x : Nat} {off : Int} {tgt : Nat} (hdg : decode cc pc = .ok (.ifCond .eq off, 3)) (ht : (pc : Int) + off = (tgt : Int)) (ha : x < 2 ^ 31)
    (kt : x = 0 → W p l e R s m args below meth c H locs cells slots Q (F0 m tgt ls rest)) (kf : ¬ (x = 0) → W p l e R s m args below meth c H locs cells slots Q (F0 m (pc + 3) ls rest)) : W p l e R s m args below meth c H locs cells slots Q (F0 m pc ls (.int (nI x) :: rest)) := by
  have hb2 : (0 : Nat) < 2 ^ 31 := by decide
  refine lv_if_eq hexec hb hdg ht (fun q => kt ?_) (fun q => kf ?_)
  · rw [← nI_0] at q
    exact (nI_eq ha hb2).mp q
  · rw [← nI_0] at q
    exact fun z => q ((nI_eq ha hb2).mpr z)
theorem n_icmp_ne (hexec : p.tables.exec = Jvm.exec) (hb : c.code = cc) {x y : Nat} {off : Int} {tgt : Nat} (hdg : decode cc pc = .ok (.if_icmp .ne off, 3)) (ht : (pc : Int) + off = (tgt : Int)) (ha : x < 2 ^ 31) (hb2 : y < 2 ^ 31)
    (kt : x ≠ y → W p l e R s m args below meth c H locs cells slots Q (F0 m tgt ls rest)) (kf : x = y → W p l e R s m args below meth c H locs cells slots Q (F0 m (pc + 3) ls rest)) : W p l e R s m args below meth c H locs cells slots Q (F0 m pc ls (.int (nI y) :: .int (nI x) :: rest)) :=
  lv_icmp_ne hexec hb hdg ht (fun q => kt (fun z => q (by rw [z]))) (fun q => kf ((nI_eq ha hb2).mp q))
theorem n_if_ne (hexec : p.tables.exec = Jvm.exec) (hb : c.code = cc) {x : Nat} {off : Int} {tgt : Nat} (hdg : decode cc pc = .ok (.ifCond .ne off, 3)) (ht : (pc : Int) + off = (tgt : Int)) (ha : x < 2 ^ 31)
    (kt : x ≠ 0 → W p l e R s m args below meth c H locs cells slots Q (F0 m tgt ls rest)) (kf : x = 0 → W p l e R s m args below meth c H locs cells slots Q (F0 m (pc + 3) ls rest)) : W p l e R s m args below meth c H locs cells slots Q (F0 m pc ls (.int (nI x) :: rest)) := by
  have hb2 : (0 : Nat) < 2 ^ 31 := by decide
  refine lv_if_ne hexec hb hdg ht (fun q => kt ?_) (fun q => kf ?_)
  · rw [← nI_0] at q
    exact fun z => q (by rw [z])
  · rw [← nI_0] at q
    exact (nI_eq ha hb2).mp q
theorem n_icmp_lt (hexec : p.tables.exec = Jvm.exec) (hb : c.code = cc) {x y : Nat} {off : Int} {tgt : Nat} (hdg : decode cc pc = .ok (.if_icmp .lt off, 3)) (ht : (pc : Int) + off = (tgt : Int)) (ha : x < 2 ^ 31) (hb2 : y < 2 ^ 31)
    (kt : x < y → W p l e R s m args below meth c H locs cells slots Q (F0 m tgt ls rest)) (kf : ¬ (x < y) → W p l e R s m args below meth c H locs cells slots Q (F0 m (pc + 3) ls rest)) : W p l e R s m args below meth c H locs cells slots Q (F0 m pc ls (.int (nI y) :: .int (nI x) :: rest)) :=
  lv_icmp_lt hexec hb hdg ht (fun q => kt ((nI_ltI ha hb2).mp q)) (fun q => kf (fun z => q ((nI_ltI ha hb2).mpr z)))
theorem n_if_lt (hexec : p.tables.exec = Jvm.exec) (hb : c.code = cc) {x : Nat} {off : Int} {tgt : Nat} (hdg : decode cc pc = .ok (.ifCond .lt off, 3)) (ht : (pc : Int) + off = (tgt : Int)) (ha : x < 2 ^ 31)
    (kt : x < 0 → W p l e R s m args below meth c H locs cells slots Q (F0 m tgt ls rest)) (kf : ¬ (x < 0) → W p l e R s m args below meth c H locs cells slots Q (F0 m (pc + 3) ls rest)) : W p l e R s m args below meth c H locs cells slots Q (F0 m pc ls (.int (nI x) :: rest)) := by
  have hb2 : (0 : Nat) < 2 ^ 31 := by decide
  refine lv_if_lt hexec hb hdg ht (fun q => kt ?_) (fun q => kf ?_)
  · rw [← nI_0] at q
    exact (nI_ltI ha hb2).mp q
  · rw [← nI_0] at q
    exact fun z => q ((nI_ltI ha hb2).mpr z)
theorem n_icmp_le (hexec : p.tables.exec = Jvm.exec) (hb : c.code = cc) {x y : Nat} {off : Int} {tgt : Nat} (hdg : decode cc pc = .ok (.if_icmp .le off, 3)) (ht : (pc : Int) + off = (tgt : Int)) (ha : x < 2 ^ 31) (hb2 : y < 2 ^ 31)
    (kt : x ≤ y → W p l e R s m args below meth c H locs cells slots Q (F0 m tgt ls rest)) (kf : ¬ (x ≤ y) → W p l e R s m args below meth c H locs cells slots Q (F0 m (pc + 3) ls rest)) : W p l e R s m args below meth c H locs cells slots Q (F0 m pc ls (.int (nI y) :: .int (nI x) :: rest)) :=
  lv_icmp_le hexec hb hdg ht (fun q => kt ((nI_leI ha hb2).mp q)) (fun q => kf (fun z => q ((nI_leI ha hb2).mpr z)))
theorem n_if_le (hexec : p.tables.exec = Jvm.exec) (hb : c.code = cc) {x : Nat} {off : Int} {tgt : Nat} (hdg : decode cc pc = .ok (.ifCond .le off, 3)) (ht : (pc : Int) + off = (tgt : Int)) (ha : x < 2 ^ 31)
    (kt : x ≤ 0 → W p l e R s m args below meth c H locs cells slots Q (F0 m tgt ls rest)) (kf : ¬ (x ≤ 0) → W p l e R s m args below meth c H locs cells slots Q (F0 m (pc + 3) ls rest)) : W p l e R s m args below meth c H locs cells slots Q (F0 m pc ls (.int (nI x) :: rest)) := by
  have hb2 : (0 : Nat) < 2 ^ 31 := by decide
  refine lv_if_le hexec hb hdg ht (fun q => kt ?_) (fun q => kf ?_)
  · rw [← nI_0] at q
    exact (nI_leI ha hb2).mp q
  · rw [← nI_0] at q
    exact fun z => q ((nI_leI ha hb2).mpr z)
theorem n_icmp_ge (hexec : p.tables.exec = Jvm.exec) (hb : c.code = cc) {x y : Nat} {off : Int} {tgt : Nat} (hdg : decode cc pc = .ok (.if_icmp .ge off, 3)) (ht : (pc : Int) + off = (tgt : Int)) (ha : x < 2 ^ 31) (hb2 : y < 2 ^ 31)
    (kt : y ≤ x → W p l e R s m args below meth c H locs cells slots Q (F0 m tgt ls rest)) (kf : ¬ (y ≤ x) → W p l e R s m args below meth c H locs cells slots Q (F0 m (pc + 3) ls rest)) : W p l e R s m args below meth c H locs cells slots Q (F0 m pc ls (.int (nI y) :: .int (nI x) :: rest)) :=
  lv_icmp_ge hexec hb hdg ht (fun q => kt ((nI_leI hb2 ha).mp q)) (fun q => kf (fun z => q ((nI_leI hb2 ha).mpr z)))
theorem n_if_ge (hexec : p.tables.exec = Jvm.exec) (hb : c.code = cc) {x : Nat} {off : Int} {tgt : Nat} (hdg : decode cc pc = .ok (.ifCond .ge off, 3)) (ht : (pc : Int) + off = (tgt : Int)) (ha : x < 2 ^ 31)
    (kt : 0 ≤ x → W p l e R s m args below meth c H locs cells slots Q (F0 m tgt ls rest)) (kf : ¬ (0 ≤ x) → W p l e R s m args below meth c H locs cells slots Q (F0 m (pc + 3) ls rest)) : W p l e R s m args below meth c H locs cells slots Q (F0 m pc ls (.int (nI x) :: rest)) := by
  have hb2 : (0 : Nat) < 2 ^ 31 := by decide
  refine lv_if_ge hexec hb hdg ht (fun q => kt ?_) (fun q => kf ?_)
  · rw [← nI_0] at q
    exact (nI_leI hb2 ha).mp q
  · rw [← nI_0] at q
    exact fun z => q ((nI_leI hb2 ha).mpr z)
theorem n_icmp_gt (hexec : p.tables.exec = Jvm.exec) (hb : c.code = cc) {x y : Nat} {off : Int} {tgt : Nat} (hdg : decode cc pc = .ok (.if_icmp .gt off, 3)) (ht : (pc : Int) + off = (tgt : Int)) (ha : x < 2 ^ 31) (hb2 : y < 2 ^ 31)
    (kt : y < x → W p l e R s m args below meth c H locs cells slots Q (F0 m tgt ls rest)) (kf : ¬ (y < x) → W p l e R s m args below meth c H locs cells slots Q (F0 m (pc + 3) ls rest)) : W p l e R s m args below meth c H locs cells slots Q (F0 m pc ls (.int (nI y) :: .int (nI x) :: rest)) :=
  lv_icmp_gt hexec hb hdg ht (fun q => kt ((nI_ltI hb2 ha).mp q)) (fun q => kf (fun z => q ((nI_ltI hb2 ha).mpr z)))
theorem n_if_gt (hexec : p.tables.exec = Jvm.exec) (hb : c.code = cc) {x : Nat} {off : Int} {tgt : Nat} (hdg : decode cc pc = .ok (.ifCond .gt off, 3)) (ht : (pc : Int) + off = (tgt : Int)) (ha : x < 2 ^ 31)
    (kt : 0 < x → W p l e R s m args below meth c H locs cells slots Q (F0 m tgt ls rest)) (kf : ¬ (0 < x) → W p l e R s m args below meth c H locs cells slots Q (F0 m (pc + 3) ls rest)) : W p l e R s m args below meth c H locs cells slots Q (F0 m pc ls (.int (nI x) :: rest)) := by
  have hb2 : (0 : Nat) < 2 ^ 31 := by decide
  refine lv_if_gt hexec hb hdg ht (fun q => kt ?_) (fun q => kf ?_)
  · rw [← nI_0] at q
    exact (nI_ltI hb2 ha).mp q
  · rw [← nI_0] at q
    exact fun z => q ((nI_ltI hb2 ha).mpr z)
theorem nI_bv (n : Nat) : (nI n).toBitVec = BitVec.ofNat 32 n := rfl
theorem nI_inj {x y : Int32} (h : x.toBitVec = y.toBitVec) : x = y := Int32.toBitVec_inj.mp h
theorem nI_and (a b : Nat) : nI a &&& nI b = nI (a &&& b) := by
  apply nI_inj
  show (nI a).toBitVec &&& (nI b).toBitVec = _
  rw [nI_bv, nI_bv, nI_bv]
  apply BitVec.eq_of_toNat_eq
  simp [BitVec.toNat_and, BitVec.toNat_ofNat, Nat.and_mod_two_pow]
theorem nI_or (a b : Nat) : nI a ||| nI b = nI (a ||| b) := by
  apply nI_inj
  show (nI a).toBitVec ||| (nI b).toBitVec = _
  rw [nI_bv, nI_bv, nI_bv]
  apply BitVec.eq_of_toNat_eq
  simp [BitVec.toNat_or, BitVec.toNat_ofNat, Nat.or_mod_two_pow]
theorem nI_amt : ∀ k, k < 32 → ((nI k &&& 31).toBitVec.smod 32).toNat = k := by decide +kernel
theorem nI_sshr (a s : Int32) (k : Nat) (hk : k < 32) (hs : s = nI k) (a0 : Nat) (ha : a0 < 2 ^ 31) (hae : a = nI a0) : a >>> (s &&& 31) = nI (a0 >>> k) := by
  subst hs; subst hae
  rw [pk_shrN ha (nI k &&& 31) k (nI_amt k hk), Nat.shiftRight_eq_div_pow]
theorem nI_sshl (k : Nat) (hk : k < 31) (a : Nat) (h : a * 2 ^ k < 2 ^ 32) : nI a <<< (nI k &&& 31) = nI (a <<< k) := by
  rw [pk_shlN (nI k &&& 31) k (nI_amt k (by omega)) h, Nat.shiftLeft_eq]
theorem n_iand (hexec : p.tables.exec = Jvm.exec) (hb : c.code = cc) {x y : Nat} (hdg : decode cc pc = .ok (.iand, 1))
    (k : W p l e R s m args below meth c H locs cells slots Q (F0 m (pc + 1) ls (.int (nI (x &&& y)) :: rest))) : W p l e R s m args below meth c H locs cells slots Q (F0 m pc ls (.int (nI y) :: .int (nI x) :: rest)) :=
  lv_iand hexec hb hdg (by rw [nI_and]; exact k)
theorem n_ior (hexec : p.tables.exec = Jvm.exec) (hb : c.code = cc) {x y : Nat} (hdg : decode cc pc = .ok (.ior, 1))
    (k : W p l e R s m args below meth c H locs cells slots Q (F0 m (pc + 1) ls (.int (nI (x ||| y)) :: rest))) : W p l e R s m args below meth c H locs cells slots Q (F0 m pc ls (.int (nI y) :: .int (nI x) :: rest)) :=
  lv_ior hexec hb hdg (by rw [nI_or]; exact k)
theorem n_ishr (hexec : p.tables.exec = Jvm.exec) (hb : c.code = cc) {x y : Nat} (hx : x < 2 ^ 31) (hy : y < 32) (hdg : decode cc pc = .ok (.ishr, 1))
    (k : W p l e R s m args below meth c H locs cells slots Q (F0 m (pc + 1) ls (.int (nI (x >>> y)) :: rest))) : W p l e R s m args below meth c H locs cells slots Q (F0 m pc ls (.int (nI y) :: .int (nI x) :: rest)) :=
  lv_ishr hexec hb hdg (by rw [nI_sshr (nI x) (nI y) y hy rfl x hx rfl]; exact k)
theorem n_ishl (hexec : p.tables.exec = Jvm.exec) (hb : c.code = cc) {x y : Nat} (hy : y < 31) (hx : x * 2 ^ y < 2 ^ 32) (hdg : decode cc pc = .ok (.ishl, 1))
    (k : W p l e R s m args below meth c H locs cells slots Q (F0 m (pc + 1) ls (.int (nI (x <<< y)) :: rest))) : W p l e R s m args below meth c H locs cells slots Q (F0 m pc ls (.int (nI y) :: .int (nI x) :: rest)) :=
  lv_ishl hexec hb hdg (by rw [nI_sshl y hy x hx]; exact k)
theorem n_iinc (hexec : p.tables.exec = Jvm.exec) (hb : c.code = cc) {i : Nat} {n : Int} (k : Nat) {x : Nat} (hdg : decode cc pc = .ok (.iinc i n, 3)) (h : lh ls nL lf) (hk : lf i = some (.int (nI x))) (hv : Int32.ofInt n = nI k) (hn : i < nL)
    (kk : ∀ ls' : Array Slot, lh ls' nL (xl_put lf i (.int (nI (x + k)))) → W p l e R s m args below meth c H locs cells slots Q (F0 m (pc + 3) ls' rest)) : W p l e R s m args below meth c H locs cells slots Q (F0 m pc ls rest) :=
  x_iinc hexec hb hdg h hk (by rw [hv, nI_add]) hn kk
theorem n_idec (hexec : p.tables.exec = Jvm.exec) (hb : c.code = cc) {i : Nat} {x : Nat} (hdg : decode cc pc = .ok (.iinc i (-1), 3)) (h : lh ls nL lf) (hk : lf i = some (.int (nI x))) (h0 : 0 < x) (hn : i < nL)
    (kk : ∀ ls' : Array Slot, lh ls' nL (xl_put lf i (.int (nI (x - 1)))) → W p l e R s m args below meth c H locs cells slots Q (F0 m (pc + 3) ls' rest)) : W p l e R s m args below meth c H locs cells slots Q (F0 m pc ls rest) :=
  x_iinc hexec hb hdg h hk (by obtain ⟨y, rfl⟩ : ∃ y, x = y + 1 := ⟨x - 1, by omega⟩; exact pk_m1 y) hn kk
end XR
/-! ## rows over worlds -/
section XM
variable {p : Program} {l : Launch} {e : Env} {R : Room} {s : State} {m : MethodId} {args : Array Value} {below : List Frame} {meth : Method} {c : Code} {H : Heap} {locs : List Loc} {cells slots : Nat} {Q : State → Prop}
variable {cc : ByteArray} {pc nL : Nat} {ls : Array Slot} {rest : List Value} {g : xg} {A : Nat → Prop} {w : xw_W} {a : Nat}
theorem xr_get (hexec : p.tables.exec = Jvm.exec) (hb : c.code = cc) {own ref C : String} {T : u_T} {N ci index : Nat} (hts : ∀ w ∈ lw_all, w.before args s = true) (hin : ∀ w ∈ u_ws C T N, w ∈ lw_all) (hown : s.vm.findClass own = some m.cls) (hE : xE g A s) (hM : xw g A w H) {n : Nat} {fs : List Value} (he : w n = some (a, .inr (ci, fs))) (hc : xCl[ci]? = some (C, T, N)) (k : Nat) (hk : k < N) (hlink : (Cond.fieldLink own index ref (T k).2.1 (T k).2.2.1).before args s = true) (hsame : ∀ x, s.fieldFound? (T k).1 (T k).2.1 (T k).2.2.1 = some x → s.fieldFound? ref (T k).2.1 (T k).2.2.1 = some x) {v : Value} (hv : fs[k]? = some v) (hdg : decode cc pc = .ok (.getfield index, 3))
    (kk : W p l e R s m args below meth c H locs cells slots Q (F0 m (pc + 3) ls (v :: rest))) : W p l e R s m args below meth c H locs cells slots Q (F0 m pc ls (.ref a :: rest)) := by
  obtain ⟨ws, hP, hD, h3, h4⟩ := hM
  obtain ⟨q0, hq⟩ := h3 n _ he
  exact va_get hexec hb hts hin hown hE.1 hP q0 hq hc k hk hlink hsame hv hdg kk
theorem xr_put (hexec : p.tables.exec = Jvm.exec) (hb : c.code = cc) {own ref C : String} {T : u_T} {N ci index : Nat} (hts : ∀ w ∈ lw_all, w.before args s = true) (hin : ∀ w ∈ u_ws C T N, w ∈ lw_all) (ty0 : Nat → FieldType) (hty : ∀ k, k < N → parseFieldDescriptor (T k).2.2.1 = some (ty0 k)) (hnm : ∀ a, a < N → ∀ b, b < N → a ≠ b → (T a).2.1 ≠ (T b).2.1) (hown : s.vm.findClass own = some m.cls) (hE : xE g A s) (hM : xw g A w H) (hS0 : va_S A s.heap H locs) {n : Nat} {fs : List Value} (he : w n = some (a, .inr (ci, fs))) (hc : xCl[ci]? = some (C, T, N)) (k : Nat) (hk : k < N) (hlink : (Cond.fieldLink own index ref (T k).2.1 (T k).2.2.1).before args s = true) (hsame : ∀ x, s.fieldFound? (T k).1 (T k).2.1 (T k).2.2.1 = some x → s.fieldFound? ref (T k).2.1 (T k).2.2.1 = some x) (hfin : (T k).2.2.2 = false) {ty : FieldType} {v : Value} (hd : parseFieldDescriptor (T k).2.2.1 = some ty) (hn : narrow ty v = v) (hfit : fits ty v = true) (hl : k < fs.length)
    (hdg : decode cc pc = .ok (.putfield index, 3)) (kk : ∀ (H1 : Heap) (locs1 : List Loc), xw g A (va_up w n (some (a, .inr (ci, fs.set k v)))) H1 → va_S A s.heap H1 locs1 → W p l e R s m args below meth c H1 locs1 cells slots Q (F0 m (pc + 3) ls rest)) : W p l e R s m args below meth c H locs cells slots Q (F0 m pc ls (v :: .ref a :: rest)) := by
  obtain ⟨ws, hP, hD, h3, h4⟩ := hM
  obtain ⟨q0, hq⟩ := h3 n _ he
  refine va_put hexec hb hts hin ty0 hty hnm hown hE.1 hP hD hS0 q0 hq hc k hk hlink hsame hfin hd hn hfit hl hdg (fun H1 locs1 hP1 hD1 hS1 => kk H1 locs1 ?_ hS1)
  obtain ⟨h5, h6⟩ := xw_set (e := .inr (ci, fs.set k v)) hq he h3 h4
  exact ⟨_, hP1, hD1, h5, h6⟩
theorem xr_putF (hexec : p.tables.exec = Jvm.exec) (hb : c.code = cc) {own ref C : String} {T : u_T} {N ci index : Nat} (hts : ∀ w ∈ lw_all, w.before args s = true) (hin : ∀ w ∈ u_ws C T N, w ∈ lw_all) (ty0 : Nat → FieldType) (hty : ∀ k, k < N → parseFieldDescriptor (T k).2.2.1 = some (ty0 k)) (hnm : ∀ a, a < N → ∀ b, b < N → a ≠ b → (T a).2.1 ≠ (T b).2.1) (hown : s.vm.findClass own = some m.cls) (hE : xE g A s) (hM : xw g A w H) (hS0 : va_S A s.heap H locs) {n : Nat} {fs : List Value} (he : w n = some (a, .inr (ci, fs))) (hc : xCl[ci]? = some (C, T, N)) (k : Nat) (hk : k < N) (hlink : (Cond.fieldLink own index ref (T k).2.1 (T k).2.2.1).before args s = true) (hsame : ∀ x, s.fieldFound? (T k).1 (T k).2.1 (T k).2.2.1 = some x → s.fieldFound? ref (T k).2.1 (T k).2.2.1 = some x) (hfin : (T k).2.2.2 = true) (hin2 : meth.name = "<init>") (hdecl : (T k).1 = own) {ty : FieldType} {v : Value} (hd : parseFieldDescriptor (T k).2.2.1 = some ty) (hn : narrow ty v = v) (hfit : fits ty v = true) (hl : k < fs.length)
    (hdg : decode cc pc = .ok (.putfield index, 3)) (kk : ∀ (H1 : Heap) (locs1 : List Loc), xw g A (va_up w n (some (a, .inr (ci, fs.set k v)))) H1 → va_S A s.heap H1 locs1 → W p l e R s m args below meth c H1 locs1 cells slots Q (F0 m (pc + 3) ls rest)) : W p l e R s m args below meth c H locs cells slots Q (F0 m pc ls (v :: .ref a :: rest)) := by
  obtain ⟨ws, hP, hD, h3, h4⟩ := hM
  obtain ⟨q0, hq⟩ := h3 n _ he
  refine va_putF hexec hb hts hin ty0 hty hnm hown hE.1 hP hD hS0 q0 hq hc k hk hlink hsame hfin hin2 hdecl hd hn hfit hl hdg (fun H1 locs1 hP1 hD1 hS1 => kk H1 locs1 ?_ hS1)
  obtain ⟨h5, h6⟩ := xw_set (e := .inr (ci, fs.set k v)) hq he h3 h4
  exact ⟨_, hP1, hD1, h5, h6⟩
theorem xr_iald (hexec : p.tables.exec = Jvm.exec) (hb : c.code = cc) (hE : xE g A s) (hM : xw g A w H) {n N i : Nat} {f : Nat → Int32} {y : Int32} (he : w n = some (a, .inl (g.2 0, N, .inl f))) (hi : i < N) (hN : N < 2 ^ 31) (hy : f i = y) (hdg : decode cc pc = .ok (.iaload, 1))
    (kk : W p l e R s m args below meth c H locs cells slots Q (F0 m (pc + 1) ls (.int y :: rest))) : W p l e R s m args below meth c H locs cells slots Q (F0 m pc ls (.int (nI i) :: .ref a :: rest)) := by
  obtain ⟨ws, hP, hD, h3, h4⟩ := hM
  obtain ⟨q0, hq⟩ := h3 n _ he
  refine va_iald hexec hb hE.1 hP q0 0 hq rfl (vp_in_nI hi hN) hdg ?_
  rw [nI_clamp (by omega), hy]
  exact kk
theorem xr_iast (hexec : p.tables.exec = Jvm.exec) (hb : c.code = cc) (hE : xE g A s) (hM : xw g A w H) (hS : va_S A s.heap H locs) {n N i : Nat} {f : Nat → Int32} {x : Int32} (he : w n = some (a, .inl (g.2 0, N, .inl f))) (hi : i < N) (hN : N < 2 ^ 31) (hdg : decode cc pc = .ok (.iastore, 1))
    (kk : ∀ (H1 : Heap) (locs1 : List Loc), xw g A (va_up w n (some (a, .inl (g.2 0, N, .inl (upd f i x))))) H1 → va_S A s.heap H1 locs1 → W p l e R s m args below meth c H1 locs1 cells slots Q (F0 m (pc + 1) ls rest)) : W p l e R s m args below meth c H locs cells slots Q (F0 m pc ls (.int x :: .int (nI i) :: .ref a :: rest)) := by
  obtain ⟨ws, hP, hD, h3, h4⟩ := hM
  obtain ⟨q0, hq⟩ := h3 n _ he
  refine va_iast hexec hb hE.1 hP hD hS q0 0 hq rfl (vp_in_nI hi hN) hdg (fun H1 locs1 hP1 hD1 hS1 => kk H1 locs1 ?_ hS1)
  rw [nI_clamp (by omega)] at hP1 hD1
  obtain ⟨h5, h6⟩ := xw_set (e := .inl (g.2 0, N, .inl (upd f i x))) hq he h3 h4
  exact ⟨_, hP1, hD1, h5, h6⟩
theorem xr_alen (hexec : p.tables.exec = Jvm.exec) (hb : c.code = cc) (hE : xE g A s) (hM : xw g A w H) {n t : Nat} {x : vp_A} {ty : FieldType} (he : w n = some (a, .inl (g.2 t, x))) (ht : (xTy g)[t]? = some (g.2 t, ty)) (hdg : decode cc pc = .ok (.arraylength, 1))
    (kk : W p l e R s m args below meth c H locs cells slots Q (F0 m (pc + 1) ls (.int (nI x.1) :: rest))) : W p l e R s m args below meth c H locs cells slots Q (F0 m pc ls (.ref a :: rest)) := by
  obtain ⟨ws, hP, hD, h3, h4⟩ := hM
  obtain ⟨q0, hq⟩ := h3 n _ he
  exact va_alen hexec hb hE.1 hP q0 t hq ht rfl hdg kk
/-- the class of an array by its type, as the tables have it -/
theorem xK_cls {ty : FieldType} {cA cB : ClassId} (h1 : s.vm.findClass ("[" ++ ty.toString) = some cA) (h2 : va_RA s cB ty) : cA = cB := by
  cases ty with
  | object C =>
    obtain ⟨kA, comp, -, -, -, h4⟩ := h2
    exact Option.some.inj (h1.symm.trans h4)
  | _ => exact Option.some.inj (h1.symm.trans h2)
theorem xr_newi (hexec : p.tables.exec = Jvm.exec) (hb : c.code = cc) (harr : (Cond.arrayClass .int).before args s = true) (hE : xE g A s) (hM : xw g A w H) (hS : va_S A s.heap H locs) (n : Nat) {N : Nat} (hN : N < 100000000) (hcells : cells + 1 ≤ R.cells) (hslots : slots + N ≤ R.slots) (hdg : decode cc pc = .ok (.newarray .int, 2))
    (kk : ∀ (q : Nat) (H1 : Heap), H.size ≤ q → xw g A (va_up w n (some (q, .inl (g.2 0, N, .inl (fun _ => 0))))) H1 → va_S A s.heap H1 locs →
      W p l e R s m args below meth c H1 locs (cells + 1) (slots + N) Q (F0 m (pc + 2) ls (.ref q :: rest))) : W p l e R s m args below meth c H locs cells slots Q (F0 m pc ls (.int (nI N) :: rest)) := by
  obtain ⟨ws, hP, hD, h3, h4⟩ := hM
  have hn : ¬ nI N < 0 := nI_pos (by omega)
  have hNc : (nI N).toNatClampNeg = N := nI_clamp (by omega)
  refine va_newaK (atype := .int) hexec hb harr rfl hdg rfl hn hNc (by show N * 4 ≤ _; omega) hcells hslots rfl fun H1 cA e1 z1 o1 hAr hNm => ?_
  have hcA : cA = g.2 0 := xK_cls (ty := .int) hNm (hE.1.2 0 (g.2 0, .int) rfl).2
  subst hcA
  have hk : ∀ (k : Nat) (x : Nat × va_E), ws[k]? = some x → H1[x.1]? = H[x.1]? := fun k x hx => o1 x.1 ((hP k x hx).lt)
  obtain ⟨h5, h6⟩ := xw_push (n := n) (e := .inl (g.2 0, N, .inl (fun _ => 0))) hP (Nat.le_refl H.size) h3 h4
  refine kk H.size H1 (Nat.le_refl _) ⟨ws ++ [(H.size, .inl (g.2 0, N, .inl (fun _ => 0)))], (hP.kept hk).app (fun k x hx => ?_), hD.push hP rfl (hE.2.1 _ hS.1), h5, h6⟩ ⟨Nat.le_trans hS.1 (by omega), fun x h1 h2 => (o1 x (Nat.lt_of_lt_of_le h1 hS.1)).trans (hS.2.1 x h1 h2), hS.2.2⟩
  have hz : k < 1 := (List.getElem?_eq_some_iff.mp hx).1
  rw [show k = 0 by omega] at hx
  cases hx
  exact e1
theorem xr_new (hexec : p.tables.exec = Jvm.exec) (hb : c.code = cc) {own C : String} {T : u_T} {N ci index : Nat} (hts : ∀ w ∈ lw_all, w.before args s = true) (hin : ∀ w ∈ u_ws C T N, w ∈ lw_all) (ty : Nat → FieldType) (hty : ∀ k, k < N → parseFieldDescriptor (T k).2.2.1 = some (ty k)) (hown : s.vm.findClass own = some m.cls) (hcl : (Cond.classLink own index C).before args s = true) (hinst : (Cond.instantiable C N).before args s = true) (hini : (Cond.initialized C).before args s = true)
    (hE : xE g A s) (hM : xw g A w H) (hS : va_S A s.heap H locs) (n : Nat) (hc : xCl[ci]? = some (C, T, N)) {fs : List Value} (hfs : ∀ j, j < N → defaultValue (ty j) = vp_V fs j) (hcells : cells + 1 ≤ R.cells) (hslots : slots + N ≤ R.slots) (hdg : decode cc pc = .ok (.new index, 3))
    (kk : ∀ (q : Nat) (H1 : Heap), H.size ≤ q → xw g A (va_up w n (some (q, .inr (ci, fs)))) H1 → va_S A s.heap H1 locs →
      W p l e R s m args below meth c H1 locs (cells + 1) (slots + N) Q (F0 m (pc + 3) ls (.ref q :: rest))) : W p l e R s m args below meth c H locs cells slots Q (F0 m pc ls rest) := by
  obtain ⟨ws, hP, hD, h3, h4⟩ := hM
  have hKn := hE.1.1 ci _ hc
  refine W.newcK hexec hb hown hcl hinst hini rfl hdg hcells hslots hKn.2.1 rfl fun H1 kC hkC e1 z1 o1 => ?_
  have hk : ∀ (k : Nat) (x : Nat × va_E), ws[k]? = some x → H1[x.1]? = H[x.1]? := fun k x hx => o1 x.1 ((hP k x hx).lt)
  obtain ⟨h5, h6⟩ := xw_push (n := n) (e := .inr (ci, fs)) hP (Nat.le_refl H.size) h3 h4
  refine kk H.size H1 (Nat.le_refl _) ⟨ws ++ [(H.size, .inr (ci, fs))], (hP.kept hk).app (fun k x hx => ?_), hD.push hP rfl (hE.2.1 _ hS.1), h5, h6⟩ ⟨Nat.le_trans hS.1 (by omega), fun x h1 h2 => (o1 x (Nat.lt_of_lt_of_le h1 hS.1)).trans (hS.2.1 x h1 h2), hS.2.2⟩
  have hz : k < 1 := (List.getElem?_eq_some_iff.mp hx).1
  rw [show k = 0 by omega] at hx
  cases hx
  exact ⟨_, hc, (u_born ty hts hin hKn hkC e1 hty).to hfs⟩
end XM
/-! ## contracts -/
abbrev xrm (k mc ms : Nat) : Room := { frames := 4 + k, cells := mc, slots := ms, locals := 100 + 64 * k }
def xPc (g : xg) (A : Nat → Prop) (As : List Value) (P : Heap → Prop) : Array Value → State → Prop := va_Pc As (fun U => P U.heap ∧ xE g A U)
theorem xPc.blind {g : xg} {A : Nat → Prop} {As : List Value} {P : Heap → Prop} : FrameBlind (xPc g A As P) := fun _ _ _ _ q => ⟨q.1, q.2.1, q.2.2.blind⟩
abbrev xQi {S : Type} (post : Int32 → S → Prop) (P : S → Heap → Prop) (A : Nat → Prop) : Array Value → State → Outcome → State → Prop := va_Qi post (fun u t => P u t.heap) A
abbrev xQv {S : Type} (post : S → Prop) (P : S → Heap → Prop) (A : Nat → Prop) : Array Value → State → Outcome → State → Prop := va_Qv post (fun u t => P u t.heap) A
abbrev xQr {S : Type} (post : S → Prop) (P : S → Nat → Heap → Prop) (A : Nat → Prop) : Array Value → State → Outcome → State → Prop := va_Qr post (fun u a t => P u a t.heap) A
abbrev xQd {S : Type} (post : UInt64 → S → Prop) (P : S → Heap → Prop) (A : Nat → Prop) : Array Value → State → Outcome → State → Prop := va_Qd post (fun u t => P u t.heap) A
theorem x_start {l : Launch} {g : xg} {A : Nat → Prop} {y : MethodName} {cc : ByteArray} {maxL mc ms : Nat} {ret : Option FieldType} {rm : Room} {As : List Value} {P : Heap → Prop} {Qc : Array Value → State → Outcome → State → Prop} (hy : plainName y.cls = true) (hlen : (lg_sl As).length ≤ maxL)
    (body : ∀ (p : Program) (e : Env) (s : State) (m : MethodId) (below : List Frame) (meth : Method) (c : Code), p.tables.exec = Jvm.exec → c.code = cc → meth.sig.returnType = ret → meth.locks = false → c.maxLocals = maxL → s.vm.findClass y.cls = some m.cls → (∀ w ∈ lw_all, w.before As.toArray s = true) → meth.name = y.name → xE g A s → P s.heap → va_S A s.heap s.heap [] →
      ∀ ls : Array Slot, lh ls maxL (xl (lv_args 0 As)) → W p l e rm s m As.toArray below meth c s.heap [] 0 0 (MQ below Qc As.toArray s mc ms A) (F0 m 0 ls [])) :
    Met l y (ws_ y cc maxL ret) rm (xPc g A As P) Qc mc ms A := by
  refine Met.ofW (cc := cc) (maxL := maxL) (ret := ret) hy rfl ?_
  intro p e s m args below meth c s₁ B hml hv
  obtain ⟨rfl, hP, hE⟩ := hv
  have hts := atoms_spec (ws := ws_ y cc maxL ret) B.pre
  rw [lg_entry_eq]
  exact body p e s m below meth c B.exec B.bytes B.returns B.notSynchronized hml (findClass_of_methodNamed B.named) (fun w h => hts w (List.mem_cons_of_mem _ h)) (name_of_methodNamed B.named B.method).1 hE hP va_S.rf _ (lh_of (lv_entry As hlen))
section XC
variable {p : Program} {l : Launch} {e : Env} {R : Room} {s : State} {m : MethodId} {args : Array Value} {below : List Frame} {meth : Method} {c : Code} {H : Heap} {locs : List Loc} {cells slots : Nat} {Q : State → Prop}
variable {cc bytes : ByteArray} {pc nL maxL n mc ms : Nat} {ls : Array Slot} {rest st0 As : List Value} {g : xg} {A : Nat → Prop} {P : Heap → Prop} {own C : String} {index : Nat} {y : MethodName} {ret : Option FieldType} {rm : Room} {b : Nat} {lf : Nat → Option Value}
/-- what every row of a call takes of the walk -/
abbrev xFix (p : Program) (m : MethodId) (c : Code) (cc : ByteArray) (nL : Nat) (s : State) (args : Array Value) (own : String) : Prop := CallFix p m c cc nL s args lw_all own
abbrev xRv (s : State) (H : Heap) (C : String) (b : Nat) : Prop := ∃ cellB : Cell, H[b]? = some cellB ∧ cellB.vm.isStatics = false ∧ s.vm.findClass C = some cellB.cls
theorem xw.recv {w : xw_W} (hE : xE g A s) (hM : xw g A w H) {n ci : Nat} {fs : List Value} {q : vw_C} (he : w n = some (b, .inr (ci, fs))) (hc : xCl[ci]? = some q) : xRv s H q.1 b := by
  obtain ⟨ws, hP, hD, h3, h4⟩ := hM
  obtain ⟨q0, hq⟩ := h3 n _ he
  exact va_recv hE.1 hP hc hq
theorem x_preV (hE : xE g A s) (hS : va_S A s.heap H locs) (hP : P H) (hrv : xRv s H C b) : PreV s H C b (xPc g A (.ref b :: As) P) As :=
  ⟨xPc.blind, hrv, fun U hU hW => ⟨rfl, by rw [hU]; exact hP, hE.go hS hU hW⟩⟩
theorem x_preS (hE : xE g A s) (hS : va_S A s.heap H locs) (hP : P H) : PreS s H (xPc g A As P) As :=
  ⟨xPc.blind, fun U hU hW => ⟨rfl, by rw [hU]; exact hP, hE.go hS hU hW⟩⟩
theorem x_runV {Qc : Array Value → State → Outcome → State → Prop} (hF : xFix p m c cc nL s args own) (hE : xE g A s) (hS : va_S A s.heap H locs) (hP : P H) (hls : lh ls nL lf) (hM : Met l y (ws_ y bytes maxL ret) rm (xPc g A (.ref b :: As) P) Qc mc ms A) (hrv : xRv s H C b)
    (h1 : Cond.methodLink own index y ∈ lw_all) (h2 : Cond.instanceMethod y ∈ lw_all) (h3 : Cond.selects C y y ∈ lw_all) (h4 : Cond.initialized C ∈ lw_all) (h5 : Cond.code y bytes maxL ret ∈ lw_all) (hd : y.cls = C ∧ y.cls ≠ "java/lang/invoke/MethodHandle" ∧ y.cls ≠ "java/lang/invoke/VarHandle" ∧ (parseMethodDescriptor y.desc).map (fun d => d.parameters.length) = some As.length)
    (hrc : rm.cells = mc) (hrs : rm.slots = ms) (hR : rm.frames + 1 ≤ R.frames ∧ 8 + (maxL + 11) + rm.locals ≤ R.locals) (hst : st0 = As.reverse ++ .ref b :: rest) (hcat : (rest.map fun v => v.category).sum ≤ 8) (hdg : decode cc pc = .ok (.invokevirtual index, 3)) (hf : cells + mc ≤ R.cells ∧ slots + ms ≤ R.slots) :
    va_Run p l e R s m args below meth c H locs cells slots mc ms (F0 m pc ls st0) rest (Qc (Value.ref b :: As).toArray) A :=
  va_runV hF hM (cwV As.length hF.2.2.2.2 (lw_V h1 h2 h3 h4 h5) rfl hrc hrs hd hR) (x_preV hE hS hP hrv) rfl rfl (lh_size hls) hst (lv_room hcat) hdg hf
theorem x_runS {Qc : Array Value → State → Outcome → State → Prop} (hF : xFix p m c cc nL s args own) (hE : xE g A s) (hS : va_S A s.heap H locs) (hP : P H) (hls : lh ls nL lf) (hM : Met l y (ws_ y bytes maxL ret) rm (xPc g A As P) Qc mc ms A)
    (h1 : Cond.methodLink own index y ∈ lw_all) (h2 : Cond.static y ∈ lw_all) (h4 : Cond.initialized y.cls ∈ lw_all) (h5 : Cond.code y bytes maxL ret ∈ lw_all) (hd : y.cls ≠ "java/lang/invoke/MethodHandle" ∧ y.cls ≠ "java/lang/invoke/VarHandle" ∧ (parseMethodDescriptor y.desc).map (fun d => d.parameters.length) = some As.length)
    (hrc : rm.cells = mc) (hrs : rm.slots = ms) (hR : rm.frames + 1 ≤ R.frames ∧ 8 + (maxL + 11) + rm.locals ≤ R.locals) (hst : st0 = As.reverse ++ rest) (hcat : (rest.map fun v => v.category).sum ≤ 8) (hdg : decode cc pc = .ok (.invokestatic index, 3)) (hf : cells + mc ≤ R.cells ∧ slots + ms ≤ R.slots) :
    va_Run p l e R s m args below meth c H locs cells slots mc ms (F0 m pc ls st0) rest (Qc As.toArray) A :=
  va_runS hF hM (va_cwS As.length hF.2.2.2.2 (lw_S h1 h2 h4 h5) rfl hrc hrs hd hR) (x_preS hE hS hP) rfl rfl (lh_size hls) hst (lv_room hcat) hdg hf
theorem x_runI {Qc : Array Value → State → Outcome → State → Prop} (hF : xFix p m c cc nL s args own) (hE : xE g A s) (hS : va_S A s.heap H locs) (hP : P H) (hls : lh ls nL lf) (hM : Met l y (ws_ y bytes maxL none) rm (xPc g A (.ref b :: As) P) Qc mc ms A)
    (h1 : Cond.methodLink own index y ∈ lw_all) (h2 : Cond.instanceMethod y ∈ lw_all) (h4 : Cond.initialized y.cls ∈ lw_all) (h5 : Cond.code y bytes maxL none ∈ lw_all) (hy1 : y.name = "<init>") (hd : y.cls ≠ "java/lang/invoke/MethodHandle" ∧ y.cls ≠ "java/lang/invoke/VarHandle" ∧ (parseMethodDescriptor y.desc).map (fun d => d.parameters.length) = some As.length)
    (hrc : rm.cells = mc) (hrs : rm.slots = ms) (hR : rm.frames + 1 ≤ R.frames ∧ 8 + (maxL + 11) + rm.locals ≤ R.locals) (hst : st0 = As.reverse ++ .ref b :: rest) (hcat : (rest.map fun v => v.category).sum ≤ 8) (hdg : decode cc pc = .ok (.invokespecial index, 3)) (hf : cells + mc ≤ R.cells ∧ slots + ms ≤ R.slots) :
    va_Run p l e R s m args below meth c H locs cells slots mc ms (F0 m pc ls st0) rest (Qc (Value.ref b :: As).toArray) A :=
  va_runI hF hM (cwI As.length hF.2.2.2.2 (lw_meth h5) rfl hrc hrs (hF.2.2.2.2 _ h4) (hF.2.2.2.2 _ h1) (hF.2.2.2.2 _ h2) hy1 hd hR) (x_preS hE hS hP) rfl rfl (lh_size hls) hst (lv_room hcat) hdg hf
/-! behind a call -/
theorem x_calli {S : Type} {post : Int32 → S → Prop} {P1 : S → Heap → Prop} {a : Array Value} (hr : va_Run p l e R s m args below meth c H locs cells slots mc ms (F0 m pc ls st0) rest (xQi post P1 A a) A) (hS : va_S A s.heap H locs)
    (kk : ∀ (r : Int32) (u : S) (H1 : Heap) (locs1 : List Loc), post r u → P1 u H1 → va_S A s.heap H1 locs1 → W p l e R s m args below meth c H1 locs1 (cells + mc) (slots + ms) Q (F0 m (pc + 3) ls (.int r :: rest))) : W p l e R s m args below meth c H locs cells slots Q (F0 m pc ls st0) :=
  va_calli hr hS (fun _ _ h => h) (fun _ h => h) (fun r u t H1 locs1 ht hvm hp hB hz hk hS1 => kk r u H1 locs1 hp (by rw [← ht]; exact hB) hS1)
theorem x_callv {S : Type} {post : S → Prop} {P1 : S → Heap → Prop} {a : Array Value} (hr : va_Run p l e R s m args below meth c H locs cells slots mc ms (F0 m pc ls st0) rest (xQv post P1 A a) A) (hS : va_S A s.heap H locs)
    (kk : ∀ (u : S) (H1 : Heap) (locs1 : List Loc), post u → P1 u H1 → va_S A s.heap H1 locs1 → W p l e R s m args below meth c H1 locs1 (cells + mc) (slots + ms) Q (F0 m (pc + 3) ls rest)) : W p l e R s m args below meth c H locs cells slots Q (F0 m pc ls st0) :=
  va_callv hr hS (fun _ _ h => h) (fun _ h => h) (fun u t H1 locs1 ht hvm hp hB hz hk hS1 => kk u H1 locs1 hp (by rw [← ht]; exact hB) hS1)
theorem x_callr {S : Type} {post : S → Prop} {P1 : S → Nat → Heap → Prop} {a : Array Value} (hr : va_Run p l e R s m args below meth c H locs cells slots mc ms (F0 m pc ls st0) rest (xQr post P1 A a) A) (hS : va_S A s.heap H locs)
    (kk : ∀ (u : S) (ra : Nat) (H1 : Heap) (locs1 : List Loc), post u → P1 u ra H1 → va_S A s.heap H1 locs1 → W p l e R s m args below meth c H1 locs1 (cells + mc) (slots + ms) Q (F0 m (pc + 3) ls (.ref ra :: rest))) : W p l e R s m args below meth c H locs cells slots Q (F0 m pc ls st0) :=
  va_callr hr hS (fun _ _ h => h) (fun _ h => h) (fun u ra t H1 locs1 ht hvm hp hB hz hk hS1 => kk u ra H1 locs1 hp (by rw [← ht]; exact hB) hS1)
/-! ends -/
theorem x_iret {S : Type} {post : Int32 → S → Prop} {P1 : S → Heap → Prop} {v : Int32} (hexec : p.tables.exec = Jvm.exec) (hb : c.code = cc) (hr : meth.sig.returnType = some .int) (hlk : meth.locks = false) (hS : va_S A s.heap H locs) (u : S) (hq : post v u) (hP : P1 u H) (hdg : decode cc pc = .ok (.ireturn, 1)) :
    W p l e R s m args below meth c H locs cells slots (MQ below (xQi post P1 A) args s cells slots A) (F0 m pc ls [.int v]) :=
  W.iret hexec hb hr (fun t ht _ => ⟨⟨v, u, rfl, hq, by rw [← ht] at hP; exact hP⟩, hS.F ht⟩) hS.2.2 hdg hlk
theorem x_zret {S : Type} {post : Int32 → S → Prop} {P1 : S → Heap → Prop} {v : Int32} (hexec : p.tables.exec = Jvm.exec) (hb : c.code = cc) (hr : meth.sig.returnType = some .boolean) (hlk : meth.locks = false) (hS : va_S A s.heap H locs) (u : S) (hv : narrow .boolean (.int v) = .int v) (hq : post v u) (hP : P1 u H) (hdg : decode cc pc = .ok (.ireturn, 1)) :
    W p l e R s m args below meth c H locs cells slots (MQ below (xQi post P1 A) args s cells slots A) (F0 m pc ls [.int v]) :=
  W.zret (v := v) hexec hb hr hv (fun t ht _ => ⟨⟨v, u, rfl, hq, by rw [← ht] at hP; exact hP⟩, hS.F ht⟩) hS.2.2 hdg hlk
theorem x_vret {S : Type} {post : S → Prop} {P1 : S → Heap → Prop} (hexec : p.tables.exec = Jvm.exec) (hb : c.code = cc) (hr : meth.sig.returnType = none) (hlk : meth.locks = false) (hS : va_S A s.heap H locs) (u : S) (hq : post u) (hP : P1 u H) (hdg : decode cc pc = .ok (.return_, 1)) :
    W p l e R s m args below meth c H locs cells slots (MQ below (xQv post P1 A) args s cells slots A) (F0 m pc ls []) :=
  W.vret hexec hb hr (fun t ht _ => ⟨⟨u, rfl, hq, by rw [← ht] at hP; exact hP⟩, hS.F ht⟩) hS.2.2 hdg hlk
end XC
