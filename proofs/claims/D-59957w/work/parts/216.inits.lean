/-! THE CONSTRUCTORS: a grid's row, Router, Aislewright -/
set_option maxRecDepth 100000
/-- a grid of N rows of M: itself at nA, its rows from B on -/
def xGrid (g : xg) (w : xw_W) (nA B N M h : Nat) : xw_W := fun n => if n = nA then some (h, .inl (g.2 2, aQ N (fun j => some (h + 1 + j)))) else if B ≤ n ∧ n < B + N then some (h + 1 + (n - B), .inl (g.2 0, M, .inl (fun _ => 0))) else w n
theorem xGrid_a {g : xg} {w : xw_W} {nA B N M h : Nat} : xGrid g w nA B N M h nA = some (h, .inl (g.2 2, aQ N (fun j => some (h + 1 + j)))) := by
  unfold xGrid
  rw [if_pos rfl]
theorem xGrid_r {g : xg} {w : xw_W} {nA B N M h k : Nat} (hAB : nA < B ∨ B + N ≤ nA) (hk : k < N) : xGrid g w nA B N M h (B + k) = some (h + 1 + k, .inl (g.2 0, M, .inl (fun _ => 0))) := by
  unfold xGrid
  rw [if_neg (by omega), if_pos (by omega), show h + 1 + (B + k - B) = h + 1 + k by omega]
theorem xGrid_n {g : xg} {w : xw_W} {nA B N M h n : Nat} (h1 : n ≠ nA) (h2 : n < B ∨ B + N ≤ n) : xGrid g w nA B N M h n = w n := by
  unfold xGrid
  rw [if_neg h1, if_neg (by omega)]
/-- the cells of a grid, one after another from h on -/
def xGcells (g : xg) (N M h : Nat) : va_W := (List.range (N + 1)).map (fun j => (h + j, if j = 0 then .inl (g.2 2, aQ N (fun j => some (h + 1 + j))) else .inl (g.2 0, M, .inl (fun _ => 0))))
theorem xGcells_at {g : xg} {N M h k : Nat} {q : Nat × va_E} (hq : (xGcells g N M h)[k]? = some q) : k < N + 1 ∧ q = (h + k, if k = 0 then .inl (g.2 2, aQ N (fun j => some (h + 1 + j))) else .inl (g.2 0, M, .inl (fun _ => 0))) := by
  unfold xGcells at hq
  rw [List.getElem?_map] at hq
  by_cases hk : k < N + 1
  · rw [List.getElem?_range hk] at hq
    exact ⟨hk, (Option.some.inj hq).symm⟩
  · rw [List.getElem?_eq_none (by rw [List.length_range]; omega)] at hq
    cases hq
theorem xGcells_in {g : xg} {N M h k : Nat} (hk : k < N + 1) : (xGcells g N M h)[k]? = some (h + k, if k = 0 then .inl (g.2 2, aQ N (fun j => some (h + 1 + j))) else .inl (g.2 0, M, .inl (fun _ => 0))) := by
  unfold xGcells
  rw [List.getElem?_map, List.getElem?_range hk]
  rfl
theorem xw_grid {g : xg} {A : Nat → Prop} {w : xw_W} {H H1 : Heap} {nA B N M : Nat} (hM : xw g A w H) (hAB : nA < B ∨ B + N ≤ nA) (hA : ∀ q, H.size ≤ q → A q) (ho : ∀ q, q < H.size → H1[q]? = H[q]?)
    (hn : ∀ k, k < N + 1 → va_at g.1 xCl (H.size + k, if k = 0 then .inl (g.2 2, aQ N (fun j => some (H.size + 1 + j))) else .inl (g.2 0, M, .inl (fun _ => 0))) H1) : xw g A (xGrid g w nA B N M H.size) H1 := by
  obtain ⟨ws, hP, hD, h3, h4⟩ := hM
  have hlt : ∀ (k : Nat) (q : Nat × va_E), ws[k]? = some q → q.1 < H.size := fun k q hk => (hP k q hk).lt
  have hlw : ∀ n q, w n = some q → q.1 < H.size := fun n q hq => by
    obtain ⟨k, hk⟩ := h3 n q hq
    exact hlt k q hk
  have spl : ∀ (k : Nat) (q : Nat × va_E), (ws ++ xGcells g N M H.size)[k]? = some q → (k < ws.length ∧ ws[k]? = some q) ∨ (ws.length ≤ k ∧ (xGcells g N M H.size)[k - ws.length]? = some q) := by
    intro k q hk
    by_cases hl : k < ws.length
    · rw [List.getElem?_append_left hl] at hk
      exact Or.inl ⟨hl, hk⟩
    · rw [List.getElem?_append_right (by omega)] at hk
      exact Or.inr ⟨by omega, hk⟩
  have key : ∀ n q, xGrid g w nA B N M H.size n = some q → (∃ k, k < N + 1 ∧ (xGcells g N M H.size)[k]? = some q ∧ q.1 = H.size + k ∧ n = if k = 0 then nA else B + (k - 1)) ∨ w n = some q := by
    intro n q hq
    unfold xGrid at hq
    by_cases e1 : n = nA
    · rw [if_pos e1] at hq
      refine Or.inl ⟨0, by omega, (xGcells_in (by omega)).trans hq, by rw [← Option.some.inj hq]; rfl, by rw [if_pos rfl]; exact e1⟩
    · rw [if_neg e1] at hq
      by_cases e2 : B ≤ n ∧ n < B + N
      · rw [if_pos e2] at hq
        refine Or.inl ⟨n - B + 1, by omega, (xGcells_in (by omega)).trans (Eq.trans ?_ hq), by rw [← Option.some.inj hq]; show H.size + 1 + (n - B) = _; omega, by rw [if_neg (by omega)]; omega⟩
        rw [if_neg (by omega), show H.size + (n - B + 1) = H.size + 1 + (n - B) by omega]
      · rw [if_neg e2] at hq
        exact Or.inr hq
  refine ⟨ws ++ xGcells g N M H.size, fun k q hk => ?_, ⟨fun i j p q hi hj e => ?_, fun k q hk => ?_⟩, fun n q hq => ?_, fun n n' q q' h1 h2 e => ?_⟩
  · rcases spl k q hk with ⟨-, h1⟩ | ⟨-, h1⟩
    · exact (hP k q h1).kept (ho _ (hlt k q h1))
    · obtain ⟨h2, rfl⟩ := xGcells_at h1
      exact hn _ h2
  · rcases spl i p hi with ⟨-, h1⟩ | ⟨l1, h1⟩ <;> rcases spl j q hj with ⟨-, h2⟩ | ⟨l2, h2⟩
    · exact hD.1 i j p q h1 h2 e
    · have a1 := hlt i p h1
      obtain ⟨-, rfl⟩ := xGcells_at h2
      simp only at e
      omega
    · have a1 := hlt j q h2
      obtain ⟨-, rfl⟩ := xGcells_at h1
      simp only at e
      omega
    · obtain ⟨-, rfl⟩ := xGcells_at h1
      obtain ⟨-, rfl⟩ := xGcells_at h2
      simp only at e
      omega
  · rcases spl k q hk with ⟨-, h1⟩ | ⟨-, h1⟩
    · exact hD.2 k q h1
    · obtain ⟨-, rfl⟩ := xGcells_at h1
      exact hA _ (Nat.le_add_right _ _)
  · rcases key n q hq with ⟨k, k1, k2, -, -⟩ | h1
    · exact ⟨ws.length + k, by rw [List.getElem?_append_right (by omega), Nat.add_sub_cancel_left]; exact k2⟩
    · obtain ⟨k, hk⟩ := h3 n q h1
      exact ⟨k, by rw [List.getElem?_append_left (List.getElem?_eq_some_iff.mp hk).1]; exact hk⟩
  · rcases key n q h1 with ⟨k, k1, -, k3, k4⟩ | h5 <;> rcases key n' q' h2 with ⟨k', k1', -, k3', k4'⟩ | h5'
    · have : k = k' := by omega
      rw [k4, k4', this]
    · have := hlw _ _ h5'
      omega
    · have := hlw _ _ h5
      omega
    · exact h4 _ _ _ _ h5 h5' e
theorem outerC_only (c : ClassId) (N h0 : Nat) : ∀ i, ∃ sl, Jvm.Free.Multi.outerC c N h0 i = { cls := c, slots := sl, vm := .none }
  | 0 => ⟨_, rfl⟩
  | i + 1 => by
    obtain ⟨sl, h⟩ := outerC_only c N h0 i
    refine ⟨(Jvm.Free.Multi.outerC c N h0 (i + 1)).slots, ?_⟩
    unfold Jvm.Free.Multi.outerC
    rw [h]
    rfl
section XG
variable {p : Program} {l : Launch} {e : Env} {R : Room} {s : State} {m : MethodId} {args : Array Value} {below : List Frame} {meth : Method} {c : Code} {H : Heap} {locs : List Loc} {cells slots : Nat} {Q : State → Prop}
variable {cc : ByteArray} {pc index : Nat} {ls : Array Slot} {rest : List Value} {g : xg} {A : Nat → Prop} {w : xw_W} {own : String}
theorem xr_multi (hexec : p.tables.exec = Jvm.exec) (hb : c.code = cc) (hown : s.vm.findClass own = some m.cls) (hcl : (Cond.classLink own index "[[I").before args s = true) (harr : (Cond.arrayClass .int).before args s = true) (hE : xE g A s) (hM : xw g A w H) (hS : va_S A s.heap H locs) (nA B : Nat) {N M : Nat} (hAB : nA < B ∨ B + N ≤ nA) (hN : N < 100000) (hMM : M < 100000) (hcells : cells + (1 + N) ≤ R.cells) (hslots : slots + (N + N * M) ≤ R.slots) (hdg : decode cc pc = .ok (.multianewarray index 2, 4))
    (kk : ∀ (q : Nat) (H1 : Heap), H.size ≤ q → xw g A (xGrid g w nA B N M q) H1 → va_S A s.heap H1 locs → W p l e R s m args below meth c H1 locs (cells + (1 + N)) (slots + (N + N * M)) Q (F0 m (pc + 4) ls (.ref q :: rest))) : W p l e R s m args below meth c H locs cells slots Q (F0 m pc ls (.int (nI M) :: .int (nI N) :: rest)) := by
  intro T hT X
  have cN : (nI N).toNatClampNeg = N := nI_clamp (by omega)
  have cM : (nI M).toNatClampNeg = M := nI_clamp (by omega)
  have hao : (Cond.arrayOver (.array .int)).before args s = true := hE.2.2.1 _ q110 rfl
  obtain ⟨vm1, cA, comp, hW, hfA, hfC, hO, hI, X1, st⟩ := X.multianewarray2F hexec (own := own) (index := index) (ty := .int) hown hcl hao harr (g := F0 m pc ls (.int (nI M) :: .int (nI N) :: rest)) rfl (by rw [hb]; exact hdg) (n := nI N) (k := nI M) (rest := rest) rfl (nI_pos (by omega)) (nI_pos (by omega)) (by rw [cN]; omega) (by rw [cM]; show M * 4 ≤ _; omega) (by rw [cM]; omega) rfl rfl (by rw [cN]; exact hcells) (by rw [cN, cM]; exact hslots)
  rw [cN, cM] at X1 st
  have kA : cA = g.2 2 := xK_cls (ty := .array .int) hfA (hE.1.2 2 (g.2 2, .array .int) rfl).2
  have kC : comp = g.2 0 := xK_cls (ty := .int) hfC (hE.1.2 0 (g.2 0, .int) rfl).2
  subst kA
  subst kC
  obtain ⟨f1, f2, f3, f4⟩ := Jvm.Free.Multi.fill_facts (T.setVm vm1) (g.2 2) (g.2 0) N M (defaultValue .int) N
  obtain ⟨o1, o2, o3⟩ := Jvm.Free.Multi.outerC_facts (g.2 2) N (T.setVm vm1).heap.size N
  have hsz : (T.setVm vm1).heap.size = H.size := by rw [← hT]; rfl
  have hold : ∀ q, q < H.size → (Jvm.Free.Multi.fill (T.setVm vm1) (g.2 2) (g.2 0) N M (defaultValue .int) N).heap[q]? = H[q]? := fun q hq => by
    rw [Jvm.Free.Multi.fill_old (T.setVm vm1) (g.2 2) (g.2 0) N M _ (by rw [hsz]; exact hq) N, ← hT]
    rfl
  have hout : Jvm.Free.Multi.outerC (g.2 2) N H.size N = vp_cell (g.2 2) (aQ N (fun j => some (H.size + 1 + j))) := by
    have e1 := Jvm.Free.Multi.outerC_facts (g.2 2) N H.size N
    have e2 := fun j hj => Jvm.Free.Multi.outerC_slot (g.2 2) N H.size N j hj
    obtain ⟨c2, hc2⟩ := outerC_only (g.2 2) N H.size N
    rw [hc2] at e1 e2 ⊢
    obtain ⟨-, -, a3⟩ := e1
    simp only at a3 e2
    show _ = arrV (g.2 2) N (fun j => va_rf (some (H.size + 1 + j)))
    unfold arrV
    congr 1
    apply Array.ext
    · rw [a3, Array.size_ofFn]
    · intro j h1 h2
      have := e2 j (by omega)
      rw [if_pos (by omega), Array.getElem?_eq_getElem h1] at this
      rw [Option.some.inj this, Array.getElem_ofFn]
      rfl
  have hs1 : H.size ≤ (Jvm.Free.Multi.fill (T.setVm vm1) (g.2 2) (g.2 0) N M (defaultValue .int) N).heap.size := by
    rw [f1, hsz]
    omega
  have hxw : xw g A (xGrid g w nA B N M H.size) (Jvm.Free.Multi.fill (T.setVm vm1) (g.2 2) (g.2 0) N M (defaultValue .int) N).heap := by
    refine xw_grid hM hAB (fun q hq => hE.2.1 q (Nat.le_trans hS.1 hq)) hold (fun k hk => ?_)
    by_cases e : k = 0
    · subst e
      rw [if_pos rfl]
      show _ = some (vp_cell _ _)
      rw [← hout, ← hsz]
      exact f2
    · rw [if_neg e]
      show _ = some (vp_cell _ _)
      have := Jvm.Free.Multi.fill_inner (T.setVm vm1) (g.2 2) (g.2 0) N M (defaultValue .int) N (k - 1) (by omega)
      rw [hsz, show H.size + 1 + (k - 1) = H.size + k by omega] at this
      refine this.trans (congrArg some ?_)
      exact arrV_new (g.2 0) M (.int 0)
  have hS1 : va_S A s.heap (Jvm.Free.Multi.fill (T.setVm vm1) (g.2 2) (g.2 0) N M (defaultValue .int) N).heap locs := ⟨Nat.le_trans hS.1 hs1, fun x h1 h2 => (hold x (Nat.lt_of_lt_of_le h1 hS.1)).trans (hS.2.1 x h1 h2), hS.2.2⟩
  obtain ⟨t, ht, hq⟩ := kk H.size _ (Nat.le_refl _) hxw hS1 _ rfl (X1.more (by omega) (by omega))
  refine ⟨t, st t ?_, hq⟩
  rw [hT]
  exact ht
end XG
