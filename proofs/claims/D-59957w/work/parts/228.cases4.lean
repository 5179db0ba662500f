/-! THE LAW: cases (4), printed by tools/gen_law.py -/
set_option maxRecDepth 100000
set_option maxHeartbeats 2000000 in
theorem law_c18 {p : Program} {l : Launch} {e : Env} {s : State} {m : MethodId} {args : Array Value} {below : List Frame} {meth : Method} {c : Code} {H : Heap} {locs : List Loc} {cells slots : Nat} {Q : State → Prop} {ls : Array Slot} {g : xg} {x0 m0 o bb L i : Nat} {xs : Nat → Int32} {ν : nS} {z : Int64} (hlt : l.stackTraces = false) (hF : xFix p m c cL_law 9 s args RX0) (hE : xE g (x3 s.heap.size) s) (hNc : xNc s) (hX : va_X bb L xs s s.heap) (hbl : bb < s.heap.size) (hL : L ≤ 259) (hi : i + 4 ≤ L) (hc : cells + 2200 ≤ 603072) (hsl : slots + 93200 ≤ 7194288)
    (hV : LV g s.heap.size m0 o (xI g ν x0) (mR ν) z H) (hS : va_S (x3 s.heap.size) s.heap H locs) (hl : lh ls 9 (xl [(0, .ref bb), (1, .ref x0), (2, .ref m0), (3, .ref o), (4, .int (nI i))]))
    (kk : ∀ (ν' : nS) (z' : Int64) (H1 : Heap) (locs1 : List Loc) (ls1 : Array Slot), LV g s.heap.size m0 o (xI g ν' x0) (mR ν') z' H1 → va_S (x3 s.heap.size) s.heap H1 locs1 → lh ls1 9 (xl [(0, .ref bb), (1, .ref x0), (2, .ref m0), (3, .ref o), (4, .int (nI i))]) → W p l e room_1 s m args below meth c H1 locs1 (cells + 2200) (slots + 93200) Q (F0 m 1440 ls1 [])) :
    W p l e room_1 s m args below meth c H locs cells slots Q (F0 m 1150 ls []) := by
  obtain ⟨hx, hb, hml, hown, hts⟩ := id hF
  refine lv_aload_n hx hb dL_law_1150 rfl (lh_at hl rfl) ?_
  refine lv_aload_n hx hb dL_law_1151 rfl (lh_at hl rfl) ?_
  refine lv_iload hx hb dL_law_1152 (lh_at hl rfl) ?_
  refine n_const hx hb 1 dL_law_1154 (by decide +kernel) ?_
  refine n_iadd hx hb dL_law_1155 ?_
  refine l_iald hF hX hbl hS (by omega) hL dL_law_1156 ?_
  refine lv_aload_n hx hb dL_law_1157 rfl (lh_at hl rfl) ?_
  refine l_x (As := [.ref x0, .int (xs (i + 1)), .ref o]) hF hE hNc hS hV hl (fun B w h hoB => yk_lengthThrough l hlt g B w ν x0 o z (xs (i + 1)) h hoB) q1270 q1271 q37 q1272 ⟨by decide +kernel, by decide +kernel, by show _ = some 3; decide +kernel⟩ rfl rfl ⟨Nat.le_of_ble_eq_true rfl, Nat.le_of_ble_eq_true rfl⟩ rfl (Nat.le_of_ble_eq_true rfl) dL_law_1158 (by show (_ : Nat) ≤ 603072 ∧ (_ : Nat) ≤ 7194288; omega) (fun z1 H locs hz1 hV hS => ?_)
  refine x_istore hx hb dL_law_1161 hl (by decide) (fun ls hl => ?_)
  refine lv_aload_n hx hb dL_law_1163 rfl (lh_at hl rfl) ?_
  refine lv_aload_n hx hb dL_law_1164 rfl (lh_at hl rfl) ?_
  refine lv_iload hx hb dL_law_1165 (lh_at hl rfl) ?_
  refine n_const hx hb 1 dL_law_1167 (by decide +kernel) ?_
  refine n_iadd hx hb dL_law_1168 ?_
  refine l_iald hF hX hbl hS (by omega) hL dL_law_1169 ?_
  refine l_m (post := fun _ => mOp (opThrough ν (xs (i + 1)))) (As := [.int (xs (i + 1))]) hF hE hS hV hl (fun A ad μ h => mk_lengthThrough l g A m0 ad μ ν h (xs (i + 1))) q1528 q1529 q1530 q44 q1531 ⟨rfl, by decide +kernel, by decide +kernel, by show _ = some 1; decide +kernel⟩ rfl rfl ⟨Nat.le_of_ble_eq_true rfl, Nat.le_of_ble_eq_true rfl⟩ rfl (Nat.le_of_ble_eq_true rfl) dL_law_1170 (by show (_ : Nat) ≤ 603072 ∧ (_ : Nat) ≤ 7194288; omega) (fun r2 H locs hV hS => ?_)
  generalize ht : (opThrough ν (xs (i + 1))) = t at hV hz1 hl ⊢
  have ht3 : t.1 ≤ 3 := by rw [← ht]; exact opThrough_c ν (xs (i + 1))
  clear ht
  have hr2 : r2 = t.2.1 := by
    obtain ⟨-, ⟨u9, μ9, -, -, hr9, -⟩, -⟩ := hV.get
    exact hr9
  subst hr2
  have hV := hV.mono (PX' := fun w => vOk t.2.2 → xI g t.2.2 x0 w) (PM' := fun u => u.1 0 = nI t.1 ∧ mR t.2.2 u) (fun _ h => h) (fun u h => by obtain ⟨μ, -, h1, -, h3⟩ := h; exact ⟨h1, h3⟩)
  refine x_istore hx hb dL_law_1173 hl (by decide) (fun ls hl => ?_)
  refine lv_aload_n hx hb dL_law_1175 rfl (lh_at hl rfl) ?_
  refine l_m (post := fun μ r u => r = μ.1 0 ∧ u = μ) (As := []) hF hE hS hV hl (fun A ad μ _ => mk_thrown l g A m0 ad μ) q1381 q1382 q1383 q44 q1384 ⟨rfl, by decide +kernel, by decide +kernel, by show _ = some 0; decide +kernel⟩ rfl rfl ⟨Nat.le_of_ble_eq_true rfl, Nat.le_of_ble_eq_true rfl⟩ rfl (Nat.le_of_ble_eq_true rfl) dL_law_1176 (by show (_ : Nat) ≤ 603072 ∧ (_ : Nat) ≤ 7194288; omega) (fun r3 H locs hV hS => ?_)
  have hr3 : r3 = nI t.1 := by
    obtain ⟨-, ⟨u9, μ9, hm9, hr9, -⟩, -⟩ := hV.get
    exact hr9.trans hm9.1
  subst hr3
  have hV := hV.mono (PX' := fun w => vOk t.2.2 → xI g t.2.2 x0 w) (PM' := mR t.2.2) (fun _ h => h) (fun u h => by obtain ⟨μ, h1, -, h3⟩ := h; rw [h3]; exact h1.2)
  have hok : vOk t.2.2 := by
    obtain ⟨-, ⟨u9, hm9⟩, -⟩ := hV.get
    exact hm9.1
  have hV := hV.mono (PX' := xI g t.2.2 x0) (PM' := mR t.2.2) (fun _ h => h hok) (fun _ h => h)
  refine lv_iload hx hb dL_law_1179 (lh_at hl rfl) ?_
  refine lv_icmp_eq (tgt := 1186) hx hb dL_law_1181 (by decide) (fun c1 => ?_) (fun c1 => ?_)
  · refine lv_iload hx hb dL_law_1186 (lh_at hl rfl) ?_
    refine lv_if_ne (tgt := 1203) hx hb dL_law_1188 (by decide) (fun c2 => ?_) (fun c2 => ?_)
    · refine lv_goto (tgt := 1440) hx hb dL_law_1203 (by decide) ?_
      refine W.widen (k := cells + 2200) (n := slots + 93200) (by omega) (by omega) ?_
      exact kk _ _ _ _ _ hV hS (lh_sub hl _ ⟨rfl, rfl, rfl, rfl, rfl, trivial⟩)
    · have h0 : t.1 = 0 := by
        have h4 := c2
        have h5 := congrArg Int32.toInt h4
        rw [nI_toInt (by omega)] at h5
        have h6 : ((0 : Int32)).toInt = 0 := rfl
        omega
      refine lv_aload_n hx hb dL_law_1191 rfl (lh_at hl rfl) ?_
      refine n_const hx hb 0 dL_law_1192 (by decide +kernel) ?_
      refine l_lald hF hE hV dL_law_1193 ?_
      refine lv_iload hx hb dL_law_1194 (lh_at hl rfl) ?_
      refine lv_i2l hx hb dL_law_1196 rfl ?_
      refine W.lcmp hx hb dL_law_1197 ?_
      rw [hz1 h0, show lg_cmp t.2.1.toInt64 t.2.1.toInt64 = 0 by simp [lg_cmp]]
      refine lv_if_eq (tgt := 1203) hx hb dL_law_1198 (by decide) (fun c3 => ?_) (fun c3 => ?_)
      · refine lv_goto (tgt := 1440) hx hb dL_law_1203 (by decide) ?_
        refine W.widen (k := cells + 2200) (n := slots + 93200) (by omega) (by omega) ?_
        exact kk _ _ _ _ _ hV hS (lh_sub hl _ ⟨rfl, rfl, rfl, rfl, rfl, trivial⟩)
      · exact absurd rfl c3
  · exact absurd rfl c1
set_option maxHeartbeats 2000000 in
theorem law_c19 {p : Program} {l : Launch} {e : Env} {s : State} {m : MethodId} {args : Array Value} {below : List Frame} {meth : Method} {c : Code} {H : Heap} {locs : List Loc} {cells slots : Nat} {Q : State → Prop} {ls : Array Slot} {g : xg} {x0 m0 o bb L i : Nat} {xs : Nat → Int32} {ν : nS} {z : Int64} (hlt : l.stackTraces = false) (hF : xFix p m c cL_law 9 s args RX0) (hE : xE g (x3 s.heap.size) s) (hNc : xNc s) (hX : va_X bb L xs s s.heap) (hbl : bb < s.heap.size) (hL : L ≤ 259) (hi : i + 4 ≤ L) (hc : cells + 2200 ≤ 603072) (hsl : slots + 93200 ≤ 7194288)
    (hV : LV g s.heap.size m0 o (xI g ν x0) (mR ν) z H) (hS : va_S (x3 s.heap.size) s.heap H locs) (hl : lh ls 9 (xl [(0, .ref bb), (1, .ref x0), (2, .ref m0), (3, .ref o), (4, .int (nI i))]))
    (kk : ∀ (ν' : nS) (z' : Int64) (H1 : Heap) (locs1 : List Loc) (ls1 : Array Slot), LV g s.heap.size m0 o (xI g ν' x0) (mR ν') z' H1 → va_S (x3 s.heap.size) s.heap H1 locs1 → lh ls1 9 (xl [(0, .ref bb), (1, .ref x0), (2, .ref m0), (3, .ref o), (4, .int (nI i))]) → W p l e room_1 s m args below meth c H1 locs1 (cells + 2200) (slots + 93200) Q (F0 m 1440 ls1 [])) :
    W p l e room_1 s m args below meth c H locs cells slots Q (F0 m 1206 ls []) := by
  obtain ⟨hx, hb, hml, hown, hts⟩ := id hF
  obtain ⟨⟨w9, hw9⟩, -, -⟩ := hV.get
  refine lv_aload_n hx hb dL_law_1206 rfl (lh_at hl rfl) ?_
  refine lv_aload_n hx hb dL_law_1207 rfl (lh_at hl rfl) ?_
  refine lv_iload hx hb dL_law_1208 (lh_at hl rfl) ?_
  refine n_const hx hb 1 dL_law_1210 (by decide +kernel) ?_
  refine n_iadd hx hb dL_law_1211 ?_
  refine l_iald hF hX hbl hS (by omega) hL dL_law_1212 ?_
  refine lv_aload_n hx hb dL_law_1213 rfl (lh_at hl rfl) ?_
  refine l_x (As := [.ref x0, .int (xs (i + 1)), .ref o]) hF hE hNc hS hV hl (fun B w h hoB => yk_stops l hlt g B w ν x0 o z (xs (i + 1)) h hoB) q1281 q1282 q37 q1283 ⟨by decide +kernel, by decide +kernel, by show _ = some 3; decide +kernel⟩ rfl rfl ⟨Nat.le_of_ble_eq_true rfl, Nat.le_of_ble_eq_true rfl⟩ rfl (Nat.le_of_ble_eq_true rfl) dL_law_1214 (by show (_ : Nat) ≤ 603072 ∧ (_ : Nat) ≤ 7194288; omega) (fun z1 H locs hz1 hV hS => ?_)
  refine x_istore hx hb dL_law_1217 hl (by decide) (fun ls hl => ?_)
  refine lv_aload_n hx hb dL_law_1219 rfl (lh_at hl rfl) ?_
  refine lv_aload_n hx hb dL_law_1220 rfl (lh_at hl rfl) ?_
  refine lv_iload hx hb dL_law_1221 (lh_at hl rfl) ?_
  refine n_const hx hb 1 dL_law_1223 (by decide +kernel) ?_
  refine n_iadd hx hb dL_law_1224 ?_
  refine l_iald hF hX hbl hS (by omega) hL dL_law_1225 ?_
  refine l_m (post := fun _ => mOp (opStops ν (xs (i + 1)))) (As := [.int (xs (i + 1))]) hF hE hS hV hl (fun A ad μ h => mk_stops l g A m0 ad μ ν h hw9.1.W (xs (i + 1))) q1536 q1537 q1538 q44 q1539 ⟨rfl, by decide +kernel, by decide +kernel, by show _ = some 1; decide +kernel⟩ rfl rfl ⟨Nat.le_of_ble_eq_true rfl, Nat.le_of_ble_eq_true rfl⟩ rfl (Nat.le_of_ble_eq_true rfl) dL_law_1226 (by show (_ : Nat) ≤ 603072 ∧ (_ : Nat) ≤ 7194288; omega) (fun r2 H locs hV hS => ?_)
  generalize ht : (opStops ν (xs (i + 1))) = t at hV hz1 hl ⊢
  have ht3 : t.1 ≤ 3 := by rw [← ht]; exact opStops_c ν (xs (i + 1))
  clear ht
  have hr2 : r2 = t.2.1 := by
    obtain ⟨-, ⟨u9, μ9, -, -, hr9, -⟩, -⟩ := hV.get
    exact hr9
  subst hr2
  have hV := hV.mono (PX' := fun w => vOk t.2.2 → xI g t.2.2 x0 w) (PM' := fun u => u.1 0 = nI t.1 ∧ mR t.2.2 u) (fun _ h => h) (fun u h => by obtain ⟨μ, -, h1, -, h3⟩ := h; exact ⟨h1, h3⟩)
  refine x_istore hx hb dL_law_1229 hl (by decide) (fun ls hl => ?_)
  refine lv_aload_n hx hb dL_law_1231 rfl (lh_at hl rfl) ?_
  refine l_m (post := fun μ r u => r = μ.1 0 ∧ u = μ) (As := []) hF hE hS hV hl (fun A ad μ _ => mk_thrown l g A m0 ad μ) q1381 q1382 q1383 q44 q1384 ⟨rfl, by decide +kernel, by decide +kernel, by show _ = some 0; decide +kernel⟩ rfl rfl ⟨Nat.le_of_ble_eq_true rfl, Nat.le_of_ble_eq_true rfl⟩ rfl (Nat.le_of_ble_eq_true rfl) dL_law_1232 (by show (_ : Nat) ≤ 603072 ∧ (_ : Nat) ≤ 7194288; omega) (fun r3 H locs hV hS => ?_)
  have hr3 : r3 = nI t.1 := by
    obtain ⟨-, ⟨u9, μ9, hm9, hr9, -⟩, -⟩ := hV.get
    exact hr9.trans hm9.1
  subst hr3
  have hV := hV.mono (PX' := fun w => vOk t.2.2 → xI g t.2.2 x0 w) (PM' := mR t.2.2) (fun _ h => h) (fun u h => by obtain ⟨μ, h1, -, h3⟩ := h; rw [h3]; exact h1.2)
  have hok : vOk t.2.2 := by
    obtain ⟨-, ⟨u9, hm9⟩, -⟩ := hV.get
    exact hm9.1
  have hV := hV.mono (PX' := xI g t.2.2 x0) (PM' := mR t.2.2) (fun _ h => h hok) (fun _ h => h)
  refine lv_iload hx hb dL_law_1235 (lh_at hl rfl) ?_
  refine lv_icmp_eq (tgt := 1242) hx hb dL_law_1237 (by decide) (fun c1 => ?_) (fun c1 => ?_)
  · refine lv_iload hx hb dL_law_1242 (lh_at hl rfl) ?_
    refine lv_if_ne (tgt := 1259) hx hb dL_law_1244 (by decide) (fun c2 => ?_) (fun c2 => ?_)
    · refine lv_goto (tgt := 1440) hx hb dL_law_1259 (by decide) ?_
      refine W.widen (k := cells + 2200) (n := slots + 93200) (by omega) (by omega) ?_
      exact kk _ _ _ _ _ hV hS (lh_sub hl _ ⟨rfl, rfl, rfl, rfl, rfl, trivial⟩)
    · have h0 : t.1 = 0 := by
        have h4 := c2
        have h5 := congrArg Int32.toInt h4
        rw [nI_toInt (by omega)] at h5
        have h6 : ((0 : Int32)).toInt = 0 := rfl
        omega
      refine lv_aload_n hx hb dL_law_1247 rfl (lh_at hl rfl) ?_
      refine n_const hx hb 0 dL_law_1248 (by decide +kernel) ?_
      refine l_lald hF hE hV dL_law_1249 ?_
      refine lv_iload hx hb dL_law_1250 (lh_at hl rfl) ?_
      refine lv_i2l hx hb dL_law_1252 rfl ?_
      refine W.lcmp hx hb dL_law_1253 ?_
      rw [hz1 h0, show lg_cmp t.2.1.toInt64 t.2.1.toInt64 = 0 by simp [lg_cmp]]
      refine lv_if_eq (tgt := 1259) hx hb dL_law_1254 (by decide) (fun c3 => ?_) (fun c3 => ?_)
      · refine lv_goto (tgt := 1440) hx hb dL_law_1259 (by decide) ?_
        refine W.widen (k := cells + 2200) (n := slots + 93200) (by omega) (by omega) ?_
        exact kk _ _ _ _ _ hV hS (lh_sub hl _ ⟨rfl, rfl, rfl, rfl, rfl, trivial⟩)
      · exact absurd rfl c3
  · exact absurd rfl c1
set_option maxHeartbeats 2000000 in
theorem law_c20 {p : Program} {l : Launch} {e : Env} {s : State} {m : MethodId} {args : Array Value} {below : List Frame} {meth : Method} {c : Code} {H : Heap} {locs : List Loc} {cells slots : Nat} {Q : State → Prop} {ls : Array Slot} {g : xg} {x0 m0 o bb L i : Nat} {xs : Nat → Int32} {ν : nS} {z : Int64} (hlt : l.stackTraces = false) (hF : xFix p m c cL_law 9 s args RX0) (hE : xE g (x3 s.heap.size) s) (hNc : xNc s) (hX : va_X bb L xs s s.heap) (hbl : bb < s.heap.size) (hL : L ≤ 259) (hi : i + 4 ≤ L) (hc : cells + 2200 ≤ 603072) (hsl : slots + 93200 ≤ 7194288)
    (hV : LV g s.heap.size m0 o (xI g ν x0) (mR ν) z H) (hS : va_S (x3 s.heap.size) s.heap H locs) (hl : lh ls 9 (xl [(0, .ref bb), (1, .ref x0), (2, .ref m0), (3, .ref o), (4, .int (nI i))]))
    (kk : ∀ (ν' : nS) (z' : Int64) (H1 : Heap) (locs1 : List Loc) (ls1 : Array Slot), LV g s.heap.size m0 o (xI g ν' x0) (mR ν') z' H1 → va_S (x3 s.heap.size) s.heap H1 locs1 → lh ls1 9 (xl [(0, .ref bb), (1, .ref x0), (2, .ref m0), (3, .ref o), (4, .int (nI i))]) → W p l e room_1 s m args below meth c H1 locs1 (cells + 2200) (slots + 93200) Q (F0 m 1440 ls1 [])) :
    W p l e room_1 s m args below meth c H locs cells slots Q (F0 m 1262 ls []) := by
  obtain ⟨hx, hb, hml, hown, hts⟩ := id hF
  obtain ⟨⟨w9, hw9⟩, -, -⟩ := hV.get
  refine lv_aload_n hx hb dL_law_1262 rfl (lh_at hl rfl) ?_
  refine lv_aload_n hx hb dL_law_1263 rfl (lh_at hl rfl) ?_
  refine lv_iload hx hb dL_law_1264 (lh_at hl rfl) ?_
  refine n_const hx hb 1 dL_law_1266 (by decide +kernel) ?_
  refine n_iadd hx hb dL_law_1267 ?_
  refine l_iald hF hX hbl hS (by omega) hL dL_law_1268 ?_
  refine lv_aload_n hx hb dL_law_1269 rfl (lh_at hl rfl) ?_
  refine lv_iload hx hb dL_law_1270 (lh_at hl rfl) ?_
  refine n_const hx hb 2 dL_law_1272 (by decide +kernel) ?_
  refine n_iadd hx hb dL_law_1273 ?_
  refine l_iald hF hX hbl hS (by omega) hL dL_law_1274 ?_
  refine lv_aload_n hx hb dL_law_1275 rfl (lh_at hl rfl) ?_
  refine l_x (As := [.ref x0, .int (xs (i + 1)), .int (xs (i + 2)), .ref o]) hF hE hNc hS hV hl (fun B w h hoB => yk_stopAt l hlt g B w ν x0 o z (xs (i + 1)) (xs (i + 2)) h hoB) q1288 q1289 q37 q1290 ⟨by decide +kernel, by decide +kernel, by show _ = some 4; decide +kernel⟩ rfl rfl ⟨Nat.le_of_ble_eq_true rfl, Nat.le_of_ble_eq_true rfl⟩ rfl (Nat.le_of_ble_eq_true rfl) dL_law_1276 (by show (_ : Nat) ≤ 603072 ∧ (_ : Nat) ≤ 7194288; omega) (fun z1 H locs hz1 hV hS => ?_)
  refine x_istore hx hb dL_law_1279 hl (by decide) (fun ls hl => ?_)
  refine lv_aload_n hx hb dL_law_1281 rfl (lh_at hl rfl) ?_
  refine lv_aload_n hx hb dL_law_1282 rfl (lh_at hl rfl) ?_
  refine lv_iload hx hb dL_law_1283 (lh_at hl rfl) ?_
  refine n_const hx hb 1 dL_law_1285 (by decide +kernel) ?_
  refine n_iadd hx hb dL_law_1286 ?_
  refine l_iald hF hX hbl hS (by omega) hL dL_law_1287 ?_
  refine lv_aload_n hx hb dL_law_1288 rfl (lh_at hl rfl) ?_
  refine lv_iload hx hb dL_law_1289 (lh_at hl rfl) ?_
  refine n_const hx hb 2 dL_law_1291 (by decide +kernel) ?_
  refine n_iadd hx hb dL_law_1292 ?_
  refine l_iald hF hX hbl hS (by omega) hL dL_law_1293 ?_
  refine l_m (post := fun _ => mOp (opStopAt ν (xs (i + 1)) (xs (i + 2)))) (As := [.int (xs (i + 1)), .int (xs (i + 2))]) hF hE hS hV hl (fun A ad μ h => mk_stopAt l g A m0 ad μ ν h hw9.1.W (xs (i + 1)) (xs (i + 2))) q1540 q1541 q1542 q44 q1543 ⟨rfl, by decide +kernel, by decide +kernel, by show _ = some 2; decide +kernel⟩ rfl rfl ⟨Nat.le_of_ble_eq_true rfl, Nat.le_of_ble_eq_true rfl⟩ rfl (Nat.le_of_ble_eq_true rfl) dL_law_1294 (by show (_ : Nat) ≤ 603072 ∧ (_ : Nat) ≤ 7194288; omega) (fun r2 H locs hV hS => ?_)
  generalize ht : (opStopAt ν (xs (i + 1)) (xs (i + 2))) = t at hV hz1 hl ⊢
  have ht3 : t.1 ≤ 3 := by rw [← ht]; exact opStopAt_c ν (xs (i + 1)) (xs (i + 2))
  clear ht
  have hr2 : r2 = t.2.1 := by
    obtain ⟨-, ⟨u9, μ9, -, -, hr9, -⟩, -⟩ := hV.get
    exact hr9
  subst hr2
  have hV := hV.mono (PX' := fun w => vOk t.2.2 → xI g t.2.2 x0 w) (PM' := fun u => u.1 0 = nI t.1 ∧ mR t.2.2 u) (fun _ h => h) (fun u h => by obtain ⟨μ, -, h1, -, h3⟩ := h; exact ⟨h1, h3⟩)
  refine x_istore hx hb dL_law_1297 hl (by decide) (fun ls hl => ?_)
  refine lv_aload_n hx hb dL_law_1299 rfl (lh_at hl rfl) ?_
  refine l_m (post := fun μ r u => r = μ.1 0 ∧ u = μ) (As := []) hF hE hS hV hl (fun A ad μ _ => mk_thrown l g A m0 ad μ) q1381 q1382 q1383 q44 q1384 ⟨rfl, by decide +kernel, by decide +kernel, by show _ = some 0; decide +kernel⟩ rfl rfl ⟨Nat.le_of_ble_eq_true rfl, Nat.le_of_ble_eq_true rfl⟩ rfl (Nat.le_of_ble_eq_true rfl) dL_law_1300 (by show (_ : Nat) ≤ 603072 ∧ (_ : Nat) ≤ 7194288; omega) (fun r3 H locs hV hS => ?_)
  have hr3 : r3 = nI t.1 := by
    obtain ⟨-, ⟨u9, μ9, hm9, hr9, -⟩, -⟩ := hV.get
    exact hr9.trans hm9.1
  subst hr3
  have hV := hV.mono (PX' := fun w => vOk t.2.2 → xI g t.2.2 x0 w) (PM' := mR t.2.2) (fun _ h => h) (fun u h => by obtain ⟨μ, h1, -, h3⟩ := h; rw [h3]; exact h1.2)
  have hok : vOk t.2.2 := by
    obtain ⟨-, ⟨u9, hm9⟩, -⟩ := hV.get
    exact hm9.1
  have hV := hV.mono (PX' := xI g t.2.2 x0) (PM' := mR t.2.2) (fun _ h => h hok) (fun _ h => h)
  refine lv_iload hx hb dL_law_1303 (lh_at hl rfl) ?_
  refine lv_icmp_eq (tgt := 1310) hx hb dL_law_1305 (by decide) (fun c1 => ?_) (fun c1 => ?_)
  · refine lv_iload hx hb dL_law_1310 (lh_at hl rfl) ?_
    refine lv_if_ne (tgt := 1327) hx hb dL_law_1312 (by decide) (fun c2 => ?_) (fun c2 => ?_)
    · refine lv_goto (tgt := 1440) hx hb dL_law_1327 (by decide) ?_
      refine W.widen (k := cells + 2200) (n := slots + 93200) (by omega) (by omega) ?_
      exact kk _ _ _ _ _ hV hS (lh_sub hl _ ⟨rfl, rfl, rfl, rfl, rfl, trivial⟩)
    · have h0 : t.1 = 0 := by
        have h4 := c2
        have h5 := congrArg Int32.toInt h4
        rw [nI_toInt (by omega)] at h5
        have h6 : ((0 : Int32)).toInt = 0 := rfl
        omega
      refine lv_aload_n hx hb dL_law_1315 rfl (lh_at hl rfl) ?_
      refine n_const hx hb 0 dL_law_1316 (by decide +kernel) ?_
      refine l_lald hF hE hV dL_law_1317 ?_
      refine lv_iload hx hb dL_law_1318 (lh_at hl rfl) ?_
      refine lv_i2l hx hb dL_law_1320 rfl ?_
      refine W.lcmp hx hb dL_law_1321 ?_
      rw [hz1 h0, show lg_cmp t.2.1.toInt64 t.2.1.toInt64 = 0 by simp [lg_cmp]]
      refine lv_if_eq (tgt := 1327) hx hb dL_law_1322 (by decide) (fun c3 => ?_) (fun c3 => ?_)
      · refine lv_goto (tgt := 1440) hx hb dL_law_1327 (by decide) ?_
        refine W.widen (k := cells + 2200) (n := slots + 93200) (by omega) (by omega) ?_
        exact kk _ _ _ _ _ hV hS (lh_sub hl _ ⟨rfl, rfl, rfl, rfl, rfl, trivial⟩)
      · exact absurd rfl c3
  · exact absurd rfl c1
set_option maxHeartbeats 2000000 in
theorem law_c21 {p : Program} {l : Launch} {e : Env} {s : State} {m : MethodId} {args : Array Value} {below : List Frame} {meth : Method} {c : Code} {H : Heap} {locs : List Loc} {cells slots : Nat} {Q : State → Prop} {ls : Array Slot} {g : xg} {x0 m0 o bb L i : Nat} {xs : Nat → Int32} {ν : nS} {z : Int64} (hlt : l.stackTraces = false) (hF : xFix p m c cL_law 9 s args RX0) (hE : xE g (x3 s.heap.size) s) (hNc : xNc s) (hX : va_X bb L xs s s.heap) (hbl : bb < s.heap.size) (hL : L ≤ 259) (hi : i + 4 ≤ L) (hc : cells + 2200 ≤ 603072) (hsl : slots + 93200 ≤ 7194288)
    (hV : LV g s.heap.size m0 o (xI g ν x0) (mR ν) z H) (hS : va_S (x3 s.heap.size) s.heap H locs) (hl : lh ls 9 (xl [(0, .ref bb), (1, .ref x0), (2, .ref m0), (3, .ref o), (4, .int (nI i))]))
    (kk : ∀ (ν' : nS) (z' : Int64) (H1 : Heap) (locs1 : List Loc) (ls1 : Array Slot), LV g s.heap.size m0 o (xI g ν' x0) (mR ν') z' H1 → va_S (x3 s.heap.size) s.heap H1 locs1 → lh ls1 9 (xl [(0, .ref bb), (1, .ref x0), (2, .ref m0), (3, .ref o), (4, .int (nI i))]) → W p l e room_1 s m args below meth c H1 locs1 (cells + 2200) (slots + 93200) Q (F0 m 1440 ls1 [])) :
    W p l e room_1 s m args below meth c H locs cells slots Q (F0 m 1330 ls []) := by
  obtain ⟨hx, hb, hml, hown, hts⟩ := id hF
  refine lv_aload_n hx hb dL_law_1330 rfl (lh_at hl rfl) ?_
  refine lv_aload_n hx hb dL_law_1331 rfl (lh_at hl rfl) ?_
  refine lv_iload hx hb dL_law_1332 (lh_at hl rfl) ?_
  refine n_const hx hb 1 dL_law_1334 (by decide +kernel) ?_
  refine n_iadd hx hb dL_law_1335 ?_
  refine l_iald hF hX hbl hS (by omega) hL dL_law_1336 ?_
  refine lv_aload_n hx hb dL_law_1337 rfl (lh_at hl rfl) ?_
  refine l_x (As := [.ref x0, .int (xs (i + 1)), .ref o]) hF hE hNc hS hV hl (fun B w h hoB => yk_inAisle l hlt g B w ν x0 o z (xs (i + 1)) h hoB) q1301 q1302 q37 q1303 ⟨by decide +kernel, by decide +kernel, by show _ = some 3; decide +kernel⟩ rfl rfl ⟨Nat.le_of_ble_eq_true rfl, Nat.le_of_ble_eq_true rfl⟩ rfl (Nat.le_of_ble_eq_true rfl) dL_law_1338 (by show (_ : Nat) ≤ 603072 ∧ (_ : Nat) ≤ 7194288; omega) (fun z1 H locs hz1 hV hS => ?_)
  refine x_istore hx hb dL_law_1341 hl (by decide) (fun ls hl => ?_)
  refine lv_aload_n hx hb dL_law_1343 rfl (lh_at hl rfl) ?_
  refine lv_aload_n hx hb dL_law_1344 rfl (lh_at hl rfl) ?_
  refine lv_iload hx hb dL_law_1345 (lh_at hl rfl) ?_
  refine n_const hx hb 1 dL_law_1347 (by decide +kernel) ?_
  refine n_iadd hx hb dL_law_1348 ?_
  refine l_iald hF hX hbl hS (by omega) hL dL_law_1349 ?_
  refine l_m (post := fun _ => mOp (opInAisle ν (xs (i + 1)))) (As := [.int (xs (i + 1))]) hF hE hS hV hl (fun A ad μ h => mk_inAisle l g A m0 ad μ ν h (xs (i + 1))) q1548 q1549 q1550 q44 q1551 ⟨rfl, by decide +kernel, by decide +kernel, by show _ = some 1; decide +kernel⟩ rfl rfl ⟨Nat.le_of_ble_eq_true rfl, Nat.le_of_ble_eq_true rfl⟩ rfl (Nat.le_of_ble_eq_true rfl) dL_law_1350 (by show (_ : Nat) ≤ 603072 ∧ (_ : Nat) ≤ 7194288; omega) (fun r2 H locs hV hS => ?_)
  generalize ht : (opInAisle ν (xs (i + 1))) = t at hV hz1 hl ⊢
  have ht3 : t.1 ≤ 3 := by rw [← ht]; exact opInAisle_c ν (xs (i + 1))
  clear ht
  have hr2 : r2 = t.2.1 := by
    obtain ⟨-, ⟨u9, μ9, -, -, hr9, -⟩, -⟩ := hV.get
    exact hr9
  subst hr2
  have hV := hV.mono (PX' := fun w => vOk t.2.2 → xI g t.2.2 x0 w) (PM' := fun u => u.1 0 = nI t.1 ∧ mR t.2.2 u) (fun _ h => h) (fun u h => by obtain ⟨μ, -, h1, -, h3⟩ := h; exact ⟨h1, h3⟩)
  refine x_istore hx hb dL_law_1353 hl (by decide) (fun ls hl => ?_)
  refine lv_aload_n hx hb dL_law_1355 rfl (lh_at hl rfl) ?_
  refine l_m (post := fun μ r u => r = μ.1 0 ∧ u = μ) (As := []) hF hE hS hV hl (fun A ad μ _ => mk_thrown l g A m0 ad μ) q1381 q1382 q1383 q44 q1384 ⟨rfl, by decide +kernel, by decide +kernel, by show _ = some 0; decide +kernel⟩ rfl rfl ⟨Nat.le_of_ble_eq_true rfl, Nat.le_of_ble_eq_true rfl⟩ rfl (Nat.le_of_ble_eq_true rfl) dL_law_1356 (by show (_ : Nat) ≤ 603072 ∧ (_ : Nat) ≤ 7194288; omega) (fun r3 H locs hV hS => ?_)
  have hr3 : r3 = nI t.1 := by
    obtain ⟨-, ⟨u9, μ9, hm9, hr9, -⟩, -⟩ := hV.get
    exact hr9.trans hm9.1
  subst hr3
  have hV := hV.mono (PX' := fun w => vOk t.2.2 → xI g t.2.2 x0 w) (PM' := mR t.2.2) (fun _ h => h) (fun u h => by obtain ⟨μ, h1, -, h3⟩ := h; rw [h3]; exact h1.2)
  have hok : vOk t.2.2 := by
    obtain ⟨-, ⟨u9, hm9⟩, -⟩ := hV.get
    exact hm9.1
  have hV := hV.mono (PX' := xI g t.2.2 x0) (PM' := mR t.2.2) (fun _ h => h hok) (fun _ h => h)
  refine lv_iload hx hb dL_law_1359 (lh_at hl rfl) ?_
  refine lv_icmp_eq (tgt := 1366) hx hb dL_law_1361 (by decide) (fun c1 => ?_) (fun c1 => ?_)
  · refine lv_iload hx hb dL_law_1366 (lh_at hl rfl) ?_
    refine lv_if_ne (tgt := 1383) hx hb dL_law_1368 (by decide) (fun c2 => ?_) (fun c2 => ?_)
    · refine lv_goto (tgt := 1440) hx hb dL_law_1383 (by decide) ?_
      refine W.widen (k := cells + 2200) (n := slots + 93200) (by omega) (by omega) ?_
      exact kk _ _ _ _ _ hV hS (lh_sub hl _ ⟨rfl, rfl, rfl, rfl, rfl, trivial⟩)
    · have h0 : t.1 = 0 := by
        have h4 := c2
        have h5 := congrArg Int32.toInt h4
        rw [nI_toInt (by omega)] at h5
        have h6 : ((0 : Int32)).toInt = 0 := rfl
        omega
      refine lv_aload_n hx hb dL_law_1371 rfl (lh_at hl rfl) ?_
      refine n_const hx hb 0 dL_law_1372 (by decide +kernel) ?_
      refine l_lald hF hE hV dL_law_1373 ?_
      refine lv_iload hx hb dL_law_1374 (lh_at hl rfl) ?_
      refine lv_i2l hx hb dL_law_1376 rfl ?_
      refine W.lcmp hx hb dL_law_1377 ?_
      rw [hz1 h0, show lg_cmp t.2.1.toInt64 t.2.1.toInt64 = 0 by simp [lg_cmp]]
      refine lv_if_eq (tgt := 1383) hx hb dL_law_1378 (by decide) (fun c3 => ?_) (fun c3 => ?_)
      · refine lv_goto (tgt := 1440) hx hb dL_law_1383 (by decide) ?_
        refine W.widen (k := cells + 2200) (n := slots + 93200) (by omega) (by omega) ?_
        exact kk _ _ _ _ _ hV hS (lh_sub hl _ ⟨rfl, rfl, rfl, rfl, rfl, trivial⟩)
      · exact absurd rfl c3
  · exact absurd rfl c1
set_option maxHeartbeats 2000000 in
theorem law_c22 {p : Program} {l : Launch} {e : Env} {s : State} {m : MethodId} {args : Array Value} {below : List Frame} {meth : Method} {c : Code} {H : Heap} {locs : List Loc} {cells slots : Nat} {Q : State → Prop} {ls : Array Slot} {g : xg} {x0 m0 o bb L i : Nat} {xs : Nat → Int32} {ν : nS} {z : Int64} (hlt : l.stackTraces = false) (hF : xFix p m c cL_law 9 s args RX0) (hE : xE g (x3 s.heap.size) s) (hNc : xNc s) (hX : va_X bb L xs s s.heap) (hbl : bb < s.heap.size) (hL : L ≤ 259) (hi : i + 4 ≤ L) (hc : cells + 2200 ≤ 603072) (hsl : slots + 93200 ≤ 7194288)
    (hV : LV g s.heap.size m0 o (xI g ν x0) (mR ν) z H) (hS : va_S (x3 s.heap.size) s.heap H locs) (hl : lh ls 9 (xl [(0, .ref bb), (1, .ref x0), (2, .ref m0), (3, .ref o), (4, .int (nI i))]))
    (kk : ∀ (ν' : nS) (z' : Int64) (H1 : Heap) (locs1 : List Loc) (ls1 : Array Slot), LV g s.heap.size m0 o (xI g ν' x0) (mR ν') z' H1 → va_S (x3 s.heap.size) s.heap H1 locs1 → lh ls1 9 (xl [(0, .ref bb), (1, .ref x0), (2, .ref m0), (3, .ref o), (4, .int (nI i))]) → W p l e room_1 s m args below meth c H1 locs1 (cells + 2200) (slots + 93200) Q (F0 m 1440 ls1 [])) :
    W p l e room_1 s m args below meth c H locs cells slots Q (F0 m 1386 ls []) := by
  obtain ⟨hx, hb, hml, hown, hts⟩ := id hF
  refine lv_aload_n hx hb dL_law_1386 rfl (lh_at hl rfl) ?_
  refine l_xi (As := []) hF hE hS hV hl (fun B w h => xk_walked l g B w ν x0 h) q196 q197 q198 q38 q199 ⟨rfl, by decide +kernel, by decide +kernel, by show _ = some 0; decide +kernel⟩ rfl rfl ⟨Nat.le_of_ble_eq_true rfl, Nat.le_of_ble_eq_true rfl⟩ rfl (Nat.le_of_ble_eq_true rfl) dL_law_1387 (by show (_ : Nat) ≤ 603072 ∧ (_ : Nat) ≤ 7194288; omega) (fun r1 H locs hr1 hV hS => ?_)
  refine lv_aload_n hx hb dL_law_1390 rfl (lh_at hl rfl) ?_
  refine l_m (post := fun _ => mOp (0, nI (vC ν 6), ν)) (As := []) hF hE hS hV hl (fun A ad μ h => mk_walked l g A m0 ad μ ν h) q1552 q1553 q1554 q44 q1555 ⟨rfl, by decide +kernel, by decide +kernel, by show _ = some 0; decide +kernel⟩ rfl rfl ⟨Nat.le_of_ble_eq_true rfl, Nat.le_of_ble_eq_true rfl⟩ rfl (Nat.le_of_ble_eq_true rfl) dL_law_1391 (by show (_ : Nat) ≤ 603072 ∧ (_ : Nat) ≤ 7194288; omega) (fun r2 H locs hV hS => ?_)
  have hr2 : r2 = nI (vC ν 6) := by
    obtain ⟨-, ⟨u9, μ9, -, -, hr9, -⟩, -⟩ := hV.get
    exact hr9
  have hV := hV.mono (PX' := xI g ν x0) (PM' := mR ν) (fun _ h => h) (fun u h => by obtain ⟨μ, -, -, -, h3⟩ := h; exact h3)
  rw [hr1, hr2]
  refine lv_icmp_eq (tgt := 1440) hx hb dL_law_1394 (by decide) (fun c1 => ?_) (fun c1 => ?_)
  · refine W.widen (k := cells + 2200) (n := slots + 93200) (by omega) (by omega) ?_
    exact kk _ _ _ _ _ hV hS (lh_sub hl _ ⟨rfl, rfl, rfl, rfl, rfl, trivial⟩)
  · exact absurd rfl c1
set_option maxHeartbeats 2000000 in
theorem law_c23 {p : Program} {l : Launch} {e : Env} {s : State} {m : MethodId} {args : Array Value} {below : List Frame} {meth : Method} {c : Code} {H : Heap} {locs : List Loc} {cells slots : Nat} {Q : State → Prop} {ls : Array Slot} {g : xg} {x0 m0 o bb L i : Nat} {xs : Nat → Int32} {ν : nS} {z : Int64} (hlt : l.stackTraces = false) (hF : xFix p m c cL_law 9 s args RX0) (hE : xE g (x3 s.heap.size) s) (hNc : xNc s) (hX : va_X bb L xs s s.heap) (hbl : bb < s.heap.size) (hL : L ≤ 259) (hi : i + 4 ≤ L) (hc : cells + 2200 ≤ 603072) (hsl : slots + 93200 ≤ 7194288)
    (hV : LV g s.heap.size m0 o (xI g ν x0) (mR ν) z H) (hS : va_S (x3 s.heap.size) s.heap H locs) (hl : lh ls 9 (xl [(0, .ref bb), (1, .ref x0), (2, .ref m0), (3, .ref o), (4, .int (nI i))]))
    (kk : ∀ (ν' : nS) (z' : Int64) (H1 : Heap) (locs1 : List Loc) (ls1 : Array Slot), LV g s.heap.size m0 o (xI g ν' x0) (mR ν') z' H1 → va_S (x3 s.heap.size) s.heap H1 locs1 → lh ls1 9 (xl [(0, .ref bb), (1, .ref x0), (2, .ref m0), (3, .ref o), (4, .int (nI i))]) → W p l e room_1 s m args below meth c H1 locs1 (cells + 2200) (slots + 93200) Q (F0 m 1440 ls1 [])) :
    W p l e room_1 s m args below meth c H locs cells slots Q (F0 m 1399 ls []) := by
  obtain ⟨hx, hb, hml, hown, hts⟩ := id hF
  refine lv_aload_n hx hb dL_law_1399 rfl (lh_at hl rfl) ?_
  refine l_xd (As := []) hF hE hS hV hl (fun B w h => xk_share l g B w ν x0 h) q200 q201 q202 q38 q203 ⟨rfl, by decide +kernel, by decide +kernel, by show _ = some 0; decide +kernel⟩ rfl rfl ⟨Nat.le_of_ble_eq_true rfl, Nat.le_of_ble_eq_true rfl⟩ rfl (Nat.le_of_ble_eq_true rfl) dL_law_1400 (by show (_ : Nat) ≤ 603072 ∧ (_ : Nat) ≤ 7194288; omega) (fun r1 H locs hr1 hV hS => ?_)
  obtain ⟨⟨w9, hw9⟩, -, -⟩ := hV.get
  refine x_dstore hx hb dL_law_1403 hl (by decide) (fun ls hl => ?_)
  refine lv_aload_n hx hb dL_law_1405 rfl (lh_at hl rfl) ?_
  refine l_md (post := fun _ => shPost ν) (As := []) hF hE hS hV hl (fun A ad μ h => mk_share l g A m0 ad μ ν h (Nat.lt_of_le_of_lt hw9.1.wk (by decide)) (Nat.lt_of_le_of_lt hw9.1.al (by decide))) q1556 q1557 q1558 q44 q1559 ⟨rfl, by decide +kernel, by decide +kernel, by show _ = some 0; decide +kernel⟩ rfl rfl ⟨Nat.le_of_ble_eq_true rfl, Nat.le_of_ble_eq_true rfl⟩ rfl (Nat.le_of_ble_eq_true rfl) dL_law_1406 (by show (_ : Nat) ≤ 603072 ∧ (_ : Nat) ≤ 7194288; omega) (fun r2 H locs hV hS => ?_)
  have hr2 : r2 = shD (vC ν 6) (vC ν 7) := by
    obtain ⟨-, ⟨u9, μ9, -, -, hr9, -⟩, -⟩ := hV.get
    exact hr9
  subst hr1
  subst hr2
  have hV := hV.mono (PX' := xI g ν x0) (PM' := mR ν) (fun _ h => h) (fun u h => by obtain ⟨μ, -, -, -, h3⟩ := h; exact h3)
  refine x_dstore hx hb dL_law_1409 hl (by decide) (fun ls hl => ?_)
  generalize shD (vC ν 6) (vC ν 7) = d9 at hl
  refine lv_dload hx hb dL_law_1411 (lh_at hl rfl) ?_
  refine lv_dload hx hb dL_law_1413 (lh_at hl rfl) ?_
  refine lv_dcmp hx hb dL_law_1415 ?_
  refine lv_if_eq (tgt := 1437) hx hb dL_law_1416 (by decide) (fun c1 => ?_) (fun c1 => ?_)
  · refine lv_goto (tgt := 1440) hx hb dL_law_1437 (by decide) ?_
    refine W.widen (k := cells + 2200) (n := slots + 93200) (by omega) (by omega) ?_
    exact kk _ _ _ _ _ hV hS (lh_sub hl _ ⟨rfl, rfl, rfl, rfl, rfl, trivial⟩)
  · refine lv_dload hx hb dL_law_1419 (lh_at hl rfl) ?_
    refine lv_dload hx hb dL_law_1421 (lh_at hl rfl) ?_
    refine lv_dcmp hx hb dL_law_1423 ?_
    refine lv_if_eq (tgt := 1435) hx hb dL_law_1424 (by decide) (fun c2 => ?_) (fun c2 => ?_)
    · exact absurd c2 c1
    · refine lv_dload hx hb dL_law_1427 (lh_at hl rfl) ?_
      refine lv_dload hx hb dL_law_1429 (lh_at hl rfl) ?_
      refine lv_dcmp hx hb dL_law_1431 ?_
      refine lv_if_ne (tgt := 1437) hx hb dL_law_1432 (by decide) (fun c3 => ?_) (fun c3 => ?_)
      · refine lv_goto (tgt := 1440) hx hb dL_law_1437 (by decide) ?_
        refine W.widen (k := cells + 2200) (n := slots + 93200) (by omega) (by omega) ?_
        exact kk _ _ _ _ _ hV hS (lh_sub hl _ ⟨rfl, rfl, rfl, rfl, rfl, trivial⟩)
      · exact absurd c3 c1
