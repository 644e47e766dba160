/-! THE LAW'S ROWS: a world with a part that a call leaves alone -/
set_option maxRecDepth 100000
theorem va_P_perm {D : va_G} {cl : List vw_C} {w w' : va_W} {H : Heap} (h : va_P D cl w H) (p : w.Perm w') : va_P D cl w' H := by
  intro k q hq
  obtain ⟨i, hi⟩ := List.getElem?_of_mem (p.mem_iff.mpr (List.mem_of_getElem? hq))
  exact h i q hi
theorem va_D_nodup {A : Nat → Prop} {w : va_W} : va_D A w ↔ (w.map (fun q => q.1)).Nodup ∧ ∀ q ∈ w, A q.1 := by
  constructor
  · intro h
    refine ⟨?_, fun q hq => ?_⟩
    · rw [List.nodup_iff_pairwise_ne, List.pairwise_iff_getElem]
      intro i j hi hj hij e
      simp only [List.length_map] at hi hj
      have := h.1 i j w[i] w[j] (List.getElem?_eq_getElem hi) (List.getElem?_eq_getElem hj) (by simpa using e)
      omega
    · obtain ⟨i, hi⟩ := List.getElem?_of_mem hq
      exact h.2 i q hi
  · intro h
    refine ⟨fun i j p q hp hq e => ?_, fun k q hk => h.2 q (List.mem_of_getElem? hk)⟩
    have h1 := h.1
    rw [List.nodup_iff_pairwise_ne, List.pairwise_iff_getElem] at h1
    obtain ⟨hi, e1⟩ := List.getElem?_eq_some_iff.mp hp
    obtain ⟨hj, e2⟩ := List.getElem?_eq_some_iff.mp hq
    rcases Nat.lt_trichotomy i j with hlt | rfl | hlt
    · refine (h1 i j (by simpa using hi) (by simpa using hj) hlt ?_).elim
      simp [e1, e2, e]
    · rfl
    · refine (h1 j i (by simpa using hj) (by simpa using hi) hlt ?_).elim
      simp [e1, e2, e]
theorem va_D_perm {A : Nat → Prop} {w w' : va_W} (h : va_D A w) (p : w.Perm w') : va_D A w' := by
  rw [va_D_nodup] at h ⊢
  exact ⟨(p.map _).nodup_iff.mp h.1, fun q hq => h.2 q (p.mem_iff.mpr hq)⟩
theorem wr_joinT {A0 : Nat → Prop} {D : va_G} {cl : List vw_C} {w0 w1 wt wc wc' : va_W} {H H1 : Heap} (hP : va_P D cl (w0 ++ wt) H) (hD : va_D A0 (w0 ++ wt)) (is isR : List Nat) (hC : is.map (fun i => (w0 ++ wt)[i]?) = wc.map some) (hC1 : is.map (fun i => (w1 ++ wt)[i]?) = wc'.map some) (hR : ∀ i ∈ isR, (w1 ++ wt)[i]? = (w0 ++ wt)[i]?) (n0 : Nat) (hl1 : w1.length = n0) (hl0 : w0.length = n0) (hall : ∀ i, i < n0 → i ∈ is ∨ i ∈ isR) (hdis : ∀ i ∈ isR, i ∉ is) (hin : ∀ i ∈ is, i < n0) (adl : List Nat) (hadr1 : w1.map (fun q => q.1) = adl) (hadr0 : w0.map (fun q => q.1) = adl)
    (hk : ∀ q : Nat, q < H.size → ¬ va_A wc H.size q → H1[q]? = H[q]?) (hP1 : va_P D cl wc' H1) : va_P D cl (w1 ++ wt) H1 ∧ va_D A0 (w1 ++ wt) := by
  refine wr_join hP hD is (isR ++ (List.range wt.length).map (fun j => n0 + j)) hC hC1 (fun i hi => ?_) (n0 + wt.length) (by rw [List.length_append, hl1]) (fun i hi => ?_) (fun i hi => ?_) (adl ++ wt.map (fun q => q.1)) (by rw [List.map_append, hadr1]) (by rw [List.map_append, hadr0]) hk hP1
  · rcases List.mem_append.mp hi with h | h
    · exact hR i h
    · obtain ⟨j, -, rfl⟩ := List.mem_map.mp h
      rw [List.getElem?_append_right (by omega), List.getElem?_append_right (by omega), hl1, hl0]
  · by_cases h : i < n0
    · rcases hall i h with h | h
      · exact Or.inl h
      · exact Or.inr (List.mem_append_left _ h)
    · exact Or.inr (List.mem_append_right _ (List.mem_map.mpr ⟨i - n0, List.mem_range.mpr (by omega), by omega⟩))
  · rcases List.mem_append.mp hi with h | h
    · exact hdis i h
    · obtain ⟨j, -, rfl⟩ := List.mem_map.mp h
      intro hc
      have := hin _ hc
      omega
section TT
variable {p : Program} {l : Launch} {e : Env} {R : Room} {s : State} {m : MethodId} {args : Array Value} {below : List Frame} {meth : Method} {c : Code} {H : Heap} {locs : List Loc} {cells slots : Nat} {Q : State → Prop}
variable {cc : ByteArray} {pc : Nat} {ls : Array Slot} {rest st0 : List Value} {D : va_G} {k : Nat → ClassId} {a : Nat} {w0 wt wc wc' : va_W} {A : Nat → Prop}
variable {own C : String} {index maxL nL n : Nat} {y : MethodName} {bytes : ByteArray} {rm : Room} {As : List Value} {b : Nat} {T : u_T} {N : Nat} {hh : List (Nat × Nat × Nat × Nat)} {mc ms : Nat}
theorem wr_callVT {r : Int32} (S : CallFix p m c cc nL s args lw_all own) (hM : Met l y (ws_ y bytes maxL (some .int)) rm (wrP D k wc H.size (.ref b :: As)) (va_Qi (fun x (_ : Unit) => x = r) (fun _ t => va_P D vwCl wc' t.heap) (va_A wc H.size)) 0 0 (va_A wc H.size)) (cw : CallW R s args own C index y bytes maxL (some .int) (ws_ y bytes maxL (some .int)) rm 0 0 n) (hK : KK D k s) (hP : va_P D vwCl (w0 ++ wt) H) (hD : va_D A (w0 ++ wt)) (hS : va_S A s.heap H locs) (hA : ∀ q : Nat, s.heap.size ≤ q → A q) (is isR : List Nat) (w1 : va_W) (hC : is.map (fun i => (w0 ++ wt)[i]?) = wc.map some) (hC1 : is.map (fun i => (w1 ++ wt)[i]?) = wc'.map some) (hR : ∀ i ∈ isR, (w1 ++ wt)[i]? = (w0 ++ wt)[i]?) (n0 : Nat) (hl1 : w1.length = n0) (hl0 : w0.length = n0) (hall : ∀ i, i < n0 → i ∈ is ∨ i ∈ isR) (hdis : va_nd is = true ∧ ∀ i ∈ isR, i ∉ is) (hin : ∀ i ∈ is, i < n0) (adl : List Nat) (hadr1 : w1.map (fun q => q.1) = adl) (hadr0 : w0.map (fun q => q.1) = adl) (q0 ci : Nat) {fs : List Value} (he : (w0 ++ wt)[q0]? = some (b, .inr (ci, fs))) (hc : vwCl[ci]? = some (C, T, N))
    (hn : As.length = n) (hsize : ls.size = nL) (hst : st0 = As.reverse ++ .ref b :: rest) (hW : (rest.map fun v => v.category).sum ≤ 8) (d : decode cc pc = .ok (.invokevirtual index, 3)) (hf : cells ≤ R.cells ∧ slots ≤ R.slots)
    (kk : ∀ (H1 : Heap) (locs1 : List Loc), va_P D vwCl (w1 ++ wt) H1 → va_D A (w1 ++ wt) → va_S A s.heap H1 locs1 → W p l e R s m args below meth c H1 locs1 cells slots Q (F0 m (pc + 3) ls (.int r :: rest))) : W p l e R s m args below meth c H locs cells slots Q (F0 m pc ls st0) := by
  have hF := va_free (wc := wc) hD hS hA is hC
  refine va_calli (va_runV (As := As) (rest := rest) S hM cw (wr_pre hK hP hD is hC hdis.1 q0 ci he hc) rfl hn hsize hst (lv_room hW) d hf) hS (fun q _ h => hF q h) hF (fun x u t H1 locs1 ht hvm hw hB hz hk hS1 => ?_)
  rw [ht] at hB
  obtain ⟨h1, h2⟩ := wr_joinT hP hD is isR hC hC1 hR n0 hl1 hl0 hall hdis.2 hin adl hadr1 hadr0 hk hB
  cases hw
  exact kk H1 locs1 h1 h2 hS1
theorem wx_callVWT {r : Int32} (S : CallFix p m c cc nL s args lw_all own) (hM : Met l y (wsW_ y bytes maxL (some .int) hh) rm (wxP D k wc H.size (.ref b :: As)) (va_Qi (fun x (_ : Unit) => x = r) (fun _ t => va_P D vwCl wc' t.heap) (va_A wc H.size)) mc ms (va_A wc H.size)) (cw : vx_CVW R s args own C index y bytes maxL (some .int) hh (wsW_ y bytes maxL (some .int) hh) rm mc ms n) (hK : KK D k s) (hZ : ZZ A s) (hP : va_P D vwCl (w0 ++ wt) H) (hD : va_D A (w0 ++ wt)) (hS : va_S A s.heap H locs) (hA : ∀ q : Nat, s.heap.size ≤ q → A q) (is isR : List Nat) (w1 : va_W) (hC : is.map (fun i => (w0 ++ wt)[i]?) = wc.map some) (hC1 : is.map (fun i => (w1 ++ wt)[i]?) = wc'.map some) (hR : ∀ i ∈ isR, (w1 ++ wt)[i]? = (w0 ++ wt)[i]?) (n0 : Nat) (hl1 : w1.length = n0) (hl0 : w0.length = n0) (hall : ∀ i, i < n0 → i ∈ is ∨ i ∈ isR) (hdis : va_nd is = true ∧ ∀ i ∈ isR, i ∉ is) (hin : ∀ i ∈ is, i < n0) (adl : List Nat) (hadr1 : w1.map (fun q => q.1) = adl) (hadr0 : w0.map (fun q => q.1) = adl) (q0 ci : Nat) {fs : List Value} (he : (w0 ++ wt)[q0]? = some (b, .inr (ci, fs))) (hc : vwCl[ci]? = some (C, T, N))
    (hn : As.length = n) (hsize : ls.size = nL) (hst : st0 = As.reverse ++ .ref b :: rest) (hW : (rest.map fun v => v.category).sum ≤ 8) (d : decode cc pc = .ok (.invokevirtual index, 3)) (hf : cells + mc ≤ R.cells ∧ slots + ms ≤ R.slots)
    (kk : ∀ (H1 : Heap) (locs1 : List Loc), va_P D vwCl (w1 ++ wt) H1 → va_D A (w1 ++ wt) → va_S A s.heap H1 locs1 → W p l e R s m args below meth c H1 locs1 (cells + mc) (slots + ms) Q (F0 m (pc + 3) ls (.int r :: rest))) : W p l e R s m args below meth c H locs cells slots Q (F0 m pc ls st0) := by
  have hF := va_free (wc := wc) hD hS hA is hC
  refine va_calli (vx_runVW (As := As) (rest := rest) S hM cw (wx_pre hK hZ hP hD hS hA is hC hdis.1 q0 ci he hc) rfl hn hsize hst (lv_room hW) d hf) hS (fun q _ h => hF q h) hF (fun x u t H1 locs1 ht hvm hw hB hz hk hS1 => ?_)
  rw [ht] at hB
  obtain ⟨h1, h2⟩ := wr_joinT hP hD is isR hC hC1 hR n0 hl1 hl0 hall hdis.2 hin adl hadr1 hadr0 hk hB
  cases hw
  exact kk H1 locs1 h1 h2 hS1
theorem wx_callVWTl {r : Int64} (S : CallFix p m c cc nL s args lw_all own) (hM : Met l y (wsW_ y bytes maxL (some .long) hh) rm (wxP D k wc H.size (.ref b :: As)) (va_Ql (fun x (_ : Unit) => x = r) (fun _ t => va_P D vwCl wc' t.heap) (va_A wc H.size)) mc ms (va_A wc H.size)) (cw : vx_CVW R s args own C index y bytes maxL (some .long) hh (wsW_ y bytes maxL (some .long) hh) rm mc ms n) (hK : KK D k s) (hZ : ZZ A s) (hP : va_P D vwCl (w0 ++ wt) H) (hD : va_D A (w0 ++ wt)) (hS : va_S A s.heap H locs) (hA : ∀ q : Nat, s.heap.size ≤ q → A q) (is isR : List Nat) (w1 : va_W) (hC : is.map (fun i => (w0 ++ wt)[i]?) = wc.map some) (hC1 : is.map (fun i => (w1 ++ wt)[i]?) = wc'.map some) (hR : ∀ i ∈ isR, (w1 ++ wt)[i]? = (w0 ++ wt)[i]?) (n0 : Nat) (hl1 : w1.length = n0) (hl0 : w0.length = n0) (hall : ∀ i, i < n0 → i ∈ is ∨ i ∈ isR) (hdis : va_nd is = true ∧ ∀ i ∈ isR, i ∉ is) (hin : ∀ i ∈ is, i < n0) (adl : List Nat) (hadr1 : w1.map (fun q => q.1) = adl) (hadr0 : w0.map (fun q => q.1) = adl) (q0 ci : Nat) {fs : List Value} (he : (w0 ++ wt)[q0]? = some (b, .inr (ci, fs))) (hc : vwCl[ci]? = some (C, T, N))
    (hn : As.length = n) (hsize : ls.size = nL) (hst : st0 = As.reverse ++ .ref b :: rest) (hW : (rest.map fun v => v.category).sum ≤ 8) (d : decode cc pc = .ok (.invokevirtual index, 3)) (hf : cells + mc ≤ R.cells ∧ slots + ms ≤ R.slots)
    (kk : ∀ (H1 : Heap) (locs1 : List Loc), va_P D vwCl (w1 ++ wt) H1 → va_D A (w1 ++ wt) → va_S A s.heap H1 locs1 → W p l e R s m args below meth c H1 locs1 (cells + mc) (slots + ms) Q (F0 m (pc + 3) ls (.long r :: rest))) : W p l e R s m args below meth c H locs cells slots Q (F0 m pc ls st0) := by
  have hF := va_free (wc := wc) hD hS hA is hC
  refine va_calll (vx_runVW (As := As) (rest := rest) S hM cw (wx_pre hK hZ hP hD hS hA is hC hdis.1 q0 ci he hc) rfl hn hsize hst (lv_room hW) d hf) hS (fun q _ h => hF q h) hF (fun x u t H1 locs1 ht hvm hw hB hz hk hS1 => ?_)
  rw [ht] at hB
  obtain ⟨h1, h2⟩ := wr_joinT hP hD is isR hC hC1 hR n0 hl1 hl0 hall hdis.2 hin adl hadr1 hadr0 hk hB
  cases hw
  exact kk H1 locs1 h1 h2 hS1
theorem rd_callVL {r : Int64} (S : CallFix p m c cc nL s args lw_all own) (hM : CtL l y bytes maxL rm (.ref b :: As) D k wc r) (cw : CallW R s args own C index y bytes maxL (some .long) (ws_ y bytes maxL (some .long)) rm 0 0 n) (hK : KK D k s) (hP : va_P D vwCl (w0 ++ wt) H) (is : List Nat) (hs : is.filterMap (fun i => (w0 ++ wt)[i]?) = wc) (q0 ci : Nat) {fs : List Value} (he : (w0 ++ wt)[q0]? = some (b, .inr (ci, fs))) (hc : vwCl[ci]? = some (C, T, N))
    (hn : As.length = n) (hsize : ls.size = nL) (hst : st0 = As.reverse ++ .ref b :: rest) (hW : (rest.map fun v => v.category).sum ≤ 8) (d : decode cc pc = .ok (.invokevirtual index, 3)) (hf : cells ≤ R.cells ∧ slots ≤ R.slots)
    (kk : W p l e R s m args below meth c H locs cells slots Q (F0 m (pc + 3) ls (.long r :: rest))) : W p l e R s m args below meth c H locs cells slots Q (F0 m pc ls st0) := by
  refine vp_callSl' (W.runV (As := As) (rest := rest) S hM cw (rd_pre (ret := some .long) hK hP is hs q0 ci he hc) rfl hn hsize hst (lv_room hW) d hf) (fun r' hr' => ?_)
  cases hr'; exact kk
end TT
