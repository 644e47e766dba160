/-! CALLS of methods with handlers, and of methods that throw -/
set_option maxRecDepth 100000
def exN (n : Nat) : String := match n with | 1 => "java/lang/NullPointerException" | 2 => "java/lang/ArrayIndexOutOfBoundsException" | 3 => "java/lang/ClassCastException" | _ => "java/lang/ArithmeticException"
/-- a method with handlers that takes none of them -/
theorem wr_startW {l : Launch} {y : MethodName} {cc : ByteArray} {n : Nat} {ret : Option FieldType} {hh : List (Nat × Nat × Nat × Nat)} {rm : Room} {D : va_G} {k : Nat → ClassId} {ws : va_W} {sz : Nat} {av : List Value} {mc ms : Nat} {Qc : (Nat → Prop) → Array Value → State → Outcome → State → Prop} (hy : plainName y.cls = true) (hn : (lg_sl av).length ≤ n)
    (body : ∀ (p : Program) (e : Env) (s : State) (m : MethodId) (below : List Frame) (meth : Method) (c : Code) (ls : Array Slot) (A : Nat → Prop), (∀ q : Nat, s.heap.size ≤ q → A q) → p.tables.exec = Jvm.exec → c.code = cc → meth.sig.returnType = ret → meth.locks = false → c.maxLocals = n → s.vm.findClass y.cls = some m.cls → (∀ w ∈ lw_all, w.before av.toArray s = true) → va_P D vwCl ws s.heap → KK D k s → va_D A ws → lv_has ls n (lv_args 0 av) → gW p l e rm s m av below meth c (Qc A) A mc ms s.heap [] 0 ls []) :
    Met l y (wsW_ y cc n ret hh) rm (wrP D k ws sz av) (Qc (va_A ws sz)) mc ms (va_A ws sz) := by
  refine va_MetW (cc := cc) (maxL := n) (ret := ret) (hh := hh) hy rfl ?_
  intro p e s m args below meth c s₁ B hml hv
  obtain ⟨rfl, hsz, hP, hK, hD0⟩ := hv
  subst hsz
  have hts := atoms_spec (ws := wsW_ y cc n ret hh) B.pre
  have hD := hD0.self (sz := s.heap.size)
  have hl := lv_entry av (n := n) hn
  rw [lg_entry_eq]
  generalize (lg_sl av ++ List.replicate (n - (lg_sl av).length) Slot.unset).toArray = ls at hl ⊢
  exact body p e s m below meth c ls (va_A ws s.heap.size) (fun q h => Or.inr h) B.exec B.bytes B.returns B.notSynchronized hml (findClass_of_methodNamed B.named) (fun w h => hts w (List.mem_cons_of_mem _ h)) hP hK hD hl
section XC
variable {p : Program} {l : Launch} {e : Env} {R : Room} {s : State} {m : MethodId} {args : Array Value} {below : List Frame} {meth : Method} {c : Code} {H : Heap} {locs : List Loc} {cells slots : Nat} {Q : State → Prop}
variable {cc : ByteArray} {pc : Nat} {ls : Array Slot} {rest st0 : List Value} {D : va_G} {k : Nat → ClassId} {a : Nat} {ws wc wc' : va_W} {A : Nat → Prop}
variable {own C : String} {index maxL nL n : Nat} {y : MethodName} {bytes : ByteArray} {rm : Room} {As : List Value} {b : Nat} {T : u_T} {N : Nat} {hh : List (Nat × Nat × Nat × Nat)} {mc ms : Nat}
theorem wr_callVW {r : Int32} (S : CallFix p m c cc nL s args lw_all own) (hM : Met l y (wsW_ y bytes maxL (some .int) hh) rm (wrP D k wc H.size (.ref b :: As)) (va_Qi (fun x (_ : Unit) => x = r) (fun _ t => va_P D vwCl wc' t.heap) (va_A wc H.size)) 0 0 (va_A wc H.size)) (cw : vx_CVW R s args own C index y bytes maxL (some .int) hh (wsW_ y bytes maxL (some .int) hh) rm 0 0 n) (hK : KK D k s) (hP : va_P D vwCl ws H) (hD : va_D A ws) (hS : va_S A s.heap H locs) (hA : ∀ q : Nat, s.heap.size ≤ q → A q) (is isR : List Nat) (ws1 : va_W) (hC : is.map (fun i => ws[i]?) = wc.map some) (hC1 : is.map (fun i => ws1[i]?) = wc'.map some) (hR : ∀ i ∈ isR, ws1[i]? = ws[i]?) (nw : Nat) (hlen : ws1.length = nw) (hall : ∀ i, i < nw → i ∈ is ∨ i ∈ isR) (hdis : va_nd is = true ∧ ∀ i ∈ isR, i ∉ is) (adl : List Nat) (hadr1 : ws1.map (fun q => q.1) = adl) (hadr0 : ws.map (fun q => q.1) = adl) (q0 ci : Nat) {fs : List Value} (he : ws[q0]? = some (b, .inr (ci, fs))) (hc : vwCl[ci]? = some (C, T, N))
    (hn : As.length = n) (hsize : ls.size = nL) (hst : st0 = As.reverse ++ .ref b :: rest) (hW : (rest.map fun v => v.category).sum ≤ 8) (d : decode cc pc = .ok (.invokevirtual index, 3)) (hf : cells ≤ R.cells ∧ slots ≤ R.slots)
    (kk : ∀ (H1 : Heap) (locs1 : List Loc), va_P D vwCl ws1 H1 → va_D A ws1 → va_S A s.heap H1 locs1 → W p l e R s m args below meth c H1 locs1 cells slots Q (F0 m (pc + 3) ls (.int r :: rest))) : W p l e R s m args below meth c H locs cells slots Q (F0 m pc ls st0) := by
  have hF := va_free (wc := wc) hD hS hA is hC
  refine va_calli (vx_runVW (As := As) (rest := rest) S hM cw (wr_pre hK hP hD is hC hdis.1 q0 ci he hc) rfl hn hsize hst (lv_room hW) d hf) hS (fun q _ h => hF q h) hF (fun x u t H1 locs1 ht hvm hw hB hz hk hS1 => ?_)
  rw [ht] at hB
  obtain ⟨h1, h2⟩ := wr_join hP hD is isR hC hC1 hR nw hlen hall hdis.2 adl hadr1 hadr0 hk hB
  cases hw
  exact kk H1 locs1 h1 h2 hS1
theorem wx_pre (hK : KK D k s) (hZ : ZZ A s) (hP : va_P D vwCl ws H) (hD : va_D A ws) (hS : va_S A s.heap H locs) (hA : ∀ q : Nat, s.heap.size ≤ q → A q) (is : List Nat) (hC : is.map (fun i => ws[i]?) = wc.map some) (hn : va_nd is = true) (q0 ci : Nat) {fs : List Value} (he : ws[q0]? = some (b, .inr (ci, fs))) (hc : vwCl[ci]? = some (C, T, N)) : PreV s H C b (wxP D k wc H.size (.ref b :: As)) As := by
  have hF := va_free (wc := wc) hD hS hA is hC
  refine ⟨wxP_bl, va_recv hK.1 hP (ci := ci) (q0 := q0) hc he, fun U hU hW => ⟨rfl, by rw [hU], ?_, hK.warm hW, (hD.sub is hn hC).weaken (fun _ _ _ _ => trivial), hZ.call hS hF hU hW⟩⟩
  rw [hU]
  intro i q hq
  have h1 : (is.map (fun i => ws[i]?))[i]? = some (some q) := by rw [hC, List.getElem?_map, hq]; rfl
  rw [List.getElem?_map] at h1
  cases h2 : is[i]? with
  | none => rw [h2] at h1; cases h1
  | some j => rw [h2] at h1; exact hP j q (Option.some.inj h1)
theorem wx_excV {E0 : String} {ret : Option FieldType} (S : CallFix p m c cc nL s args lw_all own) (hM : vx_Met l y (ws_ y bytes maxL ret) rm (wxP D k wc H.size (.ref b :: As)) (va_Qi (fun (_ : Int32) (_ : Unit) => False) (fun _ _ => True) (va_A wc H.size)) (xcE D E0 wc (va_A wc H.size)) mc ms (va_A wc H.size)) (cw : CallW R s args own C index y bytes maxL ret (ws_ y bytes maxL ret) rm mc ms n) (hK : KK D k s) (hZ : ZZ A s) (hP : va_P D vwCl ws H) (hD : va_D A ws) (hS : va_S A s.heap H locs) (hA : ∀ q : Nat, s.heap.size ≤ q → A q) (is isR : List Nat) (hC : is.map (fun i => ws[i]?) = wc.map some) (nw : Nat) (hlen : ws.length = nw) (hall : ∀ i, i < nw → i ∈ is ∨ i ∈ isR) (hdis : va_nd is = true ∧ ∀ i ∈ isR, i ∉ is) (q0 ci : Nat) {fs : List Value} (he : ws[q0]? = some (b, .inr (ci, fs))) (hc : vwCl[ci]? = some (C, T, N))
    (hn : As.length = n) (hsize : ls.size = nL) (hst : st0 = As.reverse ++ .ref b :: rest) (hW : (rest.map fun v => v.category).sum ≤ 8) (d : decode cc pc = .ok (.invokevirtual index, 3)) (hf : cells + mc ≤ R.cells ∧ slots + ms ≤ R.slots)
    (kk : ∀ (H1 : Heap) (locs1 : List Loc) (q9 : Nat) (ce : Cell), va_P D vwCl ws H1 → va_D A ws → va_S A s.heap H1 locs1 → H1[q9]? = some ce → ce.vm = .none → s.vm.findClass E0 = some ce.cls → vx_W p l e R s m args below meth c H1 locs1 (cells + mc) (slots + ms) Q (F0 m pc ls rest) q9) : W p l e R s m args below meth c H locs cells slots Q (F0 m pc ls st0) := by
  have hF := va_free (wc := wc) hD hS hA is hC
  refine vx_calli (vx_runV (As := As) (rest := rest) S hM cw (wx_pre hK hZ hP hD hS hA is hC hdis.1 q0 ci he hc) rfl hn hsize hst (lv_room hW) d hf) hS (fun q _ h => hF q h) hF (fun q _ h => hF q h) (fun E ce q9 u t H1 locs1 ht hvm hw hB hz hk hS1 h9 hv hcl => ?_) (fun x u t H1 locs1 ht hvm hw hB hz hk hS1 => hw.elim)
  obtain ⟨rfl, hB⟩ := hB
  rw [ht] at hB
  obtain ⟨h1, h2⟩ := wr_join hP hD is isR hC hC (fun _ _ => rfl) nw hlen hall hdis.2 (ws.map fun q => q.1) rfl rfl hk hB
  exact kk H1 locs1 q9 ce h1 h2 hS1 h9 hv hcl
theorem wx_excVv {E0 : String} (S : CallFix p m c cc nL s args lw_all own) (hM : vx_Met l y (ws_ y bytes maxL none) rm (wxP D k wc H.size (.ref b :: As)) (va_Qv (fun (_ : Unit) => False) (fun _ _ => True) (va_A wc H.size)) (xcE D E0 wc (va_A wc H.size)) mc ms (va_A wc H.size)) (cw : CallW R s args own C index y bytes maxL none (ws_ y bytes maxL none) rm mc ms n) (hK : KK D k s) (hZ : ZZ A s) (hP : va_P D vwCl ws H) (hD : va_D A ws) (hS : va_S A s.heap H locs) (hA : ∀ q : Nat, s.heap.size ≤ q → A q) (is isR : List Nat) (hC : is.map (fun i => ws[i]?) = wc.map some) (nw : Nat) (hlen : ws.length = nw) (hall : ∀ i, i < nw → i ∈ is ∨ i ∈ isR) (hdis : va_nd is = true ∧ ∀ i ∈ isR, i ∉ is) (q0 ci : Nat) {fs : List Value} (he : ws[q0]? = some (b, .inr (ci, fs))) (hc : vwCl[ci]? = some (C, T, N))
    (hn : As.length = n) (hsize : ls.size = nL) (hst : st0 = As.reverse ++ .ref b :: rest) (hW : (rest.map fun v => v.category).sum ≤ 8) (d : decode cc pc = .ok (.invokevirtual index, 3)) (hf : cells + mc ≤ R.cells ∧ slots + ms ≤ R.slots)
    (kk : ∀ (H1 : Heap) (locs1 : List Loc) (q9 : Nat) (ce : Cell), va_P D vwCl ws H1 → va_D A ws → va_S A s.heap H1 locs1 → H1[q9]? = some ce → ce.vm = .none → s.vm.findClass E0 = some ce.cls → vx_W p l e R s m args below meth c H1 locs1 (cells + mc) (slots + ms) Q (F0 m pc ls rest) q9) : W p l e R s m args below meth c H locs cells slots Q (F0 m pc ls st0) := by
  have hF := va_free (wc := wc) hD hS hA is hC
  refine vx_callv (vx_runV (As := As) (rest := rest) S hM cw (wx_pre hK hZ hP hD hS hA is hC hdis.1 q0 ci he hc) rfl hn hsize hst (lv_room hW) d hf) hS (fun q _ h => hF q h) hF (fun q _ h => hF q h) (fun E ce q9 u t H1 locs1 ht hvm hw hB hz hk hS1 h9 hv hcl => ?_) (fun u t H1 locs1 ht hvm hw hB hz hk hS1 => hw.elim)
  obtain ⟨rfl, hB⟩ := hB
  rw [ht] at hB
  obtain ⟨h1, h2⟩ := wr_join hP hD is isR hC hC (fun _ _ => rfl) nw hlen hall hdis.2 (ws.map fun q => q.1) rfl rfl hk hB
  exact kk H1 locs1 q9 ce h1 h2 hS1 h9 hv hcl
/-- a throw that leaves the method -/
theorem wx_out {Qc : Array Value → State → Outcome → State → Prop} {E : String} {ce : Cell} {q : Addr} (hex : ∀ x ∈ c.exceptionTable.toList, False) (hlk : meth.locks = false) (hcell : H[q]? = some ce) (hv : ce.vm = .none) (hcl : s.vm.findClass E = some ce.cls) (hP : va_P D vwCl ws H) (hS : va_S A s.heap H locs) (hc : cells ≤ mc) (hs : slots ≤ ms) : vx_W p l e R s m args below meth c H locs cells slots (vx_MQ below Qc (xcE D E ws A) args s mc ms A) (F0 m pc ls rest) q :=
  vx_out (fun x hx => (hex x hx).elim) hlk hcell hv hcl (fun t ht _ => ⟨(), trivial, ⟨rfl, at_heap ht hP⟩, hS.F ht⟩) hS.2.2 hc hs
end XC
