/-! THE TREE'S OWN EXCEPTION: starts, calls, the throw that tells its object -/
set_option maxRecDepth 100000
def oc {α β : Type} (o : Option α) (s : α → Option β) (n : Option β) : Option β := match o with | some a => s a | none => n
theorem oc_s {α β : Type} {o : Option α} {s : α → Option β} {n : Option β} {r : β} (h : oc o s n = some r) : (∃ a, o = some a ∧ s a = some r) ∨ (o = none ∧ n = some r) := by
  cases o with
  | none => exact Or.inr ⟨rfl, h⟩
  | some a => exact Or.inl ⟨a, rfl, h⟩
abbrev fE (code place : Int32) : va_E := .inr (5, [.null, .null, .null, .null, .null, .int 0, .int code, .int place])
/-- a reader of a text: rdr its cell, mk its row's; ri its ints (size, many, deep, at, from, sort, value) -/
abbrev oQ (rdr : Nat) (mk : Nat → Nat) (xa : Nat → Nat) (ri : Nat → Int32) : Nat × va_E := (rdr, .inr (4, [.int (ri 0), .ref (mk 0), .int (ri 1), .int (ri 2), .int (ri 3), .int (ri 4), .int (ri 5), .int (ri 6), .ref (xa 0)]))
abbrev wQ (k : Nat → ClassId) (rdr : Nat) (mk : Nat → Nat) (xa : Nat → Nat) (ra : Nat → Nat → Nat) (ri xi tp : Nat → Int32) (rq : RS) : va_W := oQ rdr mk xa ri :: oX xa ra xi :: (xa 2, .inl (k 3, 160, .inl tp)) :: wR k mk rq
abbrev wXT (k : Nat → ClassId) (xa : Nat → Nat) (ra : Nat → Nat → Nat) (xi tp : Nat → Int32) : va_W := [oX xa ra xi, (xa 2, .inl (k 3, 160, .inl tp))]
abbrev xcF (D : va_G) (code place : Int32) (keep : va_W) (A : Nat → Prop) : Nat → String → State → State → Prop := fx_X (fun _ : Unit => True) (fun q E _ t => E = "ExcessTree$Fault" ∧ va_P D vwCl (keep ++ [(q, fE code place)]) t.heap ∧ va_D A (keep ++ [(q, fE code place)])) A
abbrev vQ (A : Nat → Prop) : Array Value → State → Outcome → State → Prop := va_Qv (fun (_ : Unit) => False) (fun _ _ => True) A
abbrev iQ (A : Nat → Prop) : Array Value → State → Outcome → State → Prop := va_Qi (fun (_ : Int32) (_ : Unit) => False) (fun _ _ => True) A
abbrev gF (p : Program) (l : Launch) (e : Env) (rm : Room) (s : State) (m : MethodId) (av : List Value) (below : List Frame) (meth : Method) (c : Code) (Qc : Array Value → State → Outcome → State → Prop) (XC : Nat → String → State → State → Prop) (A : Nat → Prop) (mc ms : Nat) (H : Heap) (locs : List Loc) (pc : Nat) (ls : Array Slot) (st : List Value) : Prop := W p l e rm s m av.toArray below meth c H locs 0 0 (fx_MQ below Qc XC av.toArray s mc ms A) (F0 m pc ls st)
theorem fx_start {l : Launch} {y : MethodName} {cc : ByteArray} {n : Nat} {ret : Option FieldType} {rm : Room} {D : va_G} {k : Nat → ClassId} {ws : va_W} {sz : Nat} {av : List Value} {mc ms : Nat} {Qc : (Nat → Prop) → Array Value → State → Outcome → State → Prop} {XC : (Nat → Prop) → Nat → String → State → State → Prop} (hy : plainName y.cls = true) (hn : (lg_sl av).length ≤ n)
    (body : ∀ (p : Program) (e : Env) (s : State) (m : MethodId) (below : List Frame) (meth : Method) (c : Code) (ls : Array Slot) (A : Nat → Prop), (∀ q : Nat, s.heap.size ≤ q → A q) → p.tables.exec = Jvm.exec → c.code = cc → meth.sig.returnType = ret → meth.locks = false → c.maxLocals = n → s.vm.findClass y.cls = some m.cls → meth.name = y.name → (∀ w ∈ lw_all, w.before av.toArray s = true) → va_P D vwCl ws s.heap → KK D k s → va_D A ws → ZZ A s → (∀ x ∈ c.exceptionTable.toList, False) → lv_has ls n (lv_args 0 av) → gF p l e rm s m av below meth c (Qc A) (XC A) A mc ms s.heap [] 0 ls []) :
    fx_Met l y (ws_ y cc n ret) rm (wxP D k ws sz av) (Qc (va_A ws sz)) (XC (va_A ws sz)) mc ms (va_A ws sz) := by
  refine fx_ofW (cc := cc) (maxL := n) (ret := ret) hy rfl ?_
  intro p e s m args below meth c s₁ B hml hex hv
  obtain ⟨rfl, hsz, hP, hK, hD0, hZ⟩ := hv
  subst hsz
  have hts := atoms_spec (ws := ws_ y cc n ret) B.pre
  have hD := hD0.self (sz := s.heap.size)
  have hl := lv_entry av (n := n) hn
  rw [lg_entry_eq]
  generalize (lg_sl av ++ List.replicate (n - (lg_sl av).length) Slot.unset).toArray = ls at hl ⊢
  exact body p e s m below meth c ls (va_A ws s.heap.size) (fun q h => Or.inr h) B.exec B.bytes B.returns B.notSynchronized hml (findClass_of_methodNamed B.named) (name_of_methodNamed B.named B.method).1 (fun w h => hts w (List.mem_cons_of_mem _ h)) hP hK hD hZ hex hl
/-- a constructor with Throwable's statics at hand, that returns -/
theorem wx_startC {l : Launch} {y : MethodName} {cc : ByteArray} {n : Nat} {ret : Option FieldType} {rm : Room} {D : va_G} {k : Nat → ClassId} {ws : va_W} {sz : Nat} {av : List Value} {mc ms : Nat} {Qc : (Nat → Prop) → Array Value → State → Outcome → State → Prop} (hy : plainName y.cls = true) (hn : (lg_sl av).length ≤ n)
    (body : ∀ (p : Program) (e : Env) (s : State) (m : MethodId) (below : List Frame) (meth : Method) (c : Code) (ls : Array Slot) (A : Nat → Prop), (∀ q : Nat, s.heap.size ≤ q → A q) → p.tables.exec = Jvm.exec → c.code = cc → meth.sig.returnType = ret → meth.locks = false → c.maxLocals = n → s.vm.findClass y.cls = some m.cls → meth.name = y.name → (∀ w ∈ lw_all, w.before av.toArray s = true) → va_P D vwCl ws s.heap → KK D k s → va_D A ws → ZZ A s → lv_has ls n (lv_args 0 av) → gW p l e rm s m av below meth c (Qc A) A mc ms s.heap [] 0 ls []) :
    Met l y (ws_ y cc n ret) rm (wxP D k ws sz av) (Qc (va_A ws sz)) mc ms (va_A ws sz) := by
  refine Met.ofW (cc := cc) (maxL := n) (ret := ret) hy rfl ?_
  intro p e s m args below meth c s₁ B hml hv
  obtain ⟨rfl, hsz, hP, hK, hD0, hZ⟩ := hv
  subst hsz
  have hts := atoms_spec (ws := ws_ y cc n ret) B.pre
  have hD := hD0.self (sz := s.heap.size)
  have hl := lv_entry av (n := n) hn
  rw [lg_entry_eq]
  generalize (lg_sl av ++ List.replicate (n - (lg_sl av).length) Slot.unset).toArray = ls at hl ⊢
  exact body p e s m below meth c ls (va_A ws s.heap.size) (fun q h => Or.inr h) B.exec B.bytes B.returns B.notSynchronized hml (findClass_of_methodNamed B.named) (name_of_methodNamed B.named B.method).1 (fun w h => hts w (List.mem_cons_of_mem _ h)) hP hK hD hZ hl
abbrev CtV (l : Launch) (y : MethodName) (cc : ByteArray) (n : Nat) (rm : Room) (av : List Value) (D : va_G) (k : Nat → ClassId) (ws : va_W) : Prop := Met l y (ws_ y cc n none) rm (rdP D k ws av) (va_Sv (fun _ => True)) 0 0 (fun _ => False)
section XF
variable {p : Program} {l : Launch} {e : Env} {R : Room} {s : State} {m : MethodId} {args : Array Value} {below : List Frame} {meth : Method} {c : Code} {H : Heap} {locs : List Loc} {cells slots : Nat} {Q : State → Prop}
variable {cc : ByteArray} {pc : Nat} {ls : Array Slot} {rest st0 : List Value} {D : va_G} {k : Nat → ClassId} {a : Nat} {ws wc wc' keep wr : va_W} {A : Nat → Prop}
variable {own C : String} {index maxL nL n : Nat} {y : MethodName} {bytes : ByteArray} {rm : Room} {As : List Value} {b : Nat} {T : u_T} {N : Nat} {mc ms : Nat} {code place : Int32}
theorem rd_vret (hx : p.tables.exec = Jvm.exec) (hb : c.code = cc) (hr : meth.sig.returnType = none) (hlk : meth.locks = false) (d : decode cc pc = .ok (.return_, 1)) : W p l e R s m args below meth c s.heap [] 0 0 (MQ below (va_Sv (fun _ => True)) args s 0 0 (fun _ => False)) (F0 m pc ls []) :=
  W.vret hx hb hr (fun _ ht _ => ⟨rfl, trivial, ht⟩) (fun _ h => by cases h) d hlk
theorem rd_callVv (S : CallFix p m c cc nL s args lw_all own) (hM : CtV l y bytes maxL rm (.ref b :: As) D k wc) (cw : CallW R s args own C index y bytes maxL none (ws_ y bytes maxL none) rm 0 0 n) (hK : KK D k s) (hP : va_P D vwCl ws H) (is : List Nat) (hs : is.filterMap (fun i => ws[i]?) = wc) (q0 ci : Nat) {fs : List Value} (he : ws[q0]? = some (b, .inr (ci, fs))) (hc : vwCl[ci]? = some (C, T, N))
    (hn : As.length = n) (hsize : ls.size = nL) (hst : st0 = As.reverse ++ .ref b :: rest) (hW : (rest.map fun v => v.category).sum ≤ 8) (d : decode cc pc = .ok (.invokevirtual index, 3)) (hf : cells ≤ R.cells ∧ slots ≤ R.slots)
    (kk : W p l e R s m args below meth c H locs cells slots Q (F0 m (pc + 3) ls rest)) : W p l e R s m args below meth c H locs cells slots Q (F0 m pc ls st0) :=
  va_csv (W.runV (As := As) (rest := rest) S hM cw (rd_pre (ret := none) hK hP is hs q0 ci he hc) rfl hn hsize hst (lv_room hW) d hf) (fun _ => kk)
theorem wx_preS {wc : va_W} {av : List Value} (hK : KK D k s) (hZ : ZZ A s) (hP : va_P D vwCl ws H) (hD : va_D A ws) (hS : va_S A s.heap H locs) (hA : ∀ q : Nat, s.heap.size ≤ q → A q) (is : List Nat) (hC : is.map (fun i => ws[i]?) = wc.map some) (hn : va_nd is = true) : PreS s H (wxP D k wc H.size av) av := by
  have hF := va_free (wc := wc) hD hS hA is hC
  refine ⟨wxP_bl, fun U hU hW => ⟨rfl, by rw [hU], ?_, hK.warm hW, (hD.sub is hn hC).weaken (fun _ _ _ _ => trivial), hZ.call hS hF hU hW⟩⟩
  rw [hU]
  intro i q hq
  have h1 : (is.map (fun i => ws[i]?))[i]? = some (some q) := by rw [hC, List.getElem?_map, hq]; rfl
  rw [List.getElem?_map] at h1
  cases h2 : is[i]? with
  | none => rw [h2] at h1; cases h1
  | some j => rw [h2] at h1; exact hP j q (Option.some.inj h1)
theorem fx_excI (S : CallFix p m c cc nL s args lw_all own) (hM : fx_Met l y (ws_ y bytes maxL none) rm (wxP D k wc H.size (.ref b :: As)) (vQ (va_A wc H.size)) (xcF D code place keep (va_A wc H.size)) mc ms (va_A wc H.size)) (cw : CallB R s args own index y bytes maxL none (ws_ y bytes maxL none) rm mc ms n ∧ y.name = "<init>" ∧ (Cond.instanceMethod y).before args s = true) (hK : KK D k s) (hZ : ZZ A s) (hP : va_P D vwCl ws H) (hD : va_D A ws) (hS : va_S A s.heap H locs) (hA : ∀ q : Nat, s.heap.size ≤ q → A q) (is : List Nat) (hC : is.map (fun i => ws[i]?) = wc.map some) (hnd : va_nd is = true) (isR : List Nat) (hR : isR.map (fun i => ws[i]?) = wr.map some) (hnR : va_nd isR = true) (hdis : ∀ i ∈ isR, i ∉ is)
    (hn : As.length = n) (hsize : ls.size = nL) (hst : st0 = As.reverse ++ .ref b :: rest) (hW : (rest.map fun v => v.category).sum ≤ 8) (d : decode cc pc = .ok (.invokespecial index, 3)) (hf : cells + mc ≤ R.cells ∧ slots + ms ≤ R.slots)
    (kk : ∀ (H1 : Heap) (locs1 : List Loc) (q9 : Nat) (ce : Cell), va_P D vwCl (wr ++ (keep ++ [(q9, fE code place)])) H1 → va_D A (wr ++ (keep ++ [(q9, fE code place)])) → va_S A s.heap H1 locs1 → H1[q9]? = some ce → ce.vm = .none → s.vm.findClass "ExcessTree$Fault" = some ce.cls → vx_W p l e R s m args below meth c H1 locs1 (cells + mc) (slots + ms) Q (F0 m pc ls rest) q9) : W p l e R s m args below meth c H locs cells slots Q (F0 m pc ls st0) := by
  have hF := va_free (wc := wc) hD hS hA is hC
  refine fx_callv (fx_runI (As := As) (rest := rest) S hM cw (wx_preS hK hZ hP hD hS hA is hC hnd) rfl hn hsize hst (lv_room hW) d hf) hS (fun q _ h => hF q h) hF (fun q _ h => hF q h) (fun E ce q9 u t H1 locs1 ht hvm hw hB hz hk hS1 h9 hv hcl => ?_) (fun u t H1 locs1 ht hvm hw hB hz hk hS1 => hw.elim)
  obtain ⟨rfl, hB, hB2⟩ := hB
  rw [ht] at hB
  obtain ⟨g1, g2⟩ := va_join hP hD is isR hC hR hnR hdis hk hF hB hB2
  exact kk H1 locs1 q9 ce g1 g2 hS1 h9 hv hcl
theorem fx_excV (S : CallFix p m c cc nL s args lw_all own) (hM : fx_Met l y (ws_ y bytes maxL none) rm (wxP D k wc H.size (.ref b :: As)) (vQ (va_A wc H.size)) (xcF D code place keep (va_A wc H.size)) mc ms (va_A wc H.size)) (cw : CallW R s args own C index y bytes maxL none (ws_ y bytes maxL none) rm mc ms n) (hK : KK D k s) (hZ : ZZ A s) (hP : va_P D vwCl ws H) (hD : va_D A ws) (hS : va_S A s.heap H locs) (hA : ∀ q : Nat, s.heap.size ≤ q → A q) (is : List Nat) (hC : is.map (fun i => ws[i]?) = wc.map some) (hnd : va_nd is = true) (isR : List Nat) (hR : isR.map (fun i => ws[i]?) = wr.map some) (hnR : va_nd isR = true) (hdis : ∀ i ∈ isR, i ∉ is) (q0 ci : Nat) {fs : List Value} (he : ws[q0]? = some (b, .inr (ci, fs))) (hc : vwCl[ci]? = some (C, T, N))
    (hn : As.length = n) (hsize : ls.size = nL) (hst : st0 = As.reverse ++ .ref b :: rest) (hW : (rest.map fun v => v.category).sum ≤ 8) (d : decode cc pc = .ok (.invokevirtual index, 3)) (hf : cells + mc ≤ R.cells ∧ slots + ms ≤ R.slots)
    (kk : ∀ (H1 : Heap) (locs1 : List Loc) (q9 : Nat) (ce : Cell), va_P D vwCl (wr ++ (keep ++ [(q9, fE code place)])) H1 → va_D A (wr ++ (keep ++ [(q9, fE code place)])) → va_S A s.heap H1 locs1 → H1[q9]? = some ce → ce.vm = .none → s.vm.findClass "ExcessTree$Fault" = some ce.cls → vx_W p l e R s m args below meth c H1 locs1 (cells + mc) (slots + ms) Q (F0 m pc ls rest) q9) : W p l e R s m args below meth c H locs cells slots Q (F0 m pc ls st0) := by
  have hF := va_free (wc := wc) hD hS hA is hC
  refine fx_callv (fx_runV (As := As) (rest := rest) S hM cw (wx_pre hK hZ hP hD hS hA is hC hnd q0 ci he hc) rfl hn hsize hst (lv_room hW) d hf) hS (fun q _ h => hF q h) hF (fun q _ h => hF q h) (fun E ce q9 u t H1 locs1 ht hvm hw hB hz hk hS1 h9 hv hcl => ?_) (fun u t H1 locs1 ht hvm hw hB hz hk hS1 => hw.elim)
  obtain ⟨rfl, hB, hB2⟩ := hB
  rw [ht] at hB
  obtain ⟨g1, g2⟩ := va_join hP hD is isR hC hR hnR hdis hk hF hB hB2
  exact kk H1 locs1 q9 ce g1 g2 hS1 h9 hv hcl
theorem fx_excVi (S : CallFix p m c cc nL s args lw_all own) (hM : fx_Met l y (ws_ y bytes maxL (some .int)) rm (wxP D k wc H.size (.ref b :: As)) (iQ (va_A wc H.size)) (xcF D code place keep (va_A wc H.size)) mc ms (va_A wc H.size)) (cw : CallW R s args own C index y bytes maxL (some .int) (ws_ y bytes maxL (some .int)) rm mc ms n) (hK : KK D k s) (hZ : ZZ A s) (hP : va_P D vwCl ws H) (hD : va_D A ws) (hS : va_S A s.heap H locs) (hA : ∀ q : Nat, s.heap.size ≤ q → A q) (is : List Nat) (hC : is.map (fun i => ws[i]?) = wc.map some) (hnd : va_nd is = true) (isR : List Nat) (hR : isR.map (fun i => ws[i]?) = wr.map some) (hnR : va_nd isR = true) (hdis : ∀ i ∈ isR, i ∉ is) (q0 ci : Nat) {fs : List Value} (he : ws[q0]? = some (b, .inr (ci, fs))) (hc : vwCl[ci]? = some (C, T, N))
    (hn : As.length = n) (hsize : ls.size = nL) (hst : st0 = As.reverse ++ .ref b :: rest) (hW : (rest.map fun v => v.category).sum ≤ 8) (d : decode cc pc = .ok (.invokevirtual index, 3)) (hf : cells + mc ≤ R.cells ∧ slots + ms ≤ R.slots)
    (kk : ∀ (H1 : Heap) (locs1 : List Loc) (q9 : Nat) (ce : Cell), va_P D vwCl (wr ++ (keep ++ [(q9, fE code place)])) H1 → va_D A (wr ++ (keep ++ [(q9, fE code place)])) → va_S A s.heap H1 locs1 → H1[q9]? = some ce → ce.vm = .none → s.vm.findClass "ExcessTree$Fault" = some ce.cls → vx_W p l e R s m args below meth c H1 locs1 (cells + mc) (slots + ms) Q (F0 m pc ls rest) q9) : W p l e R s m args below meth c H locs cells slots Q (F0 m pc ls st0) := by
  have hF := va_free (wc := wc) hD hS hA is hC
  refine fx_calli (fx_runV (As := As) (rest := rest) S hM cw (wx_pre hK hZ hP hD hS hA is hC hnd q0 ci he hc) rfl hn hsize hst (lv_room hW) d hf) hS (fun q _ h => hF q h) hF (fun q _ h => hF q h) (fun E ce q9 u t H1 locs1 ht hvm hw hB hz hk hS1 h9 hv hcl => ?_) (fun x u t H1 locs1 ht hvm hw hB hz hk hS1 => hw.elim)
  obtain ⟨rfl, hB, hB2⟩ := hB
  rw [ht] at hB
  obtain ⟨g1, g2⟩ := va_join hP hD is isR hC hR hnR hdis hk hF hB hB2
  exact kk H1 locs1 q9 ce g1 g2 hS1 h9 hv hcl
theorem fx_thrown {Qc : Array Value → State → Outcome → State → Prop} {ce : Cell} {q : Nat} (hex : ∀ x ∈ c.exceptionTable.toList, False) (hlk : meth.locks = false) (hcell : H[q]? = some ce) (hv : ce.vm = .none) (hcl : s.vm.findClass "ExcessTree$Fault" = some ce.cls) (hP : va_P D vwCl (keep ++ [(q, fE code place)]) H) (hD : va_D A (keep ++ [(q, fE code place)])) (hS : va_S A s.heap H locs) (hc : cells ≤ mc) (hs : slots ≤ ms) : vx_W p l e R s m args below meth c H locs cells slots (fx_MQ below Qc (xcF D code place keep A) args s mc ms A) (F0 m pc ls rest) q :=
  fx_out (fun x hx => (hex x hx).elim) hlk hcell hv hcl (fun t ht _ => ⟨(), trivial, ⟨rfl, at_heap ht hP, hD⟩, hS.F ht⟩) hS.2.2 hc hs
theorem zz_st (h : ZZ A s) : ∃ v : Value, va_Z Bundle.tN "UNASSIGNED_STACK" Bundle.steD v A s s.heap ∧ (∀ t : FieldType, narrow (.array t) v = v) ∧ (∀ t : FieldType, fits (.array t) v = true) := by
  rcases h.1.1 with h | ⟨t, h⟩
  · exact ⟨_, h, fun _ => rfl, fun _ => rfl⟩
  · exact ⟨_, h, fun _ => rfl, fun _ => rfl⟩
theorem zz_su (h : ZZ A s) : ∃ v : Value, va_Z Bundle.tN "SUPPRESSED_SENTINEL" Bundle.listD v A s s.heap ∧ (∀ t : String, narrow (.object t) v = v) ∧ (∀ t : String, fits (.object t) v = true) := by
  rcases h.2.1.1 with h | ⟨t, h⟩
  · exact ⟨_, h, fun _ => rfl, fun _ => rfl⟩
  · exact ⟨_, h, fun _ => rfl, fun _ => rfl⟩
end XF
