/-! Math.addExact that overflows -/
set_option maxRecDepth 100000
abbrev ovf (x y : Int32) : Prop := ((x ^^^ (x + y)) &&& (y ^^^ (x + y))) < 0
theorem rd_startF {l : Launch} {y : MethodName} {cc : ByteArray} {n : Nat} {ret : Option FieldType} {rm : Room} {D : va_G} {k : Nat → ClassId} {ws : va_W} {av : List Value} {Qc : Array Value → State → Outcome → State → Prop} (hy : plainFor y = true) (hn : (lg_sl av).length ≤ n)
    (body : ∀ (p : Program) (e : Env) (s : State) (m : MethodId) (below : List Frame) (meth : Method) (c : Code) (ls : Array Slot), p.tables.exec = Jvm.exec → c.code = cc → meth.sig.returnType = ret → meth.locks = false → c.maxLocals = n → s.vm.findClass y.cls = some m.cls → (∀ w ∈ lw_all, w.before av.toArray s = true) → va_P D vwCl ws s.heap → KK D k s → lv_has ls n (lv_args 0 av) → gR p l e rm s m av below meth c Qc 0 ls []) :
    Met l y (ws_ y cc n ret) rm (rdP D k ws av) Qc 0 0 (fun _ => False) := by
  refine Met_ofWF (cc := cc) (maxL := n) (ret := ret) hy rfl ?_
  intro p e s m args below meth c s₁ B hml hv
  obtain ⟨rfl, hP, hK⟩ := hv
  have hts := atoms_spec (ws := ws_ y cc n ret) B.pre
  have hl := lv_entry av (n := n) hn
  rw [lg_entry_eq]
  generalize (lg_sl av ++ List.replicate (n - (lg_sl av).length) Slot.unset).toArray = ls at hl ⊢
  exact body p e s m below meth c ls B.exec B.bytes B.returns B.notSynchronized hml (findClass_of_methodNamed B.named) (fun w h => hts w (List.mem_cons_of_mem _ h)) hP hK hl
theorem wx_startXF {l : Launch} {y : MethodName} {cc : ByteArray} {n : Nat} {ret : Option FieldType} {rm : Room} {D : va_G} {k : Nat → ClassId} {ws : va_W} {sz : Nat} {av : List Value} {mc ms : Nat} {Qc : (Nat → Prop) → Array Value → State → Outcome → State → Prop} {XC : (Nat → Prop) → String → State → State → Prop} (hy : plainFor y = true) (hn : (lg_sl av).length ≤ n)
    (body : ∀ (p : Program) (e : Env) (s : State) (m : MethodId) (below : List Frame) (meth : Method) (c : Code) (ls : Array Slot) (A : Nat → Prop), (∀ q : Nat, s.heap.size ≤ q → A q) → p.tables.exec = Jvm.exec → c.code = cc → meth.sig.returnType = ret → meth.locks = false → c.maxLocals = n → s.vm.findClass y.cls = some m.cls → (∀ w ∈ lw_all, w.before av.toArray s = true) → va_P D vwCl ws s.heap → KK D k s → va_D A ws → ZZ A s → (∀ x ∈ c.exceptionTable.toList, False) → lv_has ls n (lv_args 0 av) → gX p l e rm s m av below meth c (Qc A) (XC A) A mc ms s.heap [] 0 ls []) :
    vx_Met l y (ws_ y cc n ret) rm (wxP D k ws sz av) (Qc (va_A ws sz)) (XC (va_A ws sz)) mc ms (va_A ws sz) := by
  refine vx_ofWF (cc := cc) (maxL := n) (ret := ret) hy rfl ?_
  intro p e s m args below meth c s₁ B hml hex hv
  obtain ⟨rfl, hsz, hP, hK, hD0, hZ⟩ := hv
  subst hsz
  have hts := atoms_spec (ws := ws_ y cc n ret) B.pre
  have hD := hD0.self (sz := s.heap.size)
  have hl := lv_entry av (n := n) hn
  rw [lg_entry_eq]
  generalize (lg_sl av ++ List.replicate (n - (lg_sl av).length) Slot.unset).toArray = ls at hl ⊢
  exact body p e s m below meth c ls (va_A ws s.heap.size) (fun q h => Or.inr h) B.exec B.bytes B.returns B.notSynchronized hml (findClass_of_methodNamed B.named) (fun w h => hts w (List.mem_cons_of_mem _ h)) hP hK hD hZ hex hl
section XA
variable {p : Program} {l : Launch} {e : Env} {R : Room} {s : State} {m : MethodId} {args : Array Value} {below : List Frame} {meth : Method} {c : Code} {H : Heap} {locs : List Loc} {cells slots : Nat} {Q : State → Prop}
variable {cc : ByteArray} {pc : Nat} {ls : Array Slot} {rest st0 : List Value} {D : va_G} {k : Nat → ClassId} {a : Nat} {ws : va_W} {A : Nat → Prop}
variable {own : String} {index maxL nL n : Nat} {y : MethodName} {bytes : ByteArray} {rm : Room} {As : List Value} {mc ms : Nat}
theorem wx_excS {E0 : String} (S : CallFix p m c cc nL s args lw_all own) (hM : vx_Met l y (ws_ y bytes maxL (some .int)) rm (wxP D k [] H.size As) (va_Qi (fun (_ : Int32) (_ : Unit) => False) (fun _ _ => True) (va_A [] H.size)) (xcE D E0 [] (va_A [] H.size)) mc ms (va_A [] H.size)) (cw : CallB R s args own index y bytes maxL (some .int) (ws_ y bytes maxL (some .int)) rm mc ms n ∧ (Cond.static y).before args s = true) (hK : KK D k s) (hZ : ZZ A s) (hP : va_P D vwCl ws H) (hD : va_D A ws) (hS : va_S A s.heap H locs) (hA : ∀ q : Nat, s.heap.size ≤ q → A q)
    (hn : As.length = n) (hsize : ls.size = nL) (hst : st0 = As.reverse ++ rest) (hW : (rest.map fun v => v.category).sum ≤ 8) (d : decode cc pc = .ok (.invokestatic index, 3)) (hf : cells + mc ≤ R.cells ∧ slots + ms ≤ R.slots)
    (kk : ∀ (H1 : Heap) (locs1 : List Loc) (q9 : Nat) (ce : Cell), va_P D vwCl ws H1 → va_D A ws → va_S A s.heap H1 locs1 → H1[q9]? = some ce → ce.vm = .none → s.vm.findClass E0 = some ce.cls → vx_W p l e R s m args below meth c H1 locs1 (cells + mc) (slots + ms) Q (F0 m pc ls rest) q9) : W p l e R s m args below meth c H locs cells slots Q (F0 m pc ls st0) := by
  have hF := va_free (wc := []) hD hS hA [] rfl
  refine vx_calli (vx_runS (As := As) (rest := rest) S hM cw (wx_preS hK hZ hP hD hS hA [] rfl (by decide)) rfl hn hsize hst (lv_room hW) d hf) hS (fun q _ h => hF q h) hF (fun q _ h => hF q h) (fun E ce q9 u t H1 locs1 ht hvm hw hB hz hk hS1 h9 hv hcl => ?_) (fun x u t H1 locs1 ht hvm hw hB hz hk hS1 => hw.elim)
  obtain ⟨rfl, hB⟩ := hB
  refine kk H1 locs1 q9 ce (fun i q hq => ?_) hD hS1 h9 hv hcl
  refine (hP i q hq).kept ?_
  refine hk q.1 (hP i q hq).lt ?_
  intro h
  rcases h with ⟨k1, e1, h1⟩ | h1
  · simp at h1
  · exact absurd (hP i q hq).lt (by omega)
end XA
theorem pfJ0_addExact : plainFor yJ0_addExact = true := by decide +kernel
abbrev rmJ0_addExact : Room := { frames := 0, cells := 0, slots := 0, locals := 0 }
theorem hdJ0_addExact : yJ0_addExact.cls ≠ "java/lang/invoke/MethodHandle" ∧ yJ0_addExact.cls ≠ "java/lang/invoke/VarHandle" ∧ (parseMethodDescriptor yJ0_addExact.desc).map (fun d => d.parameters.length) = some 2 := by decide +kernel
def fJ0_addExact (p1 p2 : Int32) : Option Int32 := if ovf p1 p2 then none else some (p1 + p2)
set_option maxHeartbeats 4000000 in
theorem mJ0_addExact (l : Launch) (D : va_G) (k : Nat → ClassId) (p1 p2 : Int32) (r : Int32) (hf : fJ0_addExact p1 p2 = some r) : CtI l yJ0_addExact cJ0_addExact 3 rmJ0_addExact [.int p1, .int p2] D k [] r := by
  refine rd_startF pfJ0_addExact (Nat.le_of_ble_eq_true rfl) ?_
  intro p e s m below meth c ls hx hb hr hlk hml hown hts hP hK hl
  have hl : lv_has ls 3 [(0, .int p1), (1, .int p2)] := hl
  have hc : ¬ ovf p1 p2 := by
    intro h; unfold fJ0_addExact at hf; rw [if_pos h] at hf; cases hf
  have hr2 : p1 + p2 = r := by
    unfold fJ0_addExact at hf; rw [if_neg hc] at hf; exact Option.some.inj hf
  refine lv_iload_n hx hb dJ0_addExact_0 rfl (lv_at hl 0 rfl) ?_
  refine lv_iload_n hx hb dJ0_addExact_1 rfl (lv_at hl 1 rfl) ?_
  refine lv_iadd hx hb dJ0_addExact_2 ?_
  refine lv_istore_n (lv' := [(2, .int (p1 + p2)), (0, .int p1), (1, .int p2)]) hx hb dJ0_addExact_3 rfl hl (by decide) rfl (fun ls hl => ?_)
  refine lv_iload_n hx hb dJ0_addExact_4 rfl (lv_at hl 1 rfl) ?_
  refine lv_iload_n hx hb dJ0_addExact_5 rfl (lv_at hl 0 rfl) ?_
  refine lv_ixor hx hb dJ0_addExact_6 ?_
  refine lv_iload_n hx hb dJ0_addExact_7 rfl (lv_at hl 2 rfl) ?_
  refine lv_iload_n hx hb dJ0_addExact_8 rfl (lv_at hl 0 rfl) ?_
  refine lv_ixor hx hb dJ0_addExact_9 ?_
  refine lv_iand hx hb dJ0_addExact_10 ?_
  refine lv_if_ge (tgt := 24) hx hb dJ0_addExact_11 (by decide) (fun _ => ?_) (fun c9 => absurd (Int32.not_le.mp c9) hc)
  refine lv_iload_n hx hb dJ0_addExact_24 rfl (lv_at hl 0 rfl) ?_
  exact rd_iret hx hb hr hlk hr2 dJ0_addExact_25
abbrev rmJ0_addExact_x : Room := { frames := 8, cells := 3, slots := 222, locals := 10248 }
theorem hdJ0_addExact_x : yJ0_addExact.cls ≠ "java/lang/invoke/MethodHandle" ∧ yJ0_addExact.cls ≠ "java/lang/invoke/VarHandle" ∧ (parseMethodDescriptor yJ0_addExact.desc).map (fun d => d.parameters.length) = some 2 := by decide +kernel
set_option maxHeartbeats 4000000 in
theorem mJ0_addExact_x (l : Launch) (hst : l.stackTraces = false) (D : va_G) (k : Nat → ClassId) (p1 p2 : Int32) (sz : Nat) (hc : ovf p1 p2) : vx_Met l yJ0_addExact (ws_ yJ0_addExact cJ0_addExact 3 (some .int)) rmJ0_addExact_x (wxP D k [] sz [.int p1, .int p2]) (va_Qi (fun (_ : Int32) (_ : Unit) => False) (fun _ _ => True) (va_A [] sz)) (xcE D (exN 4) [] (va_A [] sz)) 3 222 (va_A [] sz) := by
  refine wx_startXF (Qc := fun A => va_Qi (fun (_ : Int32) (_ : Unit) => False) (fun _ _ => True) A) (XC := fun A => xcE D (exN 4) [] A) pfJ0_addExact (Nat.le_of_ble_eq_true rfl) ?_
  intro p e s m below meth c ls A hA hx hb hr hlk hml hown hts hP hK hD hZ hex hl
  have hl : lv_has ls 3 [(0, .int p1), (1, .int p2)] := hl
  have hown : s.vm.findClass RJ0 = some m.cls := hown
  have hS : va_S A s.heap s.heap [] := va_S.rf
  refine lv_iload_n hx hb dJ0_addExact_0 rfl (lv_at hl 0 rfl) ?_
  refine lv_iload_n hx hb dJ0_addExact_1 rfl (lv_at hl 1 rfl) ?_
  refine lv_iadd hx hb dJ0_addExact_2 ?_
  refine lv_istore_n (lv' := [(2, .int (p1 + p2)), (0, .int p1), (1, .int p2)]) hx hb dJ0_addExact_3 rfl hl (by decide) rfl (fun ls hl => ?_)
  refine lv_iload_n hx hb dJ0_addExact_4 rfl (lv_at hl 1 rfl) ?_
  refine lv_iload_n hx hb dJ0_addExact_5 rfl (lv_at hl 0 rfl) ?_
  refine lv_ixor hx hb dJ0_addExact_6 ?_
  refine lv_iload_n hx hb dJ0_addExact_7 rfl (lv_at hl 2 rfl) ?_
  refine lv_iload_n hx hb dJ0_addExact_8 rfl (lv_at hl 0 rfl) ?_
  refine lv_ixor hx hb dJ0_addExact_9 ?_
  refine lv_iand hx hb dJ0_addExact_10 ?_
  refine lv_if_ge (tgt := 24) hx hb dJ0_addExact_11 (by decide) (fun c9 => absurd hc (Int32.not_lt.mpr c9)) (fun _ => ?_)
  obtain ⟨sa, hsa⟩ := hZ.2.2
  exact vx_throwS (A := A) (own := RJ0) (cls := "java/lang/ArithmeticException") (names := nmARI) (text := "integer overflow") hx hb hst hown (by decide +kernel) (by decide +kernel) (hts _ q706) (hts _ q102) hsa (hat_of LARI _ atARI gdARI hts hK) (ot_of (Cond.classLink RJ0 109 "java/lang/ArithmeticException" :: Cond.initialized "java/lang/ArithmeticException" :: LARI) (by decide +kernel)) hZ.1 hZ.2.1 hS (hl.1.trans hml.symm) dJ0_addExact_14 dJ0_addExact_17 dJ0_addExact_18 dJ0_addExact_20 dJ0_addExact_23 (fun x hx => (hex x hx).elim) (Nat.le_of_ble_eq_true rfl) (Nat.le_of_ble_eq_true rfl) (Nat.le_of_ble_eq_true rfl) (Nat.le_of_ble_eq_true rfl) hlk (fun t _ hsz hk => ⟨(), trivial, ⟨rfl, fun i q hq => by simp at hq⟩, ⟨hsz, fun q h1 _ => hk q h1⟩⟩) hS.2.2 (Nat.le_of_ble_eq_true rfl) (Nat.le_of_ble_eq_true rfl)
