/-! METHODS IN WHICH THE MACHINE THROWS: what stands of Throwable's statics, contracts, rows -/
set_option maxRecDepth 100000
def ZZ (A : Nat → Prop) (U : State) : Prop := vx_Zq Bundle.tN "UNASSIGNED_STACK" Bundle.steD A U U.heap ∧ vx_Zq Bundle.tN "SUPPRESSED_SENTINEL" Bundle.listD A U U.heap ∧ ∃ a : Nat, vk_R "java/lang/Math" 111 "integer overflow" a U
theorem ZZ.call {A A1 : Nat → Prop} {s U : State} {H : Heap} {locs : List Loc} (h : ZZ A s) (hS : va_S A s.heap H locs) (hf : ∀ q, A1 q → A q) (hU : U.heap = H) (hW : s.WarmedH U.vm) : ZZ A1 U := by
  refine ⟨?_, ?_, ?_⟩
  · rw [hU]; exact ((h.1.kept hS.2.1).narrow hf).moved hW.alike
  · rw [hU]; exact ((h.2.1.kept hS.2.1).narrow hf).moved hW.alike
  · obtain ⟨a, ha⟩ := h.2.2
    exact ⟨a, ha.warm hW⟩
theorem ZZ.calling {A : Nat → Prop} {U : State} (g : JFrame) (mk : MethodId) (a : Array Value) (h : ZZ A U) : ZZ A (U.calling g mk a) := by
  refine ⟨vx_Zq.moved (u := U) (U := U.calling g mk a) (Vm.Alike.refl U.vm) h.1, vx_Zq.moved (u := U) (U := U.calling g mk a) (Vm.Alike.refl U.vm) h.2.1, ?_⟩
  obtain ⟨b, hb⟩ := h.2.2
  exact ⟨b, vk_R.same (u := U) (U := U.calling g mk a) rfl hb⟩
abbrev wxP (D : va_G) (k : Nat → ClassId) (ws : va_W) (sz : Nat) (av : List Value) : Array Value → State → Prop := va_Pc av (fun U => U.heap.size = sz ∧ va_P D vwCl ws U.heap ∧ KK D k U ∧ va_D (fun _ => True) ws ∧ ZZ (va_A ws sz) U)
theorem wxP_bl {D : va_G} {k : Nat → ClassId} {ws : va_W} {sz : Nat} {av : List Value} : FrameBlind (wxP D k ws sz av) := fun a _ g mk q => ⟨q.1, q.2.1, q.2.2.1, q.2.2.2.1.calling g mk a, q.2.2.2.2.1, q.2.2.2.2.2.calling g mk a⟩
/-- a method with handlers, that returns -/
theorem wx_startW {l : Launch} {y : MethodName} {cc : ByteArray} {n : Nat} {ret : Option FieldType} {hh : List (Nat × Nat × Nat × Nat)} {rm : Room} {D : va_G} {k : Nat → ClassId} {ws : va_W} {sz : Nat} {av : List Value} {mc ms : Nat} {Qc : (Nat → Prop) → Array Value → State → Outcome → State → Prop} (hy : plainName y.cls = true) (hn : (lg_sl av).length ≤ n)
    (body : ∀ (p : Program) (e : Env) (s : State) (m : MethodId) (below : List Frame) (meth : Method) (c : Code) (ls : Array Slot) (A : Nat → Prop), (∀ q : Nat, s.heap.size ≤ q → A q) → p.tables.exec = Jvm.exec → c.code = cc → meth.sig.returnType = ret → meth.locks = false → c.maxLocals = n → s.vm.findClass y.cls = some m.cls → (∀ w ∈ lw_all, w.before av.toArray s = true) → va_P D vwCl ws s.heap → KK D k s → va_D A ws → ZZ A s → c.exceptionTable.toList = tableOf hh → lv_has ls n (lv_args 0 av) → gW p l e rm s m av below meth c (Qc A) A mc ms s.heap [] 0 ls []) :
    Met l y (wsW_ y cc n ret hh) rm (wxP D k ws sz av) (Qc (va_A ws sz)) mc ms (va_A ws sz) := by
  refine va_MetW (cc := cc) (maxL := n) (ret := ret) (hh := hh) hy rfl ?_
  intro p e s m args below meth c s₁ B hml hv
  obtain ⟨rfl, hsz, hP, hK, hD0, hZ⟩ := hv
  subst hsz
  have hts := atoms_spec (ws := wsW_ y cc n ret hh) B.pre
  have hD := hD0.self (sz := s.heap.size)
  have hl := lv_entry av (n := n) hn
  rw [lg_entry_eq]
  generalize (lg_sl av ++ List.replicate (n - (lg_sl av).length) Slot.unset).toArray = ls at hl ⊢
  exact body p e s m below meth c ls (va_A ws s.heap.size) (fun q h => Or.inr h) B.exec B.bytes B.returns B.notSynchronized hml (findClass_of_methodNamed B.named) (fun w h => hts w (List.mem_cons_of_mem _ h)) hP hK hD hZ (vx_table (x := y) B (hts _ List.mem_cons_self)) hl
/-- a method that throws E (or returns as Qc says) -/
abbrev gX (p : Program) (l : Launch) (e : Env) (rm : Room) (s : State) (m : MethodId) (av : List Value) (below : List Frame) (meth : Method) (c : Code) (Qc : Array Value → State → Outcome → State → Prop) (XC : String → State → State → Prop) (A : Nat → Prop) (mc ms : Nat) (H : Heap) (locs : List Loc) (pc : Nat) (ls : Array Slot) (st : List Value) : Prop := W p l e rm s m av.toArray below meth c H locs 0 0 (vx_MQ below Qc XC av.toArray s mc ms A) (F0 m pc ls st)
theorem wx_startX {l : Launch} {y : MethodName} {cc : ByteArray} {n : Nat} {ret : Option FieldType} {rm : Room} {D : va_G} {k : Nat → ClassId} {ws : va_W} {sz : Nat} {av : List Value} {mc ms : Nat} {Qc : (Nat → Prop) → Array Value → State → Outcome → State → Prop} {XC : (Nat → Prop) → String → State → State → Prop} (hy : plainName y.cls = true) (hn : (lg_sl av).length ≤ n)
    (body : ∀ (p : Program) (e : Env) (s : State) (m : MethodId) (below : List Frame) (meth : Method) (c : Code) (ls : Array Slot) (A : Nat → Prop), (∀ q : Nat, s.heap.size ≤ q → A q) → p.tables.exec = Jvm.exec → c.code = cc → meth.sig.returnType = ret → meth.locks = false → c.maxLocals = n → s.vm.findClass y.cls = some m.cls → (∀ w ∈ lw_all, w.before av.toArray s = true) → va_P D vwCl ws s.heap → KK D k s → va_D A ws → ZZ A s → (∀ x ∈ c.exceptionTable.toList, False) → lv_has ls n (lv_args 0 av) → gX p l e rm s m av below meth c (Qc A) (XC A) A mc ms s.heap [] 0 ls []) :
    vx_Met l y (ws_ y cc n ret) rm (wxP D k ws sz av) (Qc (va_A ws sz)) (XC (va_A ws sz)) mc ms (va_A ws sz) := by
  refine vx_ofW (cc := cc) (maxL := n) (ret := ret) hy rfl ?_
  intro p e s m args below meth c s₁ B hml hex hv
  obtain ⟨rfl, hsz, hP, hK, hD0, hZ⟩ := hv
  subst hsz
  have hts := atoms_spec (ws := ws_ y cc n ret) B.pre
  have hD := hD0.self (sz := s.heap.size)
  have hl := lv_entry av (n := n) hn
  rw [lg_entry_eq]
  generalize (lg_sl av ++ List.replicate (n - (lg_sl av).length) Slot.unset).toArray = ls at hl ⊢
  exact body p e s m below meth c ls (va_A ws s.heap.size) (fun q h => Or.inr h) B.exec B.bytes B.returns B.notSynchronized hml (findClass_of_methodNamed B.named) (fun w h => hts w (List.mem_cons_of_mem _ h)) hP hK hD hZ hex hl
/-- what a throw says: the class, the world as it was, the frame -/
abbrev xcE (D : va_G) (E0 : String) (ws : va_W) (A : Nat → Prop) : String → State → State → Prop := vx_X (fun _ : Unit => True) (fun E _ t => E = E0 ∧ va_P D vwCl ws t.heap) A
abbrev noQ : Array Value → State → Outcome → State → Prop := fun _ _ _ _ => False
section XR
variable {p : Program} {l : Launch} {e : Env} {R : Room} {s : State} {m : MethodId} {args : Array Value} {below : List Frame} {meth : Method} {c : Code} {H : Heap} {locs : List Loc} {cells slots : Nat} {Q : State → Prop}
variable {cc : ByteArray} {pc : Nat} {ls : Array Slot} {rest st0 : List Value} {D : va_G} {k : Nat → ClassId} {a : Nat} {ws : va_W} {A : Nat → Prop}
/-- behind a throw: the exception's object, and the world as it was -/
theorem x_note {cls text : String} {names : List String} {nb : Nat} (hx : p.tables.exec = Jvm.exec) (hst : l.stackTraces = false) (hcls : Bundle.fit cls = true) (hnames : ∀ n ∈ names, Bundle.fit n = true) (hsoe : (cls == "java/lang/StackOverflowError") = false) (hoom : (cls == "java/lang/OutOfMemoryError") = false) (hat : ∀ w ∈ vx_atM cls names, w.before args s = true) (hgood : ∀ w ∈ vx_atM cls names, vx_ot w = true) (hP : va_P D vwCl ws H) (hZ : ZZ A s) (hS : va_S A s.heap H locs) (hsize : ls.size = c.maxLocals) (htext : (text == notModelled) = false) (hnb : (stringBytes (stringToUtf16 text)).size ≤ nb) (hnb1 : nb ≤ 1000)
    (hRframes : names.length + 4 < R.frames) (hRlocals : (rest.map fun v => v.category).sum + 10240 ≤ R.locals) (hshort : 13 * names.length + 55 ≤ 10240) (hRcells : cells + 3 ≤ R.cells) (hRslots : slots + (nb + 10) ≤ R.slots) (hlk : meth.locks = false)
    (kk : ∀ (H1 : Heap) (q9 : Nat) (ce : Cell), va_P D vwCl ws H1 → va_S A s.heap H1 locs → H1[q9]? = some ce → ce.vm = .none → s.vm.findClass cls = some ce.cls → vx_W p l e R s m args below meth c H1 locs (cells + 3) (slots + (nb + 10)) Q (F0 m pc ls rest) q9) :
    vx_Note p l e R s m args below meth c H locs cells slots Q (F0 m pc ls rest) cls text :=
  vx_vm hx hst hcls hnames hsoe hoom hat hgood hZ.1 hZ.2.1 hS hsize htext hnb hnb1 hRframes hRlocals hshort hRcells hRslots hlk (fun H1 q9 ce h1 h2 h3 h4 h5 h6 => kk H1 q9 ce (hP.kept (fun i q hq => h2 q.1 ((hP i q hq).lt))) h3 h4 h5 h6)
theorem x_noteA {tx : String} {i : Int32} {n : Nat} (htx : tx = (toString "Index " ++ toString i ++ toString " out of bounds for length " ++ toString n : String)) (hn : n < 2 ^ 31) (hx : p.tables.exec = Jvm.exec) (hst : l.stackTraces = false) (hts : ∀ w ∈ lw_all, w.before args s = true) (hK : KK D k s) (hP : va_P D vwCl ws H) (hZ : ZZ A s) (hS : va_S A s.heap H locs) (hsize : ls.size = c.maxLocals)
    (hRframes : 7 < R.frames) (hRlocals : (rest.map fun v => v.category).sum + 10240 ≤ R.locals) (hRcells : cells + 3 ≤ R.cells) (hRslots : slots + 222 ≤ R.slots) (hlk : meth.locks = false)
    (kk : ∀ (H1 : Heap) (q9 : Nat) (ce : Cell), va_P D vwCl ws H1 → va_S A s.heap H1 locs → H1[q9]? = some ce → ce.vm = .none → s.vm.findClass "java/lang/ArrayIndexOutOfBoundsException" = some ce.cls → vx_W p l e R s m args below meth c H1 locs (cells + 3) (slots + 222) Q (F0 m pc ls rest) q9) :
    vx_Note p l e R s m args below meth c H locs cells slots Q (F0 m pc ls rest) "java/lang/ArrayIndexOutOfBoundsException" tx := by
  subst htx
  exact x_note (names := nmAIO) (nb := 212) hx hst (by decide +kernel) (by decide +kernel) (by decide +kernel) (by decide +kernel) (hat_of LAIO _ atAIO gdAIO hts hK) (ot_of LAIO otAIO) hP hZ hS hsize (index_text_modelled i n) (index_text_bytes i hn) (by decide) hRframes hRlocals (by decide) hRcells hRslots hlk kk
theorem neg_text_modelled (i : Int32) : ((toString i : String) == notModelled) = false := by
  cases h : ((toString i : String) == notModelled)
  · rfl
  · have e : (toString i : String) = notModelled := by simpa using h
    have h1 := int32_print i
    rw [e] at h1
    exact absurd h1 (by decide +kernel)
theorem neg_text_bytes (i : Int32) : (stringBytes (stringToUtf16 (toString i))).size ≤ 44 := by
  have h1 := int32_print i
  have h2 := utf16_size_le (toString i)
  have h3 := stringBytes_size_le (stringToUtf16 (toString i))
  omega
theorem x_noteS {tx : String} {i : Int32} (htx : tx = toString i) (hx : p.tables.exec = Jvm.exec) (hst : l.stackTraces = false) (hts : ∀ w ∈ lw_all, w.before args s = true) (hK : KK D k s) (hP : va_P D vwCl ws H) (hZ : ZZ A s) (hS : va_S A s.heap H locs) (hsize : ls.size = c.maxLocals)
    (hRframes : 6 < R.frames) (hRlocals : (rest.map fun v => v.category).sum + 10240 ≤ R.locals) (hRcells : cells + 3 ≤ R.cells) (hRslots : slots + 222 ≤ R.slots) (hlk : meth.locks = false)
    (kk : ∀ (H1 : Heap) (q9 : Nat) (ce : Cell), va_P D vwCl ws H1 → va_S A s.heap H1 locs → H1[q9]? = some ce → ce.vm = .none → s.vm.findClass "java/lang/NegativeArraySizeException" = some ce.cls → vx_W p l e R s m args below meth c H1 locs (cells + 3) (slots + 222) Q (F0 m pc ls rest) q9) :
    vx_Note p l e R s m args below meth c H locs cells slots Q (F0 m pc ls rest) "java/lang/NegativeArraySizeException" tx := by
  subst htx
  exact x_note (names := nmNAS) (nb := 212) hx hst (by decide +kernel) (by decide +kernel) (by decide +kernel) (by decide +kernel) (hat_of LNAS _ atNAS gdNAS hts hK) (ot_of LNAS otNAS) hP hZ hS hsize (neg_text_modelled i) (Nat.le_trans (neg_text_bytes i) (by decide)) (by decide) hRframes hRlocals (by decide) hRcells hRslots hlk kk
theorem x_noteN (hx : p.tables.exec = Jvm.exec) (hst : l.stackTraces = false) (hts : ∀ w ∈ lw_all, w.before args s = true) (hK : KK D k s) (hP : va_P D vwCl ws H) (hZ : ZZ A s) (hS : va_S A s.heap H locs) (hsize : ls.size = c.maxLocals)
    (hRframes : 7 < R.frames) (hRlocals : (rest.map fun v => v.category).sum + 10240 ≤ R.locals) (hRcells : cells + 3 ≤ R.cells) (hRslots : slots + 222 ≤ R.slots) (hlk : meth.locks = false)
    (kk : ∀ (H1 : Heap) (q9 : Nat) (ce : Cell), va_P D vwCl ws H1 → va_S A s.heap H1 locs → H1[q9]? = some ce → ce.vm = .none → s.vm.findClass "java/lang/NullPointerException" = some ce.cls → vx_W p l e R s m args below meth c H1 locs (cells + 3) (slots + 222) Q (F0 m pc ls rest) q9) :
    vx_NoteN p l e R s m args below meth c H locs cells slots Q (F0 m pc ls rest) :=
  vx_npe hx hst (hat_of LNPE _ atNPE gdNPE hts hK) (ot_of LNPE otNPE) hZ.1 hZ.2.1 hS hsize hRframes hRlocals (by omega) (by omega) hlk (fun H1 q9 ce h1 h2 h3 h4 h5 h6 => vx_widen (by omega) (by omega) (kk H1 q9 ce (hP.kept (fun i q hq => h2 q.1 ((hP i q hq).lt))) h3 h4 h5 h6))
end XR
