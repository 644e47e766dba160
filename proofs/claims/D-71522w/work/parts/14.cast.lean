/-! A CAST OF AN ARRAY OF PRIMITIVES TO ANOTHER: the machine's ClassCastException, its text bounded -/
set_option maxRecDepth 100000
def cceHome (b : Bool) : String := (if b then "module " ++ "java.base" else "unnamed module") ++ " of loader " ++ "'bootstrap'"
def cceText (na nb : String) (same ha hb : Bool) : String :=
  toString "class " ++ toString (dotted na) ++ toString " cannot be cast to class " ++ toString (dotted nb) ++ toString " (" ++ toString (if same then toString (dotted na) ++ toString " and " ++ toString (dotted nb) ++ toString " are in " ++ toString (cceHome ha) else toString (dotted na) ++ toString " is in " ++ toString (cceHome ha) ++ toString "; " ++ toString (dotted nb) ++ toString " is in " ++ toString (cceHome hb)) ++ toString ")"
def cceGood (tx : String) : Prop := (tx == notModelled) = false ∧ (stringBytes (stringToUtf16 tx)).size ≤ 212
def cceOK (na nb : String) : Bool := [false, true].all fun s => [false, true].all fun a => [false, true].all fun b => decide ((cceText na nb s a b == notModelled) = false) && decide ((stringBytes (stringToUtf16 (cceText na nb s a b))).size ≤ 212)
theorem cceOK_use {na nb : String} (h : cceOK na nb = true) (s a b : Bool) : cceGood (cceText na nb s a b) := by
  have h1 := List.all_eq_true.mp h s (by cases s <;> simp)
  have h2 := List.all_eq_true.mp h1 a (by cases a <;> simp)
  have h3 := List.all_eq_true.mp h2 b (by cases b <;> simp)
  simp only [Bool.and_eq_true, decide_eq_true_eq] at h3
  exact h3
theorem cce_BI : cceOK "[B" "[I" = true := by decide +kernel
theorem cce_BJ : cceOK "[B" "[J" = true := by decide +kernel
theorem cce_IB : cceOK "[I" "[B" = true := by decide +kernel
theorem cce_IJ : cceOK "[I" "[J" = true := by decide +kernel
theorem cce_JB : cceOK "[J" "[B" = true := by decide +kernel
theorem cce_JI : cceOK "[J" "[I" = true := by decide +kernel
theorem findClass_full {vm : Vm} {name : String} {c : ClassId} (h : vm.findClass name = some c) : ∃ k, vm.classes[c]? = some k ∧ k.name = name ∧ k.hidden = none ∧ k.loader = none := by
  obtain ⟨hlt, hp, _⟩ := Array.findIdx?_eq_some_iff_getElem.mp h
  refine ⟨vm.classes[c], by simp [hlt], ?_⟩
  simp only [Bool.and_eq_true, beq_iff_eq, Option.isNone_iff_eq_none] at hp
  exact ⟨hp.1.1.1, hp.1.1.2, hp.2⟩
theorem home_of {vm : Vm} {k : Class} (hp : k.ofPrimitives = true) (hl : k.loader = none) : ∃ b, vm.home k = cceHome b := by
  unfold Vm.home Vm.moduleOf
  rw [if_pos hp, hl]
  cases hf : vm.modules.find? (fun m => m.name == "java.base") with
  | none => exact ⟨false, rfl⟩
  | some m =>
    have h1 := List.find?_some hf
    simp only [beq_iff_eq] at h1
    refine ⟨true, ?_⟩
    show "module " ++ m.name ++ " of loader " ++ "'bootstrap'" = _
    rw [h1]; rfl
theorem text_of {vm : Vm} {ka kb : Class} {na nb : String} (h1 : ka.name = na ∧ ka.hidden = none ∧ ka.loader = none) (h2 : kb.name = nb ∧ kb.hidden = none ∧ kb.loader = none) (pa : ka.ofPrimitives = true) (pb : kb.ofPrimitives = true) : ∃ s a b, checkcast.message vm ka kb = cceText na nb s a b := by
  obtain ⟨a, ha⟩ := home_of (vm := vm) pa h1.2.2
  obtain ⟨b, hb⟩ := home_of (vm := vm) pb h2.2.2
  have sa : ka.shown = dotted na := by unfold Class.shown; rw [h1.2.1, h1.1]
  have sb : kb.shown = dotted nb := by unfold Class.shown; rw [h2.2.1, h2.1]
  refine ⟨vm.sameModule ka kb, a, b, ?_⟩
  unfold checkcast.message Vm.homes cceText
  rw [sa, sb, ha, hb]
theorem prim_of {U : State} {cA : ClassId} {ty : FieldType} {k : Class} (h : ArrOfT U cA ty) (hk : U.vm.classes[cA]? = some k) (hn : (withoutBrackets k.name).length = 1) : k.ofPrimitives = true := by
  obtain ⟨-, k', hk', comp, hkind⟩ := h 0 (fun _ => .int 0)
  have e : k' = k := Option.some.inj (hk'.symm.trans hk)
  subst e
  unfold Class.ofPrimitives
  rw [hkind]
  simp [hn]
section CC
variable {p : Program} {l : Launch} {e : Env} {R : Room} {s : State} {m : MethodId} {args : Array Value} {below : List Frame} {meth : Method} {c : Code} {H : Heap} {locs : List Loc} {cells slots : Nat} {Q : State → Prop}
variable {cc : ByteArray} {pc : Nat} {ls : Array Slot} {rest st0 : List Value} {D : va_G} {k : Nat → ClassId} {a : Nat} {ws : va_W} {A : Nat → Prop}
theorem checkcastNo {T : State} (X : Stand p l e R s m args below meth c T locs cells slots) (hexec : p.tables.exec = Jvm.exec) {own name : String} {index : Nat} (hown : s.vm.findClass own = some m.cls) (hlink : (Cond.classLink own index name).before args s = true)
    {a : Addr} {cell : Cell} {cT : ClassId} (hcell : T.heap[a]? = some cell) (hobj : ∀ k, cell.vm ≠ .statics k) {ks : Class} (hks : s.vm.classes[cell.cls]? = some ks) (hcT : s.vm.findClass name = some cT) (hasg : s.vm.assignable cell.cls cT = false)
    {g : JFrame} (hg : g.method = m) {rest : List Value} (hstack : g.stack = .ref a :: rest) (hdg : decode c.code g.pc = .ok (.checkcast index, 3)) :
    ∃ (vm' : Vm) (ks' kt' : Class), Stand p l e R s m args below meth c (T.setVm vm') locs cells slots ∧ s.WarmedH vm' ∧ vm'.classes[cell.cls]? = some ks' ∧ vm'.classes[cT]? = some kt' ∧
      ∀ target, Steps p.tables e below (((T.setVm vm').setTop g).pushFrame (.throwNew "java/lang/ClassCastException" (some (checkcast.message vm' ks' kt')) none)) target → Steps p.tables e below (T.setTop g) target := by
  have hpl : e.platform.magicAccessors = ({} : Platform).magicAccessors := by rw [X.admits.platform]
  obtain ⟨c', hc', hcl⟩ := Cond.classLink_spec hown hlink e.platform hpl
  cases hcT.symm.trans hc'
  obtain ⟨dk, _, _, kt, hd, _, _, _, _, hkt, _, hopen⟩ := hcl.here
  have hcl₀ := X.warmed.classLinks hcl
  have hW' : s.WarmedH (T.vm.noted m.cls index (.cls cT)) := X.warmed.noted hd hopen (State.rightAt_cls hcl)
  obtain ⟨ks', hks', -⟩ := hW'.alike.2.2 _ _ hks
  obtain ⟨kt', hkt', -⟩ := hW'.alike.2.2 _ _ hkt
  refine ⟨_, ks', kt', X.noted hW', hW', hks', hkt', fun target hrest => ?_⟩
  subst hg
  jvm_step X.here [hexec, hdg, checkcast.wp_cold (e := e) (s := T) (f := g) X.here.top hstack (resolveClass_links e.toSetting hcl₀) hcl₀.ready,
    checkcast.wp_ready (e := e) (s := T.setVm (T.vm.noted g.method.cls index (.cls cT))) (f := g) X.here.top hcl₀.ready hstack]
  refine ⟨cell, hcell, hobj, ks', hks', kt', hkt', ?_⟩
  rw [if_neg (by rw [hW'.alike.assignable, hasg]; decide)]
  exact hrest
theorem x_castX (hx : p.tables.exec = Jvm.exec) (hb : c.code = cc) (hK : KK D k s) {own nm na : String} {index : Nat} (hown : s.vm.findClass own = some m.cls) (hlink : (Cond.classLink own index nm).before args s = true) (hP : va_P D vwCl ws H) (q0 t0 t1 : Nat) {cA cB : ClassId} {x : vp_A} {ta tb : FieldType} (ha : ws[q0]? = some (a, .inl (cA, x))) (ht0 : (tysA k)[t0]? = some (cA, ta)) (ht1 : (tysA k)[t1]? = some (cB, tb)) (hna : "[" ++ ta.toString = na) (hnb : "[" ++ tb.toString = nm) (la : (withoutBrackets na).length = 1) (lb : (withoutBrackets nm).length = 1) (hNc : va_Nc na nm s) (ok : cceOK na nm = true) (d : decode cc pc = .ok (.checkcast index, 3))
    (kk : ∀ tx : String, cceGood tx → vx_Note p l e R s m args below meth c H locs cells slots Q (F0 m pc ls (.ref a :: rest)) "java/lang/ClassCastException" tx) : W p l e R s m args below meth c H locs cells slots Q (F0 m pc ls (.ref a :: rest)) := by
  have hvm0 : (vp_cell cA x).vm = .none := by
    obtain ⟨n, f | f | f | f | f⟩ := x <;> rfl
  have hcl0 : (vp_cell cA x).cls = cA := by
    obtain ⟨n, f | f | f | f | f⟩ := x <;> rfl
  have f1 := (hK.1.2 t0 _ ht0).2.nm
  have f2 := (hK.1.2 t1 _ ht1).2.nm
  simp only at f1 f2
  rw [hna] at f1
  rw [hnb] at f2
  obtain ⟨c1, c2, g1, g2, g3⟩ := hNc
  cases f1.symm.trans g1
  cases f2.symm.trans g2
  intro T hT X
  obtain ⟨k1, hk1, -⟩ := findClass_full f1
  obtain ⟨vm', ks, kt, X', hW, hks, hkt, st⟩ := checkcastNo X hx hown hlink (a := a) (cell := vp_cell cA x) (by rw [hT]; exact hP q0 _ ha) (by rw [hvm0]; exact fun _ h => by cases h) (ks := k1) (by rw [hcl0]; exact hk1) f2 (by rw [hcl0]; exact g3) (g := F0 m pc ls (.ref a :: rest)) rfl rfl (by rw [hb]; exact d)
  rw [hcl0] at hks
  have hA := arrOfT_moved (E := s.setVm vm') hW.alike (hK.1.2 t0 _ ht0).1
  have hB := arrOfT_moved (E := s.setVm vm') hW.alike (hK.1.2 t1 _ ht1).1
  obtain ⟨k2, hk2, n1, n2, n3⟩ := findClass_full (show vm'.findClass na = some cA by rw [hW.alike.findClass]; exact f1)
  obtain ⟨k3, hk3, m1, m2, m3⟩ := findClass_full (show vm'.findClass nm = some cB by rw [hW.alike.findClass]; exact f2)
  cases Option.some.inj (hk2.symm.trans hks)
  cases Option.some.inj (hk3.symm.trans hkt)
  obtain ⟨b1, b2, b3, htx⟩ := text_of (vm := vm') ⟨n1, n2, n3⟩ ⟨m1, m2, m3⟩ (prim_of hA hks (by rw [n1]; exact la)) (prim_of hB hkt (by rw [m1]; exact lb))
  obtain ⟨t, a1, b4⟩ := kk _ (cceOK_use ok b1 b2 b3) (T.setVm vm') hT X'
  rw [← htx] at a1
  exact ⟨t, st t a1, b4⟩
theorem x_noteC {tx : String} (htx : cceGood tx) (hx : p.tables.exec = Jvm.exec) (hst : l.stackTraces = false) (hts : ∀ w ∈ lw_all, w.before args s = true) (hK : KK D k s) (hP : va_P D vwCl ws H) (hZ : ZZ A s) (hS : va_S A s.heap H locs) (hsize : ls.size = c.maxLocals)
    (hRframes : 6 < R.frames) (hRlocals : (rest.map fun v => v.category).sum + 10240 ≤ R.locals) (hRcells : cells + 3 ≤ R.cells) (hRslots : slots + 222 ≤ R.slots) (hlk : meth.locks = false)
    (kk : ∀ (H1 : Heap) (q9 : Nat) (ce : Cell), va_P D vwCl ws H1 → va_S A s.heap H1 locs → H1[q9]? = some ce → ce.vm = .none → s.vm.findClass "java/lang/ClassCastException" = some ce.cls → vx_W p l e R s m args below meth c H1 locs (cells + 3) (slots + 222) Q (F0 m pc ls rest) q9) :
    vx_Note p l e R s m args below meth c H locs cells slots Q (F0 m pc ls rest) "java/lang/ClassCastException" tx :=
  x_note (names := nmCCE) (nb := 212) hx hst (by decide +kernel) (by decide +kernel) (by decide +kernel) (by decide +kernel) (hat_of LCCE _ atCCE gdCCE hts hK) (ot_of LCCE otCCE) hP hZ hS hsize htx.1 htx.2 (by decide) hRframes hRlocals (by decide) hRcells hRslots hlk kk
/-- instanceof an array's own class -/
theorem x_instA (hx : p.tables.exec = Jvm.exec) (hb : c.code = cc) (hK : KK D k s) {own nm : String} {index : Nat} (hown : s.vm.findClass own = some m.cls) (hlink : (Cond.classLink own index nm).before args s = true) (hP : va_P D vwCl ws H) (q0 t0 : Nat) {cA : ClassId} {x : vp_A} {ta : FieldType} (ha : ws[q0]? = some (a, .inl (cA, x))) (ht0 : (tysA k)[t0]? = some (cA, ta)) (hna : "[" ++ ta.toString = nm) (d : decode cc pc = .ok (.instanceof index, 3))
    (kk : W p l e R s m args below meth c H locs cells slots Q (F0 m (pc + 3) ls (.int 1 :: rest))) : W p l e R s m args below meth c H locs cells slots Q (F0 m pc ls (.ref a :: rest)) := by
  have hvm0 : (vp_cell cA x).vm = .none := by
    obtain ⟨n, f | f | f | f | f⟩ := x <;> rfl
  have hcl0 : (vp_cell cA x).cls = cA := by
    obtain ⟨n, f | f | f | f | f⟩ := x <;> rfl
  have f1 := (hK.1.2 t0 _ ht0).2.nm
  simp only at f1
  rw [hna] at f1
  intro T hT X
  obtain ⟨vm', X', st⟩ := X.instanceofYes hx hown hlink (by rw [hT]; exact hP q0 _ ha) (by rw [hvm0]; rfl) f1 (by rw [hcl0]; exact va_asg _ _) (g := F0 m pc ls (.ref a :: rest)) rfl rfl (by rw [hb]; exact d)
  obtain ⟨t, a1, b1⟩ := kk (T.setVm vm') hT X'
  exact ⟨t, st t a1, b1⟩
theorem x_instN (hx : p.tables.exec = Jvm.exec) (hb : c.code = cc) (hK : KK D k s) {own nm na : String} {index : Nat} (hown : s.vm.findClass own = some m.cls) (hlink : (Cond.classLink own index nm).before args s = true) (hP : va_P D vwCl ws H) (q0 t0 : Nat) {cA : ClassId} {x : vp_A} {ta : FieldType} (ha : ws[q0]? = some (a, .inl (cA, x))) (ht0 : (tysA k)[t0]? = some (cA, ta)) (hna : "[" ++ ta.toString = na) (hNc : va_Nc na nm s) (d : decode cc pc = .ok (.instanceof index, 3))
    (kk : W p l e R s m args below meth c H locs cells slots Q (F0 m (pc + 3) ls (.int 0 :: rest))) : W p l e R s m args below meth c H locs cells slots Q (F0 m pc ls (.ref a :: rest)) := by
  have hvm0 : (vp_cell cA x).vm = .none := by
    obtain ⟨n, f | f | f | f | f⟩ := x <;> rfl
  have hcl0 : (vp_cell cA x).cls = cA := by
    obtain ⟨n, f | f | f | f | f⟩ := x <;> rfl
  have f1 := (hK.1.2 t0 _ ht0).2.nm
  simp only at f1
  rw [hna] at f1
  exact va_instNo hx hb hown hlink hNc ⟨_, hP q0 _ ha, by show VmData.isStatics (vp_cell cA x).vm = false; rw [hvm0]; rfl, by show _ = some (vp_cell cA x).cls; rw [hcl0]; exact f1⟩ d kk
theorem x_castA (hx : p.tables.exec = Jvm.exec) (hb : c.code = cc) (hK : KK D k s) {own nm : String} {index : Nat} (hown : s.vm.findClass own = some m.cls) (hlink : (Cond.classLink own index nm).before args s = true) (hP : va_P D vwCl ws H) (q0 t0 : Nat) {cA : ClassId} {x : vp_A} {ta : FieldType} (ha : ws[q0]? = some (a, .inl (cA, x))) (ht0 : (tysA k)[t0]? = some (cA, ta)) (hna : "[" ++ ta.toString = nm) (d : decode cc pc = .ok (.checkcast index, 3))
    (kk : W p l e R s m args below meth c H locs cells slots Q (F0 m (pc + 3) ls (.ref a :: rest))) : W p l e R s m args below meth c H locs cells slots Q (F0 m pc ls (.ref a :: rest)) := by
  have f1 := (hK.1.2 t0 _ ht0).2.nm
  simp only at f1
  rw [hna] at f1
  exact va_castA hx hb hown hlink hP q0 ha f1 d kk
end CC
