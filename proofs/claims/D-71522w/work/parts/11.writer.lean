/-! WRITERS: contracts of methods that change cells of their world, and their rows -/
set_option maxRecDepth 100000
theorem prod2 {α β : Type} {a a' : α} {b b' : β} (h : some (a, b) = some (a', b')) : a = a' ∧ b = b' := by cases h; exact ⟨rfl, rfl⟩
theorem prod3 {α β γ : Type} {a a' : α} {b b' : β} {c c' : γ} (h : some (a, b, c) = some (a', b', c')) : a = a' ∧ b = b' ∧ c = c' := by cases h; exact ⟨rfl, rfl, rfl⟩
theorem prod4 {α β γ δ : Type} {a a' : α} {b b' : β} {c c' : γ} {d d' : δ} (h : some (a, b, c, d) = some (a', b', c', d')) : a = a' ∧ b = b' ∧ c = c' ∧ d = d' := by cases h; exact ⟨rfl, rfl, rfl, rfl⟩
theorem prod5 {α β γ δ ε : Type} {a a' : α} {b b' : β} {c c' : γ} {d d' : δ} {e e' : ε} (h : some (a, b, c, d, e) = some (a', b', c', d', e')) : a = a' ∧ b = b' ∧ c = c' ∧ d = d' ∧ e = e' := by cases h; exact ⟨rfl, rfl, rfl, rfl, rfl⟩
theorem prod6 {α β γ δ ε ζ : Type} {a a' : α} {b b' : β} {c c' : γ} {d d' : δ} {e e' : ε} {f f' : ζ} (h : some (a, b, c, d, e, f) = some (a', b', c', d', e', f')) : a = a' ∧ b = b' ∧ c = c' ∧ d = d' ∧ e = e' ∧ f = f' := by cases h; exact ⟨rfl, rfl, rfl, rfl, rfl, rfl⟩
abbrev wrP (D : va_G) (k : Nat → ClassId) (ws : va_W) (sz : Nat) (av : List Value) : Array Value → State → Prop := va_Pc av (fun U => U.heap.size = sz ∧ va_P D vwCl ws U.heap ∧ KK D k U ∧ va_D (fun _ => True) ws)
theorem fm_n {α : Type} {P : α → Prop} : ∀ i ∈ ([] : List α), P i := fun _ h => absurd h List.not_mem_nil
theorem fm_c {α : Type} {P : α → Prop} {a : α} {l : List α} (h : P a) (t : ∀ i ∈ l, P i) : ∀ i ∈ a :: l, P i := List.forall_mem_cons.mpr ⟨h, t⟩
theorem fm_e {α : Type} {l l' : List α} {i : Nat} (q : α) (h1 : l[i]? = some q) (h2 : l'[i]? = some q) : l[i]? = l'[i]? := h1.trans h2.symm
theorem wrP_bl {D : va_G} {k : Nat → ClassId} {ws : va_W} {sz : Nat} {av : List Value} : FrameBlind (wrP D k ws sz av) := fun a _ g mk q => ⟨q.1, q.2.1, q.2.2.1, q.2.2.2.1.calling g mk a, q.2.2.2.2⟩
abbrev gW (p : Program) (l : Launch) (e : Env) (rm : Room) (s : State) (m : MethodId) (av : List Value) (below : List Frame) (meth : Method) (c : Code) (Qc : Array Value → State → Outcome → State → Prop) (A : Nat → Prop) (mc ms : Nat) (H : Heap) (locs : List Loc) (pc : Nat) (ls : Array Slot) (st : List Value) : Prop := W p l e rm s m av.toArray below meth c H locs 0 0 (MQ below Qc av.toArray s mc ms A) (F0 m pc ls st)
theorem wr_start {l : Launch} {y : MethodName} {cc : ByteArray} {n : Nat} {ret : Option FieldType} {rm : Room} {D : va_G} {k : Nat → ClassId} {ws : va_W} {sz : Nat} {av : List Value} {mc ms : Nat} {Qc : (Nat → Prop) → Array Value → State → Outcome → State → Prop} (hy : plainName y.cls = true) (hn : (lg_sl av).length ≤ n)
    (body : ∀ (p : Program) (e : Env) (s : State) (m : MethodId) (below : List Frame) (meth : Method) (c : Code) (ls : Array Slot) (A : Nat → Prop), (∀ q : Nat, s.heap.size ≤ q → A q) → p.tables.exec = Jvm.exec → c.code = cc → meth.sig.returnType = ret → meth.locks = false → c.maxLocals = n → s.vm.findClass y.cls = some m.cls → (∀ w ∈ lw_all, w.before av.toArray s = true) → va_P D vwCl ws s.heap → KK D k s → va_D A ws → lv_has ls n (lv_args 0 av) → gW p l e rm s m av below meth c (Qc A) A mc ms s.heap [] 0 ls []) :
    Met l y (ws_ y cc n ret) rm (wrP D k ws sz av) (Qc (va_A ws sz)) mc ms (va_A ws sz) := by
  refine Met.ofW (cc := cc) (maxL := n) (ret := ret) hy rfl ?_
  intro p e s m args below meth c s₁ B hml hv
  obtain ⟨rfl, hsz, hP, hK, hD0⟩ := hv
  subst hsz
  have hts := atoms_spec (ws := ws_ y cc n ret) B.pre
  have hD := hD0.self (sz := s.heap.size)
  have hl := lv_entry av (n := n) hn
  rw [lg_entry_eq]
  generalize (lg_sl av ++ List.replicate (n - (lg_sl av).length) Slot.unset).toArray = ls at hl ⊢
  exact body p e s m below meth c ls (va_A ws s.heap.size) (fun q h => Or.inr h) B.exec B.bytes B.returns B.notSynchronized hml (findClass_of_methodNamed B.named) (fun w h => hts w (List.mem_cons_of_mem _ h)) hP hK hD hl
/-- behind a writer's call: the whole world, the callee's cells as it left them -/
theorem wr_join {A0 : Nat → Prop} {D : va_G} {cl : List vw_C} {ws wc wc' ws1 : va_W} {H H1 : Heap} (hP : va_P D cl ws H) (hD : va_D A0 ws) (is isR : List Nat) (hC : is.map (fun i => ws[i]?) = wc.map some) (hC1 : is.map (fun i => ws1[i]?) = wc'.map some) (hR : ∀ i ∈ isR, ws1[i]? = ws[i]?) (nw : Nat) (hlen : ws1.length = nw) (hall : ∀ i, i < nw → i ∈ is ∨ i ∈ isR) (hdis : ∀ i ∈ isR, i ∉ is) (adl : List Nat) (hadr1 : ws1.map (fun q => q.1) = adl) (hadr0 : ws.map (fun q => q.1) = adl)
    (hk : ∀ q : Nat, q < H.size → ¬ va_A wc H.size q → H1[q]? = H[q]?) (hP1 : va_P D cl wc' H1) : va_P D cl ws1 H1 ∧ va_D A0 ws1 := by
  have adr : ∀ (i : Nat) (q : Nat × va_E), ws1[i]? = some q → ∃ q0, ws[i]? = some q0 ∧ q0.1 = q.1 := by
    intro i q hq
    have h1 : (ws1.map (fun q => q.1))[i]? = some q.1 := by rw [List.getElem?_map, hq]; rfl
    rw [hadr1, ← hadr0, List.getElem?_map] at h1
    cases h2 : ws[i]? with
    | none => rw [h2] at h1; cases h1
    | some q0 => rw [h2] at h1; exact ⟨q0, rfl, Option.some.inj h1⟩
  refine ⟨fun i q hq => ?_, fun i j x y hx hy hxy => ?_, fun i q hq => ?_⟩
  · rcases hall i (by rw [← hlen]; exact (List.getElem?_eq_some_iff.mp hq).1) with h | h
    · obtain ⟨n, hn⟩ := List.getElem?_of_mem h
      have h1 : (is.map (fun i => ws1[i]?))[n]? = some (some q) := by rw [List.getElem?_map, hn]; exact congrArg some hq
      rw [hC1, List.getElem?_map] at h1
      cases h2 : wc'[n]? with
      | none => rw [h2] at h1; cases h1
      | some q' =>
        rw [h2] at h1
        have e : q' = q := Option.some.inj (Option.some.inj h1)
        rw [← e]
        exact hP1 n q' h2
    · have h2 : ws[i]? = some q := by rw [← hR i h]; exact hq
      refine (hP i q h2).kept (hk q.1 (hP i q h2).lt (fun z => ?_))
      rcases z with ⟨n2, e, hz⟩ | hz
      · have h3 : (is.map (fun i => ws[i]?))[n2]? = some (some (q.1, e)) := by rw [hC, List.getElem?_map, hz]; rfl
        rw [List.getElem?_map] at h3
        cases h4 : is[n2]? with
        | none => rw [h4] at h3; cases h3
        | some i2 =>
          rw [h4] at h3
          have h5 : ws[i2]? = some (q.1, e) := Option.some.inj h3
          have h6 := hD.1 i i2 q (q.1, e) h2 h5 rfl
          subst h6
          exact hdis i h (List.mem_of_getElem? h4)
      · have := (hP i q h2).lt
        omega
  · obtain ⟨x0, h1, h2⟩ := adr i x hx
    obtain ⟨y0, h3, h4⟩ := adr j y hy
    exact hD.1 i j x0 y0 h1 h3 (h2.trans (hxy.trans h4.symm))
  · obtain ⟨q0, h1, h2⟩ := adr i q hq
    rw [← h2]
    exact hD.2 i q0 h1
-- ----- System.arraycopy
theorem fitsI (x : Int32) : fits .int (.int x) = true := rfl
theorem fitsL (x : Int64) : fits .long (.long x) = true := rfl
def cpI (n0 n1 : Nat) (f g : Nat → Int32) (sp dp n : Int32) : Option (Nat → Int32) := if sp < 0 ∨ dp < 0 ∨ n < 0 ∨ n0 < sp.toNatClampNeg + n.toNatClampNeg ∨ n1 < dp.toNatClampNeg + n.toNatClampNeg then none else some (va_cpy f g sp.toNatClampNeg dp.toNatClampNeg n.toNatClampNeg)
def cpL (n0 n1 : Nat) (f g : Nat → Int64) (sp dp n : Int32) : Option (Nat → Int64) := if sp < 0 ∨ dp < 0 ∨ n < 0 ∨ n0 < sp.toNatClampNeg + n.toNatClampNeg ∨ n1 < dp.toNatClampNeg + n.toNatClampNeg then none else some (va_cpy f g sp.toNatClampNeg dp.toNatClampNeg n.toNatClampNeg)
def cpS (n0 n1 : Nat) (f g : Nat → Int32) (sp dp n : Int32) : Option (Nat → Int32) := if sp < 0 ∨ dp < 0 ∨ n < 0 ∨ n0 < sp.toNatClampNeg + n.toNatClampNeg ∨ n1 < dp.toNatClampNeg + n.toNatClampNeg ∨ (List.range n.toNatClampNeg).all (fun i => fits .short (.int (f (sp.toNatClampNeg + i)))) = false then none else some (va_cpy f g sp.toNatClampNeg dp.toNatClampNeg n.toNatClampNeg)
theorem cpI_s {n0 n1 : Nat} {f g h : Nat → Int32} {sp dp n : Int32} (e : cpI n0 n1 f g sp dp n = some h) : (¬ sp < 0 ∧ ¬ dp < 0 ∧ ¬ n < 0 ∧ sp.toNatClampNeg + n.toNatClampNeg ≤ n0 ∧ dp.toNatClampNeg + n.toNatClampNeg ≤ n1) ∧ va_cpy f g sp.toNatClampNeg dp.toNatClampNeg n.toNatClampNeg = h := by
  unfold cpI at e
  by_cases hc : sp < 0 ∨ dp < 0 ∨ n < 0 ∨ n0 < sp.toNatClampNeg + n.toNatClampNeg ∨ n1 < dp.toNatClampNeg + n.toNatClampNeg
  · rw [if_pos hc] at e; cases e
  · rw [if_neg hc] at e
    simp only [not_or, Nat.not_lt] at hc
    exact ⟨hc, Option.some.inj e⟩
theorem cpL_s {n0 n1 : Nat} {f g h : Nat → Int64} {sp dp n : Int32} (e : cpL n0 n1 f g sp dp n = some h) : (¬ sp < 0 ∧ ¬ dp < 0 ∧ ¬ n < 0 ∧ sp.toNatClampNeg + n.toNatClampNeg ≤ n0 ∧ dp.toNatClampNeg + n.toNatClampNeg ≤ n1) ∧ va_cpy f g sp.toNatClampNeg dp.toNatClampNeg n.toNatClampNeg = h := by
  unfold cpL at e
  by_cases hc : sp < 0 ∨ dp < 0 ∨ n < 0 ∨ n0 < sp.toNatClampNeg + n.toNatClampNeg ∨ n1 < dp.toNatClampNeg + n.toNatClampNeg
  · rw [if_pos hc] at e; cases e
  · rw [if_neg hc] at e
    simp only [not_or, Nat.not_lt] at hc
    exact ⟨hc, Option.some.inj e⟩
theorem cpS_s {n0 n1 : Nat} {f g h : Nat → Int32} {sp dp n : Int32} (e : cpS n0 n1 f g sp dp n = some h) : (¬ sp < 0 ∧ ¬ dp < 0 ∧ ¬ n < 0 ∧ sp.toNatClampNeg + n.toNatClampNeg ≤ n0 ∧ dp.toNatClampNeg + n.toNatClampNeg ≤ n1) ∧ (∀ i, i < n.toNatClampNeg → fits .short (.int (f (sp.toNatClampNeg + i))) = true) ∧ va_cpy f g sp.toNatClampNeg dp.toNatClampNeg n.toNatClampNeg = h := by
  unfold cpS at e
  by_cases hc : sp < 0 ∨ dp < 0 ∨ n < 0 ∨ n0 < sp.toNatClampNeg + n.toNatClampNeg ∨ n1 < dp.toNatClampNeg + n.toNatClampNeg ∨ (List.range n.toNatClampNeg).all (fun i => fits .short (.int (f (sp.toNatClampNeg + i)))) = false
  · rw [if_pos hc] at e; cases e
  · rw [if_neg hc] at e
    simp only [not_or, Nat.not_lt, Bool.not_eq_false, List.all_eq_true, List.mem_range] at hc
    exact ⟨⟨hc.1, hc.2.1, hc.2.2.1, hc.2.2.2.1, hc.2.2.2.2.1⟩, hc.2.2.2.2.2, Option.some.inj e⟩
section CP
variable {p : Program} {l : Launch} {e : Env} {R : Room} {s : State} {m : MethodId} {args : Array Value} {below : List Frame} {meth : Method} {c : Code} {H : Heap} {locs : List Loc} {cells slots : Nat} {Q : State → Prop}
variable {cc : ByteArray} {pc : Nat} {ls : Array Slot} {rest st0 : List Value} {D : va_G} {k : Nat → ClassId} {a : Nat} {ws : va_W} {A : Nat → Prop}
theorem x_copyI {own : String} {index : Nat} (hx : p.tables.exec = Jvm.exec) (hb : c.code = cc) (hml : c.maxLocals = ls.size) (hown : s.vm.findClass own = some m.cls) (hlink : (Cond.methodLink own index arraycopyName).before args s = true) (hnat : (Cond.native arraycopyName).before args s = true) (hstat : (Cond.static arraycopyName).before args s = true) (hini : (Cond.initialized "java/lang/System").before args s = true)
    (hK : KK D k s) (hP : va_P D vwCl ws H) (hD : va_D A ws) (hS : va_S A s.heap H locs) (q0 q1 t0 : Nat) {a0 : Nat} {c0 : ClassId} {n0 n1 : Nat} {f g h : Nat → Int32} {sp dp n : Int32} (hc : cpI n0 n1 f g sp dp n = some h) (ha0 : ws[q0]? = some (a0, .inl (c0, n0, .inl f))) (ha1 : ws[q1]? = some (a, .inl (c0, n1, .inl g))) (ht0 : (tysA k)[t0]? = some (c0, .int))
    (hframes : 1 ≤ R.frames) (hlocals : (rest.map fun v => v.category).sum + (nativeFrameWords "java/lang/System" "arraycopy" 5 + 11) ≤ R.locals) (ws1 : va_W) (hw : ws.set q1 (a, .inl (c0, n1, .inl h)) = ws1) (hdg : decode cc pc = .ok (.invokestatic index, 3))
    (kk : ∀ (H1 : Heap) (locs1 : List Loc), va_P D vwCl ws1 H1 → va_D A ws1 → va_S A s.heap H1 locs1 → W p l e R s m args below meth c H1 locs1 cells slots Q (F0 m (pc + 3) ls rest)) : W p l e R s m args below meth c H locs cells slots Q (F0 m pc ls (.int n :: .int dp :: .ref a :: .int sp :: .ref a0 :: rest)) := by
  obtain ⟨⟨a1, a2, a3, a4, a5⟩, rfl⟩ := cpI_s hc
  subst hw
  exact va_copyi hx hb hml hown hlink hnat hstat hini hK.1 hP hD hS q0 q1 t0 t0 ha0 ha1 ht0 ht0 rfl a1 a2 a3 a4 a5 (fun _ _ => fitsI _) hframes hlocals hdg kk
theorem x_copyS {own : String} {index : Nat} (hx : p.tables.exec = Jvm.exec) (hb : c.code = cc) (hml : c.maxLocals = ls.size) (hown : s.vm.findClass own = some m.cls) (hlink : (Cond.methodLink own index arraycopyName).before args s = true) (hnat : (Cond.native arraycopyName).before args s = true) (hstat : (Cond.static arraycopyName).before args s = true) (hini : (Cond.initialized "java/lang/System").before args s = true)
    (hK : KK D k s) (hP : va_P D vwCl ws H) (hD : va_D A ws) (hS : va_S A s.heap H locs) (q0 q1 t0 : Nat) {a0 : Nat} {c0 : ClassId} {n0 n1 : Nat} {f g h : Nat → Int32} {sp dp n : Int32} (hc : cpS n0 n1 f g sp dp n = some h) (ha0 : ws[q0]? = some (a0, .inl (c0, n0, .inl f))) (ha1 : ws[q1]? = some (a, .inl (c0, n1, .inl g))) (ht0 : (tysA k)[t0]? = some (c0, .short))
    (hframes : 1 ≤ R.frames) (hlocals : (rest.map fun v => v.category).sum + (nativeFrameWords "java/lang/System" "arraycopy" 5 + 11) ≤ R.locals) (ws1 : va_W) (hw : ws.set q1 (a, .inl (c0, n1, .inl h)) = ws1) (hdg : decode cc pc = .ok (.invokestatic index, 3))
    (kk : ∀ (H1 : Heap) (locs1 : List Loc), va_P D vwCl ws1 H1 → va_D A ws1 → va_S A s.heap H1 locs1 → W p l e R s m args below meth c H1 locs1 cells slots Q (F0 m (pc + 3) ls rest)) : W p l e R s m args below meth c H locs cells slots Q (F0 m pc ls (.int n :: .int dp :: .ref a :: .int sp :: .ref a0 :: rest)) := by
  obtain ⟨⟨a1, a2, a3, a4, a5⟩, h2, rfl⟩ := cpS_s hc
  subst hw
  exact va_copyi hx hb hml hown hlink hnat hstat hini hK.1 hP hD hS q0 q1 t0 t0 ha0 ha1 ht0 ht0 rfl a1 a2 a3 a4 a5 h2 hframes hlocals hdg kk
theorem x_copyL {own : String} {index : Nat} (hx : p.tables.exec = Jvm.exec) (hb : c.code = cc) (hml : c.maxLocals = ls.size) (hown : s.vm.findClass own = some m.cls) (hlink : (Cond.methodLink own index arraycopyName).before args s = true) (hnat : (Cond.native arraycopyName).before args s = true) (hstat : (Cond.static arraycopyName).before args s = true) (hini : (Cond.initialized "java/lang/System").before args s = true)
    (hK : KK D k s) (hP : va_P D vwCl ws H) (hD : va_D A ws) (hS : va_S A s.heap H locs) (q0 q1 t0 : Nat) {a0 : Nat} {c0 : ClassId} {n0 n1 : Nat} {f g h : Nat → Int64} {sp dp n : Int32} (hc : cpL n0 n1 f g sp dp n = some h) (ha0 : ws[q0]? = some (a0, .inl (c0, n0, .inr (.inl f)))) (ha1 : ws[q1]? = some (a, .inl (c0, n1, .inr (.inl g)))) (ht0 : (tysA k)[t0]? = some (c0, .long))
    (hframes : 1 ≤ R.frames) (hlocals : (rest.map fun v => v.category).sum + (nativeFrameWords "java/lang/System" "arraycopy" 5 + 11) ≤ R.locals) (ws1 : va_W) (hw : ws.set q1 (a, .inl (c0, n1, .inr (.inl h))) = ws1) (hdg : decode cc pc = .ok (.invokestatic index, 3))
    (kk : ∀ (H1 : Heap) (locs1 : List Loc), va_P D vwCl ws1 H1 → va_D A ws1 → va_S A s.heap H1 locs1 → W p l e R s m args below meth c H1 locs1 cells slots Q (F0 m (pc + 3) ls rest)) : W p l e R s m args below meth c H locs cells slots Q (F0 m pc ls (.int n :: .int dp :: .ref a :: .int sp :: .ref a0 :: rest)) := by
  obtain ⟨⟨a1, a2, a3, a4, a5⟩, rfl⟩ := cpL_s hc
  subst hw
  exact va_copyl hx hb hml hown hlink hnat hstat hini hK.1 hP hD hS q0 q1 t0 t0 ha0 ha1 ht0 ht0 rfl a1 a2 a3 a4 a5 (fun _ _ => fitsL _) hframes hlocals hdg kk
-- ----- a place of an array of references
theorem x_aald {i : Int32} {j n : Nat} {f : Nat → Option Nat} {cA : ClassId} {a' : Nat} {C : String} (hx : p.tables.exec = Jvm.exec) (hb : c.code = cc) (hK : KK D k s) (hP : va_P D vwCl ws H) (q0 t0 : Nat) (hi : i = Int32.ofNat j) (hj : j < n) (hn : n < 2 ^ 31) (ha : ws[q0]? = some (a, .inl (cA, n, .inr (.inr (.inr (.inr f)))))) (ht : (tysA k)[t0]? = some (cA, .object C)) (hf : f j = some a') (d : decode cc pc = .ok (.aaload, 1))
    (kk : W p l e R s m args below meth c H locs cells slots Q (F0 m (pc + 1) ls (.ref a' :: rest))) : W p l e R s m args below meth c H locs cells slots Q (F0 m pc ls (.int i :: .ref a :: rest)) := by
  subst hi
  refine va_aldq hx hb hK.1 hP q0 t0 ha ht (vp_in_nI hj hn) d ?_
  have e : (Int32.ofNat j).toNatClampNeg = j := nI_clamp (Nat.lt_trans hj hn)
  rw [e, hf]
  exact kk
end CP
theorem at_heap {D : va_G} {wo : va_W} {t : State} {H : Heap} (ht : t.heap = H) (h : va_P D vwCl wo H) : va_P D vwCl wo t.heap := by rw [ht]; exact h
section WR
variable {p : Program} {l : Launch} {e : Env} {R : Room} {s : State} {m : MethodId} {args : Array Value} {below : List Frame} {meth : Method} {c : Code} {H : Heap} {locs : List Loc} {cells slots : Nat} {Q : State → Prop}
variable {cc : ByteArray} {pc : Nat} {ls : Array Slot} {rest st0 : List Value} {D : va_G} {k : Nat → ClassId} {a : Nat} {ws wc wc' : va_W} {A : Nat → Prop}
theorem wr_iret {v r : Int32} {wo : va_W} (hx : p.tables.exec = Jvm.exec) (hb : c.code = cc) (hr : meth.sig.returnType = some .int) (hlk : meth.locks = false) (he : v = r) (hP : va_P D vwCl wo H) (hS : va_S A s.heap H locs) (d : decode cc pc = .ok (.ireturn, 1)) : W p l e R s m args below meth c H locs cells slots (MQ below (va_Qi (fun x (_ : Unit) => x = r) (fun _ t => va_P D vwCl wo t.heap) A) args s cells slots A) (F0 m pc ls [.int v]) :=
  W.iret hx hb hr (fun _ ht _ => ⟨⟨v, (), rfl, he, at_heap ht hP⟩, hS.F ht⟩) hS.2.2 d hlk
theorem wr_zret {v r : Int32} {wo : va_W} (hx : p.tables.exec = Jvm.exec) (hb : c.code = cc) (hr : meth.sig.returnType = some .boolean) (hlk : meth.locks = false) (hz : zb v) (he : v = r) (hP : va_P D vwCl wo H) (hS : va_S A s.heap H locs) (d : decode cc pc = .ok (.ireturn, 1)) : W p l e R s m args below meth c H locs cells slots (MQ below (va_Qi (fun x (_ : Unit) => x = r ∧ zb x) (fun _ t => va_P D vwCl wo t.heap) A) args s cells slots A) (F0 m pc ls [.int v]) :=
  W.zret hx hb hr (zb_n hz) (fun _ ht _ => ⟨⟨v, (), rfl, ⟨he, hz⟩, at_heap ht hP⟩, hS.F ht⟩) hS.2.2 d hlk
theorem wr_lret {v r : Int64} {wo : va_W} (hx : p.tables.exec = Jvm.exec) (hb : c.code = cc) (hr : meth.sig.returnType = some .long) (hlk : meth.locks = false) (he : v = r) (hP : va_P D vwCl wo H) (hS : va_S A s.heap H locs) (d : decode cc pc = .ok (.lreturn, 1)) : W p l e R s m args below meth c H locs cells slots (MQ below (va_Ql (fun x (_ : Unit) => x = r) (fun _ t => va_P D vwCl wo t.heap) A) args s cells slots A) (F0 m pc ls [.long v]) :=
  W.lret hx hb hr (fun _ ht _ => ⟨⟨v, (), rfl, he, at_heap ht hP⟩, hS.F ht⟩) hS.2.2 d hlk
theorem wr_vret {wo : va_W} (hx : p.tables.exec = Jvm.exec) (hb : c.code = cc) (hr : meth.sig.returnType = none) (hlk : meth.locks = false) (hP : va_P D vwCl wo H) (hS : va_S A s.heap H locs) (d : decode cc pc = .ok (.return_, 1)) : W p l e R s m args below meth c H locs cells slots (MQ below (va_Qv (fun (_ : Unit) => True) (fun _ t => va_P D vwCl wo t.heap) A) args s cells slots A) (F0 m pc ls []) :=
  W.vret hx hb hr (fun _ ht _ => ⟨⟨(), rfl, trivial, at_heap ht hP⟩, hS.F ht⟩) hS.2.2 d hlk
theorem x_iast (hx : p.tables.exec = Jvm.exec) (hb : c.code = cc) (hK : KK D k s) (hP : va_P D vwCl ws H) (hD : va_D A ws) (hS : va_S A s.heap H locs) (q0 t0 : Nat) {cA : ClassId} {n : Nat} {f g : Nat → Int32} {i x : Int32} (h : wrI n f i x = some g) (ha : ws[q0]? = some (a, .inl (cA, n, .inl f))) (ht : (tysA k)[t0]? = some (cA, .int)) (ws1 : va_W) (hw : ws.set q0 (a, .inl (cA, n, .inl g)) = ws1) (d : decode cc pc = .ok (.iastore, 1))
    (kk : ∀ (H1 : Heap) (locs1 : List Loc), va_P D vwCl ws1 H1 → va_D A ws1 → va_S A s.heap H1 locs1 → W p l e R s m args below meth c H1 locs1 cells slots Q (F0 m (pc + 1) ls rest)) : W p l e R s m args below meth c H locs cells slots Q (F0 m pc ls (.int x :: .int i :: .ref a :: rest)) := by
  obtain ⟨h1, rfl⟩ := wrI_s h
  subst hw
  exact va_iast hx hb hK.1 hP hD hS q0 t0 ha ht h1 d kk
theorem x_bast (hx : p.tables.exec = Jvm.exec) (hb : c.code = cc) (hK : KK D k s) (hP : va_P D vwCl ws H) (hD : va_D A ws) (hS : va_S A s.heap H locs) (q0 t0 : Nat) {cA : ClassId} {n : Nat} {f g : Nat → Int32} {i x : Int32} (h : wrI n f i (vp_nar .byte x) = some g) (ha : ws[q0]? = some (a, .inl (cA, n, .inl f))) (ht : (tysA k)[t0]? = some (cA, .byte)) (ws1 : va_W) (hw : ws.set q0 (a, .inl (cA, n, .inl g)) = ws1) (d : decode cc pc = .ok (.bastore, 1))
    (kk : ∀ (H1 : Heap) (locs1 : List Loc), va_P D vwCl ws1 H1 → va_D A ws1 → va_S A s.heap H1 locs1 → W p l e R s m args below meth c H1 locs1 cells slots Q (F0 m (pc + 1) ls rest)) : W p l e R s m args below meth c H locs cells slots Q (F0 m pc ls (.int x :: .int i :: .ref a :: rest)) := by
  obtain ⟨h1, rfl⟩ := wrI_s h
  subst hw
  exact va_bast hx hb hK.1 hP hD hS q0 t0 ha ht h1 d kk
theorem x_zast (hx : p.tables.exec = Jvm.exec) (hb : c.code = cc) (hK : KK D k s) (hP : va_P D vwCl ws H) (hD : va_D A ws) (hS : va_S A s.heap H locs) (q0 t0 : Nat) {cA : ClassId} {n : Nat} {f g : Nat → Int32} {i x : Int32} (h : wrI n f i (vp_nar .boolean x) = some g) (ha : ws[q0]? = some (a, .inl (cA, n, .inl f))) (ht : (tysA k)[t0]? = some (cA, .boolean)) (ws1 : va_W) (hw : ws.set q0 (a, .inl (cA, n, .inl g)) = ws1) (d : decode cc pc = .ok (.bastore, 1))
    (kk : ∀ (H1 : Heap) (locs1 : List Loc), va_P D vwCl ws1 H1 → va_D A ws1 → va_S A s.heap H1 locs1 → W p l e R s m args below meth c H1 locs1 cells slots Q (F0 m (pc + 1) ls rest)) : W p l e R s m args below meth c H locs cells slots Q (F0 m pc ls (.int x :: .int i :: .ref a :: rest)) := by
  obtain ⟨h1, rfl⟩ := wrI_s h
  subst hw
  exact va_zast hx hb hK.1 hP hD hS q0 t0 ha ht h1 d kk
theorem x_sast (hx : p.tables.exec = Jvm.exec) (hb : c.code = cc) (hK : KK D k s) (hP : va_P D vwCl ws H) (hD : va_D A ws) (hS : va_S A s.heap H locs) (q0 t0 : Nat) {cA : ClassId} {n : Nat} {f g : Nat → Int32} {i x : Int32} (h : wrI n f i (vp_nar .short x) = some g) (ha : ws[q0]? = some (a, .inl (cA, n, .inl f))) (ht : (tysA k)[t0]? = some (cA, .short)) (ws1 : va_W) (hw : ws.set q0 (a, .inl (cA, n, .inl g)) = ws1) (d : decode cc pc = .ok (.sastore, 1))
    (kk : ∀ (H1 : Heap) (locs1 : List Loc), va_P D vwCl ws1 H1 → va_D A ws1 → va_S A s.heap H1 locs1 → W p l e R s m args below meth c H1 locs1 cells slots Q (F0 m (pc + 1) ls rest)) : W p l e R s m args below meth c H locs cells slots Q (F0 m pc ls (.int x :: .int i :: .ref a :: rest)) := by
  obtain ⟨h1, rfl⟩ := wrI_s h
  subst hw
  exact va_sast hx hb hK.1 hP hD hS q0 t0 ha ht h1 d kk
theorem x_last (hx : p.tables.exec = Jvm.exec) (hb : c.code = cc) (hK : KK D k s) (hP : va_P D vwCl ws H) (hD : va_D A ws) (hS : va_S A s.heap H locs) (q0 t0 : Nat) {cA : ClassId} {n : Nat} {f g : Nat → Int64} {i : Int32} {x : Int64} (h : wrL n f i x = some g) (ha : ws[q0]? = some (a, .inl (cA, n, .inr (.inl f)))) (ht : (tysA k)[t0]? = some (cA, .long)) (ws1 : va_W) (hw : ws.set q0 (a, .inl (cA, n, .inr (.inl g))) = ws1) (d : decode cc pc = .ok (.lastore, 1))
    (kk : ∀ (H1 : Heap) (locs1 : List Loc), va_P D vwCl ws1 H1 → va_D A ws1 → va_S A s.heap H1 locs1 → W p l e R s m args below meth c H1 locs1 cells slots Q (F0 m (pc + 1) ls rest)) : W p l e R s m args below meth c H locs cells slots Q (F0 m pc ls (.long x :: .int i :: .ref a :: rest)) := by
  obtain ⟨h1, rfl⟩ := wrL_s h
  subst hw
  exact va_last hx hb hK.1 hP hD hS q0 t0 ha ht h1 d kk
-- ----- calls of writers (no new cells)
variable {own C : String} {index maxL nL n : Nat} {y : MethodName} {bytes : ByteArray} {rm : Room} {As : List Value} {b : Nat} {T : u_T} {N : Nat}
theorem wr_pre (hK : KK D k s) (hP : va_P D vwCl ws H) (hD : va_D A ws) (is : List Nat) (hC : is.map (fun i => ws[i]?) = wc.map some) (hn : va_nd is = true) (q0 ci : Nat) {fs : List Value} (he : ws[q0]? = some (b, .inr (ci, fs))) (hc : vwCl[ci]? = some (C, T, N)) : PreV s H C b (wrP D k wc H.size (.ref b :: As)) As := by
  refine ⟨wrP_bl, va_recv hK.1 hP (ci := ci) (q0 := q0) hc he, fun U hU hW => ⟨rfl, by rw [hU], ?_, hK.warm hW, (hD.sub is hn hC).weaken (fun _ _ _ _ => trivial)⟩⟩
  rw [hU]
  intro i q hq
  have h1 : (is.map (fun i => ws[i]?))[i]? = some (some q) := by rw [hC, List.getElem?_map, hq]; rfl
  rw [List.getElem?_map] at h1
  cases h2 : is[i]? with
  | none => rw [h2] at h1; cases h1
  | some j => rw [h2] at h1; exact hP j q (Option.some.inj h1)
theorem wr_callV {r : Int32} (S : CallFix p m c cc nL s args lw_all own) (hM : Met l y (ws_ y bytes maxL (some .int)) rm (wrP D k wc H.size (.ref b :: As)) (va_Qi (fun x (_ : Unit) => x = r) (fun _ t => va_P D vwCl wc' t.heap) (va_A wc H.size)) 0 0 (va_A wc H.size)) (cw : CallW R s args own C index y bytes maxL (some .int) (ws_ y bytes maxL (some .int)) rm 0 0 n) (hK : KK D k s) (hP : va_P D vwCl ws H) (hD : va_D A ws) (hS : va_S A s.heap H locs) (hA : ∀ q : Nat, s.heap.size ≤ q → A q) (is isR : List Nat) (ws1 : va_W) (hC : is.map (fun i => ws[i]?) = wc.map some) (hC1 : is.map (fun i => ws1[i]?) = wc'.map some) (hR : ∀ i ∈ isR, ws1[i]? = ws[i]?) (nw : Nat) (hlen : ws1.length = nw) (hall : ∀ i, i < nw → i ∈ is ∨ i ∈ isR) (hdis : va_nd is = true ∧ ∀ i ∈ isR, i ∉ is) (adl : List Nat) (hadr1 : ws1.map (fun q => q.1) = adl) (hadr0 : ws.map (fun q => q.1) = adl) (q0 ci : Nat) {fs : List Value} (he : ws[q0]? = some (b, .inr (ci, fs))) (hc : vwCl[ci]? = some (C, T, N))
    (hn : As.length = n) (hsize : ls.size = nL) (hst : st0 = As.reverse ++ .ref b :: rest) (hW : (rest.map fun v => v.category).sum ≤ 8) (d : decode cc pc = .ok (.invokevirtual index, 3)) (hf : cells ≤ R.cells ∧ slots ≤ R.slots)
    (kk : ∀ (H1 : Heap) (locs1 : List Loc), va_P D vwCl ws1 H1 → va_D A ws1 → va_S A s.heap H1 locs1 → W p l e R s m args below meth c H1 locs1 cells slots Q (F0 m (pc + 3) ls (.int r :: rest))) : W p l e R s m args below meth c H locs cells slots Q (F0 m pc ls st0) := by
  have hF := va_free (wc := wc) hD hS hA is hC
  refine va_calli (va_runV (As := As) (rest := rest) S hM cw (wr_pre hK hP hD is hC hdis.1 q0 ci he hc) rfl hn hsize hst (lv_room hW) d hf) hS (fun q _ h => hF q h) hF (fun x u t H1 locs1 ht hvm hw hB hz hk hS1 => ?_)
  rw [ht] at hB
  obtain ⟨h1, h2⟩ := wr_join hP hD is isR hC hC1 hR nw hlen hall hdis.2 adl hadr1 hadr0 hk hB
  cases hw
  exact kk H1 locs1 h1 h2 hS1
theorem wr_callVv (S : CallFix p m c cc nL s args lw_all own) (hM : Met l y (ws_ y bytes maxL none) rm (wrP D k wc H.size (.ref b :: As)) (va_Qv (fun (_ : Unit) => True) (fun _ t => va_P D vwCl wc' t.heap) (va_A wc H.size)) 0 0 (va_A wc H.size)) (cw : CallW R s args own C index y bytes maxL none (ws_ y bytes maxL none) rm 0 0 n) (hK : KK D k s) (hP : va_P D vwCl ws H) (hD : va_D A ws) (hS : va_S A s.heap H locs) (hA : ∀ q : Nat, s.heap.size ≤ q → A q) (is isR : List Nat) (ws1 : va_W) (hC : is.map (fun i => ws[i]?) = wc.map some) (hC1 : is.map (fun i => ws1[i]?) = wc'.map some) (hR : ∀ i ∈ isR, ws1[i]? = ws[i]?) (nw : Nat) (hlen : ws1.length = nw) (hall : ∀ i, i < nw → i ∈ is ∨ i ∈ isR) (hdis : va_nd is = true ∧ ∀ i ∈ isR, i ∉ is) (adl : List Nat) (hadr1 : ws1.map (fun q => q.1) = adl) (hadr0 : ws.map (fun q => q.1) = adl) (q0 ci : Nat) {fs : List Value} (he : ws[q0]? = some (b, .inr (ci, fs))) (hc : vwCl[ci]? = some (C, T, N))
    (hn : As.length = n) (hsize : ls.size = nL) (hst : st0 = As.reverse ++ .ref b :: rest) (hW : (rest.map fun v => v.category).sum ≤ 8) (d : decode cc pc = .ok (.invokevirtual index, 3)) (hf : cells ≤ R.cells ∧ slots ≤ R.slots)
    (kk : ∀ (H1 : Heap) (locs1 : List Loc), va_P D vwCl ws1 H1 → va_D A ws1 → va_S A s.heap H1 locs1 → W p l e R s m args below meth c H1 locs1 cells slots Q (F0 m (pc + 3) ls rest)) : W p l e R s m args below meth c H locs cells slots Q (F0 m pc ls st0) := by
  have hF := va_free (wc := wc) hD hS hA is hC
  refine va_callv (va_runV (As := As) (rest := rest) S hM cw (wr_pre hK hP hD is hC hdis.1 q0 ci he hc) rfl hn hsize hst (lv_room hW) d hf) hS (fun q _ h => hF q h) hF (fun u t H1 locs1 ht hvm hw hB hz hk hS1 => ?_)
  rw [ht] at hB
  obtain ⟨h1, h2⟩ := wr_join hP hD is isR hC hC1 hR nw hlen hall hdis.2 adl hadr1 hadr0 hk hB
  exact kk H1 locs1 h1 h2 hS1
theorem wr_callSv (S : CallFix p m c cc nL s args lw_all own) (hM : Met l y (ws_ y bytes maxL none) rm (wrP D k wc H.size As) (va_Qv (fun (_ : Unit) => True) (fun _ t => va_P D vwCl wc' t.heap) (va_A wc H.size)) 0 0 (va_A wc H.size)) (cw : CallB R s args own index y bytes maxL none (ws_ y bytes maxL none) rm 0 0 n ∧ (Cond.static y).before args s = true) (hK : KK D k s) (hP : va_P D vwCl ws H) (hD : va_D A ws) (hS : va_S A s.heap H locs) (hA : ∀ q : Nat, s.heap.size ≤ q → A q) (is isR : List Nat) (ws1 : va_W) (hC : is.map (fun i => ws[i]?) = wc.map some) (hC1 : is.map (fun i => ws1[i]?) = wc'.map some) (hR : ∀ i ∈ isR, ws1[i]? = ws[i]?) (nw : Nat) (hlen : ws1.length = nw) (hall : ∀ i, i < nw → i ∈ is ∨ i ∈ isR) (hdis : va_nd is = true ∧ ∀ i ∈ isR, i ∉ is) (adl : List Nat) (hadr1 : ws1.map (fun q => q.1) = adl) (hadr0 : ws.map (fun q => q.1) = adl)
    (hn : As.length = n) (hsize : ls.size = nL) (hst : st0 = As.reverse ++ rest) (hW : (rest.map fun v => v.category).sum ≤ 8) (d : decode cc pc = .ok (.invokestatic index, 3)) (hf : cells ≤ R.cells ∧ slots ≤ R.slots)
    (kk : ∀ (H1 : Heap) (locs1 : List Loc), va_P D vwCl ws1 H1 → va_D A ws1 → va_S A s.heap H1 locs1 → W p l e R s m args below meth c H1 locs1 cells slots Q (F0 m (pc + 3) ls rest)) : W p l e R s m args below meth c H locs cells slots Q (F0 m pc ls st0) := by
  have hF := va_free (wc := wc) hD hS hA is hC
  have hp : PreS s H (wrP D k wc H.size As) As := by
    refine ⟨wrP_bl, fun U hU hW => ⟨rfl, by rw [hU], ?_, hK.warm hW, (hD.sub is hdis.1 hC).weaken (fun _ _ _ _ => trivial)⟩⟩
    rw [hU]
    intro i q hq
    have h1 : (is.map (fun i => ws[i]?))[i]? = some (some q) := by rw [hC, List.getElem?_map, hq]; rfl
    rw [List.getElem?_map] at h1
    cases h2 : is[i]? with
    | none => rw [h2] at h1; cases h1
    | some j => rw [h2] at h1; exact hP j q (Option.some.inj h1)
  refine va_callv (va_runS (As := As) (rest := rest) S hM cw hp rfl hn hsize hst (lv_room hW) d hf) hS (fun q _ h => hF q h) hF (fun u t H1 locs1 ht hvm hw hB hz hk hS1 => ?_)
  rw [ht] at hB
  obtain ⟨h1, h2⟩ := wr_join hP hD is isR hC hC1 hR nw hlen hall hdis.2 adl hadr1 hadr0 hk hB
  exact kk H1 locs1 h1 h2 hS1
end WR
/-! CONSTRUCTORS and what makes cells -/
theorem wr_startC {l : Launch} {y : MethodName} {cc : ByteArray} {n : Nat} {ret : Option FieldType} {rm : Room} {D : va_G} {k : Nat → ClassId} {ws : va_W} {sz : Nat} {av : List Value} {mc ms : Nat} {Qc : (Nat → Prop) → Array Value → State → Outcome → State → Prop} (hy : plainName y.cls = true) (hn : (lg_sl av).length ≤ n)
    (body : ∀ (p : Program) (e : Env) (s : State) (m : MethodId) (below : List Frame) (meth : Method) (c : Code) (ls : Array Slot) (A : Nat → Prop), s.heap.size = sz → va_A ws s.heap.size = A → (∀ q : Nat, s.heap.size ≤ q → A q) → p.tables.exec = Jvm.exec → c.code = cc → meth.sig.returnType = ret → meth.locks = false → c.maxLocals = n → s.vm.findClass y.cls = some m.cls → meth.name = y.name → (∀ w ∈ lw_all, w.before av.toArray s = true) → va_P D vwCl ws s.heap → KK D k s → va_D A ws → lv_has ls n (lv_args 0 av) → gW p l e rm s m av below meth c (Qc A) A mc ms s.heap [] 0 ls []) :
    Met l y (ws_ y cc n ret) rm (wrP D k ws sz av) (Qc (va_A ws sz)) mc ms (va_A ws sz) := by
  refine Met.ofW (cc := cc) (maxL := n) (ret := ret) hy rfl ?_
  intro p e s m args below meth c s₁ B hml hv
  obtain ⟨rfl, hsz, hP, hK, hD0⟩ := hv
  subst hsz
  have hts := atoms_spec (ws := ws_ y cc n ret) B.pre
  have hD := hD0.self (sz := s.heap.size)
  have hl := lv_entry av (n := n) hn
  rw [lg_entry_eq]
  generalize (lg_sl av ++ List.replicate (n - (lg_sl av).length) Slot.unset).toArray = ls at hl ⊢
  exact body p e s m below meth c ls (va_A ws s.heap.size) rfl rfl (fun q h => Or.inr h) B.exec B.bytes B.returns B.notSynchronized hml (findClass_of_methodNamed B.named) (name_of_methodNamed B.named B.method).1 (fun w h => hts w (List.mem_cons_of_mem _ h)) hP hK hD hl
theorem va_RA.nm {U : State} {c : ClassId} {ty : FieldType} (h : va_RA U c ty) : U.vm.findClass ("[" ++ ty.toString) = some c := by
  cases ty with
  | object C => obtain ⟨_, _, _, _, _, h4⟩ := h; exact h4
  | _ => exact h
section MK
variable {p : Program} {l : Launch} {e : Env} {R : Room} {s : State} {m : MethodId} {args : Array Value} {below : List Frame} {meth : Method} {c : Code} {H : Heap} {locs : List Loc} {cells slots : Nat} {Q : State → Prop}
variable {cc : ByteArray} {pc : Nat} {ls : Array Slot} {rest st0 : List Value} {D : va_G} {k : Nat → ClassId} {a : Nat} {ws : va_W} {A : Nat → Prop}
theorem x_newa (hx : p.tables.exec = Jvm.exec) (hb : c.code = cc) {atype : ArrayType} (harr : (Cond.arrayClass (newarray.typeOf atype)).before args s = true) {ty : FieldType} (hty : newarray.typeOf atype = ty) (hK : KK D k s) (hP : va_P D vwCl ws H) (hD : va_D A ws) (hS : va_S A s.heap H locs) (hA : ∀ q : Nat, s.heap.size ≤ q → A q) (t0 : Nat) {cA0 : ClassId} (ht : (tysA k)[t0]? = some (cA0, ty))
    {n : Int32} {N' : Nat} {a0 : vp_A} (ha : ∀ cA : ClassId, vp_cell cA a0 = arrV cA N' (fun _ => defaultValue ty)) (hn : ¬ n < 0) (hN : n.toNatClampNeg = N') (hbytes : N' * componentBytes ty ≤ 536870912) (hcells : cells + 1 ≤ R.cells) (hslots : slots + N' ≤ R.slots) (d : decode cc pc = .ok (.newarray atype, 2))
    (kk : ∀ (q : Nat) (H1 : Heap), va_P D vwCl (ws ++ [(q, .inl (cA0, a0))]) H1 → va_D A (ws ++ [(q, .inl (cA0, a0))]) → va_S A s.heap H1 locs →
      W p l e R s m args below meth c H1 locs (cells + 1) (slots + N') Q (F0 m (pc + 2) ls (.ref q :: rest))) : W p l e R s m args below meth c H locs cells slots Q (F0 m pc ls (.int n :: rest)) := by
  refine va_newa hx hb harr hty hK.1 hP hD hS hA ha hn hN hbytes hcells hslots d (fun q cA H1 hK1 h1 h2 h3 => ?_)
  have e1 := (hK1.2 7 (cA, ty) rfl).2.nm
  have e2 := (hK.1.2 t0 _ ht).2.nm
  have e3 : cA = cA0 := Option.some.inj (e1.symm.trans e2)
  subst e3
  exact kk q H1 h1 h2 h3
theorem x_newq {own C : String} {index : Nat} (hx : p.tables.exec = Jvm.exec) (hb : c.code = cc) (hown : s.vm.findClass own = some m.cls) (hclink : (Cond.classLink own index C).before args s = true) (hover : va_AO C s) (hK : KK D k s) (hP : va_P D vwCl ws H) (hD : va_D A ws) (hS : va_S A s.heap H locs) (hA : ∀ q : Nat, s.heap.size ≤ q → A q) (t0 : Nat) {cA0 : ClassId} (ht : (tysA k)[t0]? = some (cA0, .object C))
    {n : Int32} {N' : Nat} (hn : ¬ n < 0) (hN : n.toNatClampNeg = N') (hbytes : N' * 4 ≤ 536870912) (hcells : cells + 1 ≤ R.cells) (hslots : slots + N' ≤ R.slots) (d : decode cc pc = .ok (.anewarray index, 3))
    (kk : ∀ (q : Nat) (H1 : Heap), va_P D vwCl (ws ++ [(q, .inl (cA0, N', .inr (.inr (.inr (.inr (fun _ => none))))))]) H1 → va_D A (ws ++ [(q, .inl (cA0, N', .inr (.inr (.inr (.inr (fun _ => none))))))]) → va_S A s.heap H1 locs →
      W p l e R s m args below meth c H1 locs (cells + 1) (slots + N') Q (F0 m (pc + 3) ls (.ref q :: rest))) : W p l e R s m args below meth c H locs cells slots Q (F0 m pc ls (.int n :: rest)) := by
  refine va_newq hx hb hown hclink hover hK.1 hP hD hS hA hn hN hbytes hcells hslots d (fun q cA H1 hK1 h1 h2 h3 => ?_)
  have e1 := (hK1.2 7 (cA, .object C) rfl).2.nm
  have e2 := (hK.1.2 t0 _ ht).2.nm
  have e3 : cA = cA0 := Option.some.inj (e1.symm.trans e2)
  subst e3
  exact kk q H1 h1 h2 h3
theorem wr_preS {wc : va_W} {av : List Value} (hK : KK D k s) (hP : va_P D vwCl ws H) (hD : va_D A ws) (is : List Nat) (hC : is.map (fun i => ws[i]?) = wc.map some) (hn : va_nd is = true) : PreS s H (wrP D k wc H.size av) av := by
  refine ⟨wrP_bl, fun U hU hW => ⟨rfl, by rw [hU], ?_, hK.warm hW, (hD.sub is hn hC).weaken (fun _ _ _ _ => trivial)⟩⟩
  rw [hU]
  intro i q hq
  have h1 : (is.map (fun i => ws[i]?))[i]? = some (some q) := by rw [hC, List.getElem?_map, hq]; rfl
  rw [List.getElem?_map] at h1
  cases h2 : is[i]? with
  | none => rw [h2] at h1; cases h1
  | some j => rw [h2] at h1; exact hP j q (Option.some.inj h1)
/-- a call that hands back a grown world u: the rest of the caller's world, and w1 u behind it -/
theorem wr_grow {S : Type} {post : S → Prop} {w1 : S → va_W} {wc wr : va_W} {mc ms : Nat} {aa : Array Value} (hr : va_Run p l e R s m args below meth c H locs cells slots mc ms (F0 m pc ls st0) rest (va_Qv post (fun u t => va_P D vwCl (w1 u) t.heap ∧ va_D (va_A wc H.size) (w1 u)) (va_A wc H.size) aa) (va_A wc H.size)) (hP : va_P D vwCl ws H) (hD : va_D A ws) (hS : va_S A s.heap H locs) (hA : ∀ q : Nat, s.heap.size ≤ q → A q) (isC isR : List Nat) (hC : isC.map (fun i => ws[i]?) = wc.map some) (hR : isR.map (fun i => ws[i]?) = wr.map some) (hn : va_nd isR = true) (hdis : ∀ i ∈ isR, i ∉ isC)
    (kk : ∀ (u : S) (H1 : Heap) (locs1 : List Loc), post u → va_P D vwCl (wr ++ w1 u) H1 → va_D A (wr ++ w1 u) → va_S A s.heap H1 locs1 → W p l e R s m args below meth c H1 locs1 (cells + mc) (slots + ms) Q (F0 m (pc + 3) ls rest)) : W p l e R s m args below meth c H locs cells slots Q (F0 m pc ls st0) := by
  have hF := va_free (wc := wc) hD hS hA isC hC
  refine va_callv hr hS (fun q _ h => hF q h) hF (fun u t H1 locs1 ht hvm hw hB hz hk hS1 => ?_)
  obtain ⟨hB1, hB2⟩ := hB
  rw [ht] at hB1
  obtain ⟨h1, h2⟩ := va_join hP hD isC isR hC hR hn hdis hk hF hB1 hB2
  exact kk u H1 locs1 hw h1 h2 hS1
end MK
def rs0 : RS := (fun _ => 0, 0, fun _ => 0, fun _ => 0, fun _ => 0, fun _ => 0)
