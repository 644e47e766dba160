/-! THE FAULT'S CONSTRUCTORS, need -/
set_option maxRecDepth 100000
section XI
variable {p : Program} {l : Launch} {e : Env} {R : Room} {s : State} {m : MethodId} {args : Array Value} {below : List Frame} {meth : Method} {c : Code} {H : Heap} {locs : List Loc} {cells slots : Nat} {Q : State → Prop}
variable {cc : ByteArray} {pc : Nat} {ls : Array Slot} {rest st0 : List Value} {D : va_G} {k : Nat → ClassId} {a : Nat} {ws wc wc' : va_W} {A : Nat → Prop}
variable {own : String} {index maxL nL n : Nat} {y : MethodName} {bytes : ByteArray} {rm : Room} {As : List Value} {b : Nat} {mc ms : Nat}
theorem wx_callI (S : CallFix p m c cc nL s args lw_all own) (hM : Met l y (ws_ y bytes maxL none) rm (wxP D k wc H.size (.ref b :: As)) (va_Qv (fun (_ : Unit) => True) (fun _ t => va_P D vwCl wc' t.heap) (va_A wc H.size)) 0 0 (va_A wc H.size)) (cw : CallB R s args own index y bytes maxL none (ws_ y bytes maxL none) rm 0 0 n ∧ y.name = "<init>" ∧ (Cond.instanceMethod y).before args s = true) (hK : KK D k s) (hZ : ZZ A s) (hP : va_P D vwCl ws H) (hD : va_D A ws) (hS : va_S A s.heap H locs) (hA : ∀ q : Nat, s.heap.size ≤ q → A q) (is isR : List Nat) (ws1 : va_W) (hC : is.map (fun i => ws[i]?) = wc.map some) (hC1 : is.map (fun i => ws1[i]?) = wc'.map some) (hR : ∀ i ∈ isR, ws1[i]? = ws[i]?) (nw : Nat) (hlen : ws1.length = nw) (hall : ∀ i, i < nw → i ∈ is ∨ i ∈ isR) (hdis : va_nd is = true ∧ ∀ i ∈ isR, i ∉ is) (adl : List Nat) (hadr1 : ws1.map (fun q => q.1) = adl) (hadr0 : ws.map (fun q => q.1) = adl)
    (hn : As.length = n) (hsize : ls.size = nL) (hst : st0 = As.reverse ++ .ref b :: rest) (hW : (rest.map fun v => v.category).sum ≤ 8) (d : decode cc pc = .ok (.invokespecial index, 3)) (hf : cells ≤ R.cells ∧ slots ≤ R.slots)
    (kk : ∀ (H1 : Heap) (locs1 : List Loc), va_P D vwCl ws1 H1 → va_D A ws1 → va_S A s.heap H1 locs1 → W p l e R s m args below meth c H1 locs1 cells slots Q (F0 m (pc + 3) ls rest)) : W p l e R s m args below meth c H locs cells slots Q (F0 m pc ls st0) := by
  have hF := va_free (wc := wc) hD hS hA is hC
  refine va_callv (va_runI (As := As) (rest := rest) S hM cw (wx_preS hK hZ hP hD hS hA is hC hdis.1) rfl hn hsize hst (lv_room hW) d hf) hS (fun q _ h => hF q h) hF (fun u t H1 locs1 ht hvm hw hB hz hk hS1 => ?_)
  rw [ht] at hB
  obtain ⟨h1, h2⟩ := wr_join hP hD is isR hC hC1 hR nw hlen hall hdis.2 adl hadr1 hadr0 hk hB
  exact kk H1 locs1 h1 h2 hS1
theorem va_cB {Ts ws ws' : List Cond} {ret : Option FieldType} (n : Nat) (ht : ∀ w ∈ Ts, w.before args s = true) (hG : GoodIn Ts ws) (hw : ws = Cond.code y bytes maxL ret :: ws') (hrc : rm.cells = mc) (hrs : rm.slots = ms) (hl : (Cond.methodLink own index y).before args s = true) (hini : (Cond.initialized y.cls).before args s = true)
    (hd : y.cls ≠ "java/lang/invoke/MethodHandle" ∧ y.cls ≠ "java/lang/invoke/VarHandle" ∧ (parseMethodDescriptor y.desc).map (fun d => d.parameters.length) = some n) (hR : rm.frames + 1 ≤ R.frames ∧ 8 + (maxL + 11) + rm.locals ≤ R.locals) : CallB R s args own index y bytes maxL ret ws rm mc ms n := by
  have hc : Cond.code y bytes maxL ret ∈ ws := by rw [hw]; exact List.mem_cons_self
  refine ⟨hrc, hrs, hR.1, hR.2, pay_in ht hG, hc, ht _ (hG _ hc).1, hini, ⟨hd.1, hd.2.1⟩, fun sig h => ?_, hl⟩
  have h2 := hd.2.2
  rw [h] at h2
  exact (Option.some.inj h2).symm
end XI

abbrev rmJ1_init_2 : Room := { frames := 1, cells := 0, slots := 0, locals := 12 }
theorem hdJ1_init_2 : yJ1_init_2.cls ≠ "java/lang/invoke/MethodHandle" ∧ yJ1_init_2.cls ≠ "java/lang/invoke/VarHandle" ∧ (parseMethodDescriptor yJ1_init_2.desc).map (fun d => d.parameters.length) = some 4 := by decide +kernel
set_option maxHeartbeats 4000000 in
theorem mJ1_init_2 (l : Launch) (D : va_G) (k : Nat → ClassId) (fa : Nat) (sz : Nat) : Met l yJ1_init_2 (ws_ yJ1_init_2 cJ1_init_2 5 none) rmJ1_init_2 (wxP D k [(fa, .inr (5, [.null, .null, .null, .null, .null, .int 0, .int 0, .int 0]))] sz [.ref fa, .null, .null, .int 0, .int 0]) (va_Qv (fun (_ : Unit) => True) (fun _ t => va_P D vwCl [(fa, .inr (5, [.null, .null, .null, .null, .null, .int 0, .int 0, .int 0]))] t.heap) (va_A [(fa, .inr (5, [.null, .null, .null, .null, .null, .int 0, .int 0, .int 0]))] sz)) 0 0 (va_A [(fa, .inr (5, [.null, .null, .null, .null, .null, .int 0, .int 0, .int 0]))] sz) := by
  refine wx_startC (Qc := (fun A => va_Qv (fun (_ : Unit) => True) (fun _ t => va_P D vwCl [(fa, .inr (5, [.null, .null, .null, .null, .null, .int 0, .int 0, .int 0]))] t.heap) A)) (by decide +kernel) (Nat.le_of_ble_eq_true rfl) ?_
  intro p e s m below meth c ls A hA hx hb hr hlk hml hown hin hts hP hK hD hZ hl
  have hl : lv_has ls 5 [(0, .ref fa), (1, .null), (2, .null), (3, .int 0), (4, .int 0)] := hl
  have hown : s.vm.findClass RJ1 = some m.cls := hown
  have hS : va_S A s.heap s.heap [] := va_S.rf
  suffices hw : ∀ (H : Heap) (locs : List Loc), va_P D vwCl [(fa, .inr (5, [.null, .null, .null, .null, .null, .int 0, .int 0, .int 0]))] H → va_S A s.heap H locs → gW p l e rmJ1_init_2 s m [.ref fa, .null, .null, .int 0, .int 0] below meth c ((fun A => va_Qv (fun (_ : Unit) => True) (fun _ t => va_P D vwCl [(fa, .inr (5, [.null, .null, .null, .null, .null, .int 0, .int 0, .int 0]))] t.heap) A) A) A 0 0 H locs 0 ls [] from hw s.heap [] hP hS
  clear hP hS
  intro H locs hP hS
  obtain ⟨v1, hv1, hn1, hf1⟩ := zz_st hZ
  obtain ⟨v2, hv2, hn2, hf2⟩ := zz_su hZ
  refine lv_aload_n hx hb dJ1_init_2_0 rfl (lv_at hl 0 rfl) ?_
  refine W.objInit hx hb hown (hts _ q297) (hts _ q117) (hts _ q118) rfl (by rw [hml]; exact hl.1) rfl dJ1_init_2_1 (Nat.le_of_ble_eq_true rfl) (Nat.le_of_ble_eq_true rfl) ?_
  refine W.eq (g2 := F0 m 4 ls []) rfl ?_
  refine lv_aload_n hx hb dJ1_init_2_4 rfl (lv_at hl 0 rfl) ?_
  refine lv_aload_n hx hb dJ1_init_2_5 rfl (lv_at hl 0 rfl) ?_
  refine va_put (D := D) (cl := vwCl) (ci := 5) (v := .ref fa) (ty := (.object "java/lang/Throwable")) (C := RX5) (T := TX5) (N := 8) hx hb hts in_X5 tyX5 tyX5_ok nmX5 hown hK.1 hP hD hS 0 rfl rfl 0 (by decide) (hts _ q344) (fun _ h9 => h9) rfl (by decide +kernel) rfl rfl (Nat.le_of_ble_eq_true rfl) dJ1_init_2_6 (fun H locs hP hD hS => ?_)
  have hP : va_P D vwCl [(fa, .inr (5, [.ref fa, .null, .null, .null, .null, .int 0, .int 0, .int 0]))] _ := hP
  have hD : va_D A [(fa, .inr (5, [.ref fa, .null, .null, .null, .null, .int 0, .int 0, .int 0]))] := hD
  refine lv_aload_n hx hb dJ1_init_2_9 rfl (lv_at hl 0 rfl) ?_
  refine va_gets hx hb hv1 hS hown (hts _ q298) (fun _ h9 => h9) dJ1_init_2_10 ?_
  refine va_put (D := D) (cl := vwCl) (ci := 5) (v := v1) (ty := (.array (.object "java/lang/StackTraceElement"))) (C := RX5) (T := TX5) (N := 8) hx hb hts in_X5 tyX5 tyX5_ok nmX5 hown hK.1 hP hD hS 0 rfl rfl 1 (by decide) (hts _ q345) (fun _ h9 => h9) rfl (by decide +kernel) (hn1 _) (hf1 _) (Nat.le_of_ble_eq_true rfl) dJ1_init_2_13 (fun H locs hP hD hS => ?_)
  have hP : va_P D vwCl [(fa, .inr (5, [.ref fa, v1, .null, .null, .null, .int 0, .int 0, .int 0]))] _ := hP
  have hD : va_D A [(fa, .inr (5, [.ref fa, v1, .null, .null, .null, .int 0, .int 0, .int 0]))] := hD
  refine lv_aload_n hx hb dJ1_init_2_16 rfl (lv_at hl 0 rfl) ?_
  refine va_gets hx hb hv2 hS hown (hts _ q300) (fun _ h9 => h9) dJ1_init_2_17 ?_
  refine va_put (D := D) (cl := vwCl) (ci := 5) (v := v2) (ty := (.object "java/util/List")) (C := RX5) (T := TX5) (N := 8) hx hb hts in_X5 tyX5 tyX5_ok nmX5 hown hK.1 hP hD hS 0 rfl rfl 2 (by decide) (hts _ q346) (fun _ h9 => h9) rfl (by decide +kernel) (hn2 _) (hf2 _) (Nat.le_of_ble_eq_true rfl) dJ1_init_2_20 (fun H locs hP hD hS => ?_)
  have hP : va_P D vwCl [(fa, .inr (5, [.ref fa, v1, v2, .null, .null, .int 0, .int 0, .int 0]))] _ := hP
  have hD : va_D A [(fa, .inr (5, [.ref fa, v1, v2, .null, .null, .int 0, .int 0, .int 0]))] := hD
  refine lv_iload hx hb dJ1_init_2_23 (lv_at hl 4 rfl) ?_
  refine lv_if_eq (tgt := 36) hx hb dJ1_init_2_25 (by decide) (fun _ => ?_) (fun c9 => absurd rfl c9)
  refine lv_aload_n hx hb dJ1_init_2_36 rfl (lv_at hl 0 rfl) ?_
  refine lv_null hx hb dJ1_init_2_37 ?_
  refine va_put (D := D) (cl := vwCl) (ci := 5) (v := .null) (ty := (.array (.object "java/lang/StackTraceElement"))) (C := RX5) (T := TX5) (N := 8) hx hb hts in_X5 tyX5 tyX5_ok nmX5 hown hK.1 hP hD hS 0 rfl rfl 1 (by decide) (hts _ q345) (fun _ h9 => h9) rfl (by decide +kernel) rfl rfl (Nat.le_of_ble_eq_true rfl) dJ1_init_2_38 (fun H locs hP hD hS => ?_)
  have hP : va_P D vwCl [(fa, .inr (5, [.ref fa, .null, v2, .null, .null, .int 0, .int 0, .int 0]))] _ := hP
  have hD : va_D A [(fa, .inr (5, [.ref fa, .null, v2, .null, .null, .int 0, .int 0, .int 0]))] := hD
  refine lv_aload_n hx hb dJ1_init_2_41 rfl (lv_at hl 0 rfl) ?_
  refine lv_aload_nN hx hb dJ1_init_2_42 rfl (lv_at hl 1 rfl) ?_
  refine va_put (D := D) (cl := vwCl) (ci := 5) (v := .null) (ty := (.object "java/lang/String")) (C := RX5) (T := TX5) (N := 8) hx hb hts in_X5 tyX5 tyX5_ok nmX5 hown hK.1 hP hD hS 0 rfl rfl 3 (by decide) (hts _ q343) (fun _ h9 => h9) rfl (by decide +kernel) rfl rfl (Nat.le_of_ble_eq_true rfl) dJ1_init_2_43 (fun H locs hP hD hS => ?_)
  have hP : va_P D vwCl [(fa, .inr (5, [.ref fa, .null, v2, .null, .null, .int 0, .int 0, .int 0]))] _ := hP
  have hD : va_D A [(fa, .inr (5, [.ref fa, .null, v2, .null, .null, .int 0, .int 0, .int 0]))] := hD
  refine lv_aload_n hx hb dJ1_init_2_46 rfl (lv_at hl 0 rfl) ?_
  refine lv_aload_nN hx hb dJ1_init_2_47 rfl (lv_at hl 2 rfl) ?_
  refine va_put (D := D) (cl := vwCl) (ci := 5) (v := .null) (ty := (.object "java/lang/Throwable")) (C := RX5) (T := TX5) (N := 8) hx hb hts in_X5 tyX5 tyX5_ok nmX5 hown hK.1 hP hD hS 0 rfl rfl 0 (by decide) (hts _ q344) (fun _ h9 => h9) rfl (by decide +kernel) rfl rfl (Nat.le_of_ble_eq_true rfl) dJ1_init_2_48 (fun H locs hP hD hS => ?_)
  have hP : va_P D vwCl [(fa, .inr (5, [.null, .null, v2, .null, .null, .int 0, .int 0, .int 0]))] _ := hP
  have hD : va_D A [(fa, .inr (5, [.null, .null, v2, .null, .null, .int 0, .int 0, .int 0]))] := hD
  refine lv_iload_n hx hb dJ1_init_2_51 rfl (lv_at hl 3 rfl) ?_
  refine lv_if_ne (tgt := 60) hx hb dJ1_init_2_52 (by decide) (fun c9 => absurd rfl c9) (fun _ => ?_)
  refine lv_aload_n hx hb dJ1_init_2_55 rfl (lv_at hl 0 rfl) ?_
  refine lv_null hx hb dJ1_init_2_56 ?_
  refine va_put (D := D) (cl := vwCl) (ci := 5) (v := .null) (ty := (.object "java/util/List")) (C := RX5) (T := TX5) (N := 8) hx hb hts in_X5 tyX5 tyX5_ok nmX5 hown hK.1 hP hD hS 0 rfl rfl 2 (by decide) (hts _ q346) (fun _ h9 => h9) rfl (by decide +kernel) rfl rfl (Nat.le_of_ble_eq_true rfl) dJ1_init_2_57 (fun H locs hP hD hS => ?_)
  have hP : va_P D vwCl [(fa, .inr (5, [.null, .null, .null, .null, .null, .int 0, .int 0, .int 0]))] _ := hP
  have hD : va_D A [(fa, .inr (5, [.null, .null, .null, .null, .null, .int 0, .int 0, .int 0]))] := hD
  exact wr_vret hx hb hr hlk hP hS dJ1_init_2_60
abbrev rmJ2_init : Room := { frames := 2, cells := 0, slots := 0, locals := 36 }
theorem hdJ2_init : yJ2_init.cls ≠ "java/lang/invoke/MethodHandle" ∧ yJ2_init.cls ≠ "java/lang/invoke/VarHandle" ∧ (parseMethodDescriptor yJ2_init.desc).map (fun d => d.parameters.length) = some 4 := by decide +kernel
set_option maxHeartbeats 4000000 in
theorem mJ2_init (l : Launch) (D : va_G) (k : Nat → ClassId) (fa : Nat) (sz : Nat) : Met l yJ2_init (ws_ yJ2_init cJ2_init 5 none) rmJ2_init (wxP D k [(fa, .inr (5, [.null, .null, .null, .null, .null, .int 0, .int 0, .int 0]))] sz [.ref fa, .null, .null, .int 0, .int 0]) (va_Qv (fun (_ : Unit) => True) (fun _ t => va_P D vwCl [(fa, .inr (5, [.null, .null, .null, .null, .null, .int 0, .int 0, .int 0]))] t.heap) (va_A [(fa, .inr (5, [.null, .null, .null, .null, .null, .int 0, .int 0, .int 0]))] sz)) 0 0 (va_A [(fa, .inr (5, [.null, .null, .null, .null, .null, .int 0, .int 0, .int 0]))] sz) := by
  refine wx_startC (Qc := (fun A => va_Qv (fun (_ : Unit) => True) (fun _ t => va_P D vwCl [(fa, .inr (5, [.null, .null, .null, .null, .null, .int 0, .int 0, .int 0]))] t.heap) A)) (by decide +kernel) (Nat.le_of_ble_eq_true rfl) ?_
  intro p e s m below meth c ls A hA hx hb hr hlk hml hown hin hts hP hK hD hZ hl
  have hl : lv_has ls 5 [(0, .ref fa), (1, .null), (2, .null), (3, .int 0), (4, .int 0)] := hl
  have hown : s.vm.findClass RJ2 = some m.cls := hown
  have hS : va_S A s.heap s.heap [] := va_S.rf
  suffices hw : ∀ (H : Heap) (locs : List Loc), va_P D vwCl [(fa, .inr (5, [.null, .null, .null, .null, .null, .int 0, .int 0, .int 0]))] H → va_S A s.heap H locs → gW p l e rmJ2_init s m [.ref fa, .null, .null, .int 0, .int 0] below meth c ((fun A => va_Qv (fun (_ : Unit) => True) (fun _ t => va_P D vwCl [(fa, .inr (5, [.null, .null, .null, .null, .null, .int 0, .int 0, .int 0]))] t.heap) A) A) A 0 0 H locs 0 ls [] from hw s.heap [] hP hS
  clear hP hS
  intro H locs hP hS
  refine lv_aload_n hx hb dJ2_init_0 rfl (lv_at hl 0 rfl) ?_
  refine lv_aload_nN hx hb dJ2_init_1 rfl (lv_at hl 1 rfl) ?_
  refine lv_aload_nN hx hb dJ2_init_2 rfl (lv_at hl 2 rfl) ?_
  refine lv_iload_n hx hb dJ2_init_3 rfl (lv_at hl 3 rfl) ?_
  refine lv_iload hx hb dJ2_init_4 (lv_at hl 4 rfl) ?_
  refine wx_callI (As := [.null, .null, .int 0, .int 0]) (rest := []) ⟨hx, hb, hml, hown, hts⟩ (mJ1_init_2 l D k fa _) ⟨va_cB 4 hts (lw_meth q337) rfl rfl rfl (hts _ q335) (hts _ q96) hdJ1_init_2 ⟨Nat.le_of_ble_eq_true rfl, Nat.le_of_ble_eq_true rfl⟩, rfl, hts _ q336⟩ hK hZ hP hD hS hA [0] [] [(fa, .inr (5, [.null, .null, .null, .null, .null, .int 0, .int 0, .int 0]))] rfl rfl fm_n 1 rfl (by decide) (by decide) [fa] rfl rfl rfl hl.1 rfl (Nat.le_of_ble_eq_true rfl) dJ2_init_6 ⟨Nat.le_of_ble_eq_true rfl, Nat.le_of_ble_eq_true rfl⟩ (fun H locs hP hD hS => ?_)
  exact wr_vret hx hb hr hlk hP hS dJ2_init_9
abbrev rmX5_init : Room := { frames := 3, cells := 0, slots := 0, locals := 60 }
theorem hdX5_init : yX5_init.cls ≠ "java/lang/invoke/MethodHandle" ∧ yX5_init.cls ≠ "java/lang/invoke/VarHandle" ∧ (parseMethodDescriptor yX5_init.desc).map (fun d => d.parameters.length) = some 2 := by decide +kernel
set_option maxHeartbeats 4000000 in
theorem mX5_init (l : Launch) (D : va_G) (k : Nat → ClassId) (fa : Nat) (p1 p2 : Int32) (sz : Nat) : Met l yX5_init (ws_ yX5_init cX5_init 3 none) rmX5_init (wxP D k [(fa, .inr (5, [.null, .null, .null, .null, .null, .int 0, .int 0, .int 0]))] sz [.ref fa, .int p1, .int p2]) (va_Qv (fun (_ : Unit) => True) (fun _ t => va_P D vwCl [(fa, .inr (5, [.null, .null, .null, .null, .null, .int 0, .int p1, .int p2]))] t.heap) (va_A [(fa, .inr (5, [.null, .null, .null, .null, .null, .int 0, .int 0, .int 0]))] sz)) 0 0 (va_A [(fa, .inr (5, [.null, .null, .null, .null, .null, .int 0, .int 0, .int 0]))] sz) := by
  refine wx_startC (Qc := (fun A => va_Qv (fun (_ : Unit) => True) (fun _ t => va_P D vwCl [(fa, .inr (5, [.null, .null, .null, .null, .null, .int 0, .int p1, .int p2]))] t.heap) A)) (by decide +kernel) (Nat.le_of_ble_eq_true rfl) ?_
  intro p e s m below meth c ls A hA hx hb hr hlk hml hown hin hts hP hK hD hZ hl
  have hl : lv_has ls 3 [(0, .ref fa), (1, .int p1), (2, .int p2)] := hl
  have hown : s.vm.findClass RX5 = some m.cls := hown
  have hS : va_S A s.heap s.heap [] := va_S.rf
  suffices hw : ∀ (H : Heap) (locs : List Loc), va_P D vwCl [(fa, .inr (5, [.null, .null, .null, .null, .null, .int 0, .int 0, .int 0]))] H → va_S A s.heap H locs → gW p l e rmX5_init s m [.ref fa, .int p1, .int p2] below meth c ((fun A => va_Qv (fun (_ : Unit) => True) (fun _ t => va_P D vwCl [(fa, .inr (5, [.null, .null, .null, .null, .null, .int 0, .int p1, .int p2]))] t.heap) A) A) A 0 0 H locs 0 ls [] from hw s.heap [] hP hS
  clear hP hS
  intro H locs hP hS
  refine lv_aload_n hx hb dX5_init_0 rfl (lv_at hl 0 rfl) ?_
  refine lv_null hx hb dX5_init_1 ?_
  refine lv_null hx hb dX5_init_2 ?_
  refine lv_iconst (v := 0) hx hb dX5_init_3 (by decide) ?_
  refine lv_iconst (v := 0) hx hb dX5_init_4 (by decide) ?_
  refine wx_callI (As := [.null, .null, .int 0, .int 0]) (rest := []) ⟨hx, hb, hml, hown, hts⟩ (mJ2_init l D k fa _) ⟨va_cB 4 hts (lw_meth q334) rfl rfl rfl (hts _ q332) (hts _ q97) hdJ2_init ⟨Nat.le_of_ble_eq_true rfl, Nat.le_of_ble_eq_true rfl⟩, rfl, hts _ q333⟩ hK hZ hP hD hS hA [0] [] [(fa, .inr (5, [.null, .null, .null, .null, .null, .int 0, .int 0, .int 0]))] rfl rfl fm_n 1 rfl (by decide) (by decide) [fa] rfl rfl rfl hl.1 rfl (Nat.le_of_ble_eq_true rfl) dX5_init_5 ⟨Nat.le_of_ble_eq_true rfl, Nat.le_of_ble_eq_true rfl⟩ (fun H locs hP hD hS => ?_)
  refine lv_aload_n hx hb dX5_init_8 rfl (lv_at hl 0 rfl) ?_
  refine lv_iload_n hx hb dX5_init_9 rfl (lv_at hl 1 rfl) ?_
  refine va_putF (D := D) (cl := vwCl) (ci := 5) (v := .int p1) (ty := .int) (C := RX5) (T := TX5) (N := 8) hx hb hts in_X5 tyX5 tyX5_ok nmX5 hown hK.1 hP hD hS 0 rfl rfl 6 (by decide) (hts _ q338) (fun _ h9 => h9) rfl hin rfl (by decide +kernel) rfl rfl (Nat.le_of_ble_eq_true rfl) dX5_init_10 (fun H locs hP hD hS => ?_)
  have hP : va_P D vwCl [(fa, .inr (5, [.null, .null, .null, .null, .null, .int 0, .int p1, .int 0]))] _ := hP
  have hD : va_D A [(fa, .inr (5, [.null, .null, .null, .null, .null, .int 0, .int p1, .int 0]))] := hD
  refine lv_aload_n hx hb dX5_init_13 rfl (lv_at hl 0 rfl) ?_
  refine lv_iload_n hx hb dX5_init_14 rfl (lv_at hl 2 rfl) ?_
  refine va_putF (D := D) (cl := vwCl) (ci := 5) (v := .int p2) (ty := .int) (C := RX5) (T := TX5) (N := 8) hx hb hts in_X5 tyX5 tyX5_ok nmX5 hown hK.1 hP hD hS 0 rfl rfl 7 (by decide) (hts _ q340) (fun _ h9 => h9) rfl hin rfl (by decide +kernel) rfl rfl (Nat.le_of_ble_eq_true rfl) dX5_init_15 (fun H locs hP hD hS => ?_)
  have hP : va_P D vwCl [(fa, .inr (5, [.null, .null, .null, .null, .null, .int 0, .int p1, .int p2]))] _ := hP
  have hD : va_D A [(fa, .inr (5, [.null, .null, .null, .null, .null, .int 0, .int p1, .int p2]))] := hD
  exact wr_vret hx hb hr hlk hP hS dX5_init_18
