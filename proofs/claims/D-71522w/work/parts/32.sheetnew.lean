/-! sheet() with a good number and lane -/
set_option maxRecDepth 100000
abbrev rmX0_sheet_neg0 : Room := { frames := 8, cells := 3, slots := 222, locals := 10248 }
set_option maxHeartbeats 4000000 in
theorem mX0_sheet_neg0 (l : Launch) (hst : l.stackTraces = false) (D : va_G) (k : Nat → ClassId) (xa : Nat → Nat) (ra : Nat → Nat → Nat) (sa : Nat → Nat) (j : Nat) (hj : j < 4) (sv : Value) (xi : Nat → Int32) (p3 : Int32) (his : fX0_isSheet (nI j) 0 = some 1) (hneg : p3 < 0) (hle : p3 ≤ 40) (sz : Nat) : Met l yX0_sheet (wsW_ yX0_sheet cX0_sheet 5 (some .int) [(16, 50, 51, 319)]) rmX0_sheet_neg0 (wxP D k [oX xa ra xi, (xa 3, .inl (k 6, 4, .inr (.inr (.inr (.inr (fun i => some (sa i))))))), (sa j, .inr (2, [sv]))] sz [.ref (xa 0), .int (nI j), .int 0, .int p3]) ((va_Qi (fun x (_ : Unit) => x = (-14 : Int32)) (fun _ t => va_P D vwCl [oX xa ra xi, (xa 3, .inl (k 6, 4, .inr (.inr (.inr (.inr (fun i => some (sa i))))))), (sa j, .inr (2, [sv]))] t.heap)) (va_A [oX xa ra xi, (xa 3, .inl (k 6, 4, .inr (.inr (.inr (.inr (fun i => some (sa i))))))), (sa j, .inr (2, [sv]))] sz)) 3 222 (va_A [oX xa ra xi, (xa 3, .inl (k 6, 4, .inr (.inr (.inr (.inr (fun i => some (sa i))))))), (sa j, .inr (2, [sv]))] sz) := by
  refine wx_startW (Qc := (va_Qi (fun x (_ : Unit) => x = (-14 : Int32)) (fun _ t => va_P D vwCl [oX xa ra xi, (xa 3, .inl (k 6, 4, .inr (.inr (.inr (.inr (fun i => some (sa i))))))), (sa j, .inr (2, [sv]))] t.heap))) (by decide +kernel) (Nat.le_of_ble_eq_true rfl) ?_
  intro p e s m below meth c ls A hA hx hb hr hlk hml hown hts hP hK hD hZ hexc hl
  have hl : lv_has ls 5 [(0, .ref (xa 0)), (1, .int (nI j)), (2, .int 0), (3, .int p3)] := hl
  have hown : s.vm.findClass RX0 = some m.cls := hown
  have hS : va_S A s.heap s.heap [] := va_S.rf
  suffices hw : ∀ (H : Heap) (locs : List Loc), va_P D vwCl [oX xa ra xi, (xa 3, .inl (k 6, 4, .inr (.inr (.inr (.inr (fun i => some (sa i))))))), (sa j, .inr (2, [sv]))] H → va_S A s.heap H locs → gW p l e rmX0_sheet_neg0 s m [.ref (xa 0), .int (nI j), .int 0, .int p3] below meth c ((va_Qi (fun x (_ : Unit) => x = (-14 : Int32)) (fun _ t => va_P D vwCl [oX xa ra xi, (xa 3, .inl (k 6, 4, .inr (.inr (.inr (.inr (fun i => some (sa i))))))), (sa j, .inr (2, [sv]))] t.heap)) A) A 3 222 H locs 0 ls [] from hw s.heap [] hP hS
  clear hP hS
  intro H locs hP hS
  refine lv_iload_n hx hb dX0_sheet_0 rfl (lv_at hl 1 rfl) ?_
  refine lv_iload_n hx hb dX0_sheet_1 rfl (lv_at hl 2 rfl) ?_
  refine rd_callSZ (As := [.int (nI j), .int 0]) (rest := []) ⟨hx, hb, hml, hown, hts⟩ (mX0_isSheet l D k (nI j) 0 _ his) (va_cwS 2 hts (lw_S q818 q819 q90 q820) rfl rfl rfl hdX0_isSheet ⟨Nat.le_of_ble_eq_true rfl, Nat.le_of_ble_eq_true rfl⟩) hK rfl hl.1 rfl (Nat.le_of_ble_eq_true rfl) dX0_sheet_2 ⟨Nat.le_of_ble_eq_true rfl, Nat.le_of_ble_eq_true rfl⟩ (fun z1 => ?_)
  refine lv_if_eq (tgt := 14) hx hb dX0_sheet_5 (by decide) (fun c9 => absurd c9 (by decide)) (fun _ => ?_)
  refine lv_iload_n hx hb dX0_sheet_8 rfl (lv_at hl 3 rfl) ?_
  refine lv_bipush (v := 40) hx hb dX0_sheet_9 (by decide) ?_
  refine lv_icmp_le (tgt := 16) hx hb dX0_sheet_11 (by decide) (fun _ => ?_) (fun c9 => absurd hle c9)
  refine lv_aload_n hx hb dX0_sheet_16 rfl (lv_at hl 0 rfl) ?_
  refine va_get (D := D) (cl := vwCl) (ci := 0) (v := .ref (xa 3)) (C := RX0) (T := TX0) (N := 15) hx hb hts in_X0 hown hK.1 hP 0 rfl rfl 12 (by decide) (hts _ q203) (fun _ h9 => h9) rfl dX0_sheet_17 ?_
  refine lv_iload_n hx hb dX0_sheet_20 rfl (lv_at hl 1 rfl) ?_
  refine x_aald hx hb hK hP 1 6 (j := j) (n := 4) rfl hj (by decide) rfl rfl rfl dX0_sheet_21 ?_
  refine lv_iload_n hx hb dX0_sheet_22 rfl (lv_at hl 2 rfl) ?_
  refine lv_if_ne (tgt := 32) hx hb dX0_sheet_23 (by decide) (fun c9 => absurd rfl c9) (fun _ => ?_)
  refine lv_iload_n hx hb dX0_sheet_26 rfl (lv_at hl 3 rfl) ?_
  refine vx_newarrayZ hx hb hneg dX0_sheet_27 (fun tx htx => ?_)
  refine x_noteS htx hx hst hts hK hP hZ hS (hl.1.trans hml.symm) (Nat.le_of_ble_eq_true rfl) (Nat.le_of_ble_eq_true rfl) (Nat.le_of_ble_eq_true rfl) (Nat.le_of_ble_eq_true rfl) hlk (fun H q9 ce hP hS hc9 hv9 hcl9 => ?_)
  refine vx_catch hown [] _ _ (hexc.trans rfl) fm_n rfl (by decide) (hts _ q804) (hK.nw 21 rfl) hc9 hv9 hcl9 ?_
  refine lv_astore (lv' := [(4, .ref q9), (0, .ref (xa 0)), (1, .int (nI j)), (2, .int 0), (3, .int p3)]) hx hb dX0_sheet_51 hl (by decide) rfl (fun ls hl => ?_)
  refine lv_bipush (v := (-14)) hx hb dX0_sheet_53 (by decide) ?_
  exact wr_iret hx hb hr hlk rfl hP hS dX0_sheet_55

abbrev rmX0_sheet_neg1 : Room := { frames := 8, cells := 3, slots := 222, locals := 10248 }
set_option maxHeartbeats 4000000 in
theorem mX0_sheet_neg1 (l : Launch) (hst : l.stackTraces = false) (D : va_G) (k : Nat → ClassId) (xa : Nat → Nat) (ra : Nat → Nat → Nat) (sa : Nat → Nat) (j : Nat) (hj : j < 4) (sv : Value) (xi : Nat → Int32) (p3 : Int32) (his : fX0_isSheet (nI j) 1 = some 1) (hneg : p3 < 0) (hle : p3 ≤ 40) (sz : Nat) : Met l yX0_sheet (wsW_ yX0_sheet cX0_sheet 5 (some .int) [(16, 50, 51, 319)]) rmX0_sheet_neg1 (wxP D k [oX xa ra xi, (xa 3, .inl (k 6, 4, .inr (.inr (.inr (.inr (fun i => some (sa i))))))), (sa j, .inr (2, [sv]))] sz [.ref (xa 0), .int (nI j), .int 1, .int p3]) ((va_Qi (fun x (_ : Unit) => x = (-14 : Int32)) (fun _ t => va_P D vwCl [oX xa ra xi, (xa 3, .inl (k 6, 4, .inr (.inr (.inr (.inr (fun i => some (sa i))))))), (sa j, .inr (2, [sv]))] t.heap)) (va_A [oX xa ra xi, (xa 3, .inl (k 6, 4, .inr (.inr (.inr (.inr (fun i => some (sa i))))))), (sa j, .inr (2, [sv]))] sz)) 3 222 (va_A [oX xa ra xi, (xa 3, .inl (k 6, 4, .inr (.inr (.inr (.inr (fun i => some (sa i))))))), (sa j, .inr (2, [sv]))] sz) := by
  refine wx_startW (Qc := (va_Qi (fun x (_ : Unit) => x = (-14 : Int32)) (fun _ t => va_P D vwCl [oX xa ra xi, (xa 3, .inl (k 6, 4, .inr (.inr (.inr (.inr (fun i => some (sa i))))))), (sa j, .inr (2, [sv]))] t.heap))) (by decide +kernel) (Nat.le_of_ble_eq_true rfl) ?_
  intro p e s m below meth c ls A hA hx hb hr hlk hml hown hts hP hK hD hZ hexc hl
  have hl : lv_has ls 5 [(0, .ref (xa 0)), (1, .int (nI j)), (2, .int 1), (3, .int p3)] := hl
  have hown : s.vm.findClass RX0 = some m.cls := hown
  have hS : va_S A s.heap s.heap [] := va_S.rf
  suffices hw : ∀ (H : Heap) (locs : List Loc), va_P D vwCl [oX xa ra xi, (xa 3, .inl (k 6, 4, .inr (.inr (.inr (.inr (fun i => some (sa i))))))), (sa j, .inr (2, [sv]))] H → va_S A s.heap H locs → gW p l e rmX0_sheet_neg1 s m [.ref (xa 0), .int (nI j), .int 1, .int p3] below meth c ((va_Qi (fun x (_ : Unit) => x = (-14 : Int32)) (fun _ t => va_P D vwCl [oX xa ra xi, (xa 3, .inl (k 6, 4, .inr (.inr (.inr (.inr (fun i => some (sa i))))))), (sa j, .inr (2, [sv]))] t.heap)) A) A 3 222 H locs 0 ls [] from hw s.heap [] hP hS
  clear hP hS
  intro H locs hP hS
  refine lv_iload_n hx hb dX0_sheet_0 rfl (lv_at hl 1 rfl) ?_
  refine lv_iload_n hx hb dX0_sheet_1 rfl (lv_at hl 2 rfl) ?_
  refine rd_callSZ (As := [.int (nI j), .int 1]) (rest := []) ⟨hx, hb, hml, hown, hts⟩ (mX0_isSheet l D k (nI j) 1 _ his) (va_cwS 2 hts (lw_S q818 q819 q90 q820) rfl rfl rfl hdX0_isSheet ⟨Nat.le_of_ble_eq_true rfl, Nat.le_of_ble_eq_true rfl⟩) hK rfl hl.1 rfl (Nat.le_of_ble_eq_true rfl) dX0_sheet_2 ⟨Nat.le_of_ble_eq_true rfl, Nat.le_of_ble_eq_true rfl⟩ (fun z1 => ?_)
  refine lv_if_eq (tgt := 14) hx hb dX0_sheet_5 (by decide) (fun c9 => absurd c9 (by decide)) (fun _ => ?_)
  refine lv_iload_n hx hb dX0_sheet_8 rfl (lv_at hl 3 rfl) ?_
  refine lv_bipush (v := 40) hx hb dX0_sheet_9 (by decide) ?_
  refine lv_icmp_le (tgt := 16) hx hb dX0_sheet_11 (by decide) (fun _ => ?_) (fun c9 => absurd hle c9)
  refine lv_aload_n hx hb dX0_sheet_16 rfl (lv_at hl 0 rfl) ?_
  refine va_get (D := D) (cl := vwCl) (ci := 0) (v := .ref (xa 3)) (C := RX0) (T := TX0) (N := 15) hx hb hts in_X0 hown hK.1 hP 0 rfl rfl 12 (by decide) (hts _ q203) (fun _ h9 => h9) rfl dX0_sheet_17 ?_
  refine lv_iload_n hx hb dX0_sheet_20 rfl (lv_at hl 1 rfl) ?_
  refine x_aald hx hb hK hP 1 6 (j := j) (n := 4) rfl hj (by decide) rfl rfl rfl dX0_sheet_21 ?_
  refine lv_iload_n hx hb dX0_sheet_22 rfl (lv_at hl 2 rfl) ?_
  refine lv_if_ne (tgt := 32) hx hb dX0_sheet_23 (by decide) (fun _ => ?_) (fun c9 => absurd c9 (by decide))
  refine lv_iload_n hx hb dX0_sheet_32 rfl (lv_at hl 2 rfl) ?_
  refine lv_iconst (v := 1) hx hb dX0_sheet_33 (by decide) ?_
  refine lv_icmp_ne (tgt := 43) hx hb dX0_sheet_34 (by decide) (fun c9 => absurd rfl c9) (fun _ => ?_)
  refine lv_iload_n hx hb dX0_sheet_37 rfl (lv_at hl 3 rfl) ?_
  refine vx_newarrayZ hx hb hneg dX0_sheet_38 (fun tx htx => ?_)
  refine x_noteS htx hx hst hts hK hP hZ hS (hl.1.trans hml.symm) (Nat.le_of_ble_eq_true rfl) (Nat.le_of_ble_eq_true rfl) (Nat.le_of_ble_eq_true rfl) (Nat.le_of_ble_eq_true rfl) hlk (fun H q9 ce hP hS hc9 hv9 hcl9 => ?_)
  refine vx_catch hown [] _ _ (hexc.trans rfl) fm_n rfl (by decide) (hts _ q804) (hK.nw 21 rfl) hc9 hv9 hcl9 ?_
  refine lv_astore (lv' := [(4, .ref q9), (0, .ref (xa 0)), (1, .int (nI j)), (2, .int 1), (3, .int p3)]) hx hb dX0_sheet_51 hl (by decide) rfl (fun ls hl => ?_)
  refine lv_bipush (v := (-14)) hx hb dX0_sheet_53 (by decide) ?_
  exact wr_iret hx hb hr hlk rfl hP hS dX0_sheet_55

abbrev rmX0_sheet_neg2 : Room := { frames := 8, cells := 3, slots := 222, locals := 10248 }
set_option maxHeartbeats 4000000 in
theorem mX0_sheet_neg2 (l : Launch) (hst : l.stackTraces = false) (D : va_G) (k : Nat → ClassId) (xa : Nat → Nat) (ra : Nat → Nat → Nat) (sa : Nat → Nat) (j : Nat) (hj : j < 4) (sv : Value) (xi : Nat → Int32) (p3 : Int32) (his : fX0_isSheet (nI j) 2 = some 1) (hneg : p3 < 0) (hle : p3 ≤ 40) (sz : Nat) : Met l yX0_sheet (wsW_ yX0_sheet cX0_sheet 5 (some .int) [(16, 50, 51, 319)]) rmX0_sheet_neg2 (wxP D k [oX xa ra xi, (xa 3, .inl (k 6, 4, .inr (.inr (.inr (.inr (fun i => some (sa i))))))), (sa j, .inr (2, [sv]))] sz [.ref (xa 0), .int (nI j), .int 2, .int p3]) ((va_Qi (fun x (_ : Unit) => x = (-14 : Int32)) (fun _ t => va_P D vwCl [oX xa ra xi, (xa 3, .inl (k 6, 4, .inr (.inr (.inr (.inr (fun i => some (sa i))))))), (sa j, .inr (2, [sv]))] t.heap)) (va_A [oX xa ra xi, (xa 3, .inl (k 6, 4, .inr (.inr (.inr (.inr (fun i => some (sa i))))))), (sa j, .inr (2, [sv]))] sz)) 3 222 (va_A [oX xa ra xi, (xa 3, .inl (k 6, 4, .inr (.inr (.inr (.inr (fun i => some (sa i))))))), (sa j, .inr (2, [sv]))] sz) := by
  refine wx_startW (Qc := (va_Qi (fun x (_ : Unit) => x = (-14 : Int32)) (fun _ t => va_P D vwCl [oX xa ra xi, (xa 3, .inl (k 6, 4, .inr (.inr (.inr (.inr (fun i => some (sa i))))))), (sa j, .inr (2, [sv]))] t.heap))) (by decide +kernel) (Nat.le_of_ble_eq_true rfl) ?_
  intro p e s m below meth c ls A hA hx hb hr hlk hml hown hts hP hK hD hZ hexc hl
  have hl : lv_has ls 5 [(0, .ref (xa 0)), (1, .int (nI j)), (2, .int 2), (3, .int p3)] := hl
  have hown : s.vm.findClass RX0 = some m.cls := hown
  have hS : va_S A s.heap s.heap [] := va_S.rf
  suffices hw : ∀ (H : Heap) (locs : List Loc), va_P D vwCl [oX xa ra xi, (xa 3, .inl (k 6, 4, .inr (.inr (.inr (.inr (fun i => some (sa i))))))), (sa j, .inr (2, [sv]))] H → va_S A s.heap H locs → gW p l e rmX0_sheet_neg2 s m [.ref (xa 0), .int (nI j), .int 2, .int p3] below meth c ((va_Qi (fun x (_ : Unit) => x = (-14 : Int32)) (fun _ t => va_P D vwCl [oX xa ra xi, (xa 3, .inl (k 6, 4, .inr (.inr (.inr (.inr (fun i => some (sa i))))))), (sa j, .inr (2, [sv]))] t.heap)) A) A 3 222 H locs 0 ls [] from hw s.heap [] hP hS
  clear hP hS
  intro H locs hP hS
  refine lv_iload_n hx hb dX0_sheet_0 rfl (lv_at hl 1 rfl) ?_
  refine lv_iload_n hx hb dX0_sheet_1 rfl (lv_at hl 2 rfl) ?_
  refine rd_callSZ (As := [.int (nI j), .int 2]) (rest := []) ⟨hx, hb, hml, hown, hts⟩ (mX0_isSheet l D k (nI j) 2 _ his) (va_cwS 2 hts (lw_S q818 q819 q90 q820) rfl rfl rfl hdX0_isSheet ⟨Nat.le_of_ble_eq_true rfl, Nat.le_of_ble_eq_true rfl⟩) hK rfl hl.1 rfl (Nat.le_of_ble_eq_true rfl) dX0_sheet_2 ⟨Nat.le_of_ble_eq_true rfl, Nat.le_of_ble_eq_true rfl⟩ (fun z1 => ?_)
  refine lv_if_eq (tgt := 14) hx hb dX0_sheet_5 (by decide) (fun c9 => absurd c9 (by decide)) (fun _ => ?_)
  refine lv_iload_n hx hb dX0_sheet_8 rfl (lv_at hl 3 rfl) ?_
  refine lv_bipush (v := 40) hx hb dX0_sheet_9 (by decide) ?_
  refine lv_icmp_le (tgt := 16) hx hb dX0_sheet_11 (by decide) (fun _ => ?_) (fun c9 => absurd hle c9)
  refine lv_aload_n hx hb dX0_sheet_16 rfl (lv_at hl 0 rfl) ?_
  refine va_get (D := D) (cl := vwCl) (ci := 0) (v := .ref (xa 3)) (C := RX0) (T := TX0) (N := 15) hx hb hts in_X0 hown hK.1 hP 0 rfl rfl 12 (by decide) (hts _ q203) (fun _ h9 => h9) rfl dX0_sheet_17 ?_
  refine lv_iload_n hx hb dX0_sheet_20 rfl (lv_at hl 1 rfl) ?_
  refine x_aald hx hb hK hP 1 6 (j := j) (n := 4) rfl hj (by decide) rfl rfl rfl dX0_sheet_21 ?_
  refine lv_iload_n hx hb dX0_sheet_22 rfl (lv_at hl 2 rfl) ?_
  refine lv_if_ne (tgt := 32) hx hb dX0_sheet_23 (by decide) (fun _ => ?_) (fun c9 => absurd c9 (by decide))
  refine lv_iload_n hx hb dX0_sheet_32 rfl (lv_at hl 2 rfl) ?_
  refine lv_iconst (v := 1) hx hb dX0_sheet_33 (by decide) ?_
  refine lv_icmp_ne (tgt := 43) hx hb dX0_sheet_34 (by decide) (fun _ => ?_) (fun c9 => absurd c9 (by decide))
  refine lv_iload_n hx hb dX0_sheet_43 rfl (lv_at hl 3 rfl) ?_
  refine vx_newarrayZ hx hb hneg dX0_sheet_44 (fun tx htx => ?_)
  refine x_noteS htx hx hst hts hK hP hZ hS (hl.1.trans hml.symm) (Nat.le_of_ble_eq_true rfl) (Nat.le_of_ble_eq_true rfl) (Nat.le_of_ble_eq_true rfl) (Nat.le_of_ble_eq_true rfl) hlk (fun H q9 ce hP hS hc9 hv9 hcl9 => ?_)
  refine vx_catch hown [] _ _ (hexc.trans rfl) fm_n rfl (by decide) (hts _ q804) (hK.nw 21 rfl) hc9 hv9 hcl9 ?_
  refine lv_astore (lv' := [(4, .ref q9), (0, .ref (xa 0)), (1, .int (nI j)), (2, .int 2), (3, .int p3)]) hx hb dX0_sheet_51 hl (by decide) rfl (fun ls hl => ?_)
  refine lv_bipush (v := (-14)) hx hb dX0_sheet_53 (by decide) ?_
  exact wr_iret hx hb hr hlk rfl hP hS dX0_sheet_55

abbrev rmX0_sheet_new0 : Room := { frames := 2, cells := 1, slots := 40, locals := 46 }
set_option maxHeartbeats 4000000 in
theorem mX0_sheet_new0 (l : Launch) (D : va_G) (k : Nat → ClassId) (xa : Nat → Nat) (ra : Nat → Nat → Nat) (sa : Nat → Nat) (j : Nat) (hj : j < 4) (sv : Value) (xi : Nat → Int32) (sn : Nat) (hsn : sn ≤ 40) (his : fX0_isSheet (nI j) 0 = some 1) (sz : Nat) : Met l yX0_sheet (wsW_ yX0_sheet cX0_sheet 5 (some .int) [(16, 50, 51, 319)]) rmX0_sheet_new0 (wxP D k [oX xa ra xi, (xa 3, .inl (k 6, 4, .inr (.inr (.inr (.inr (fun i => some (sa i))))))), (sa j, .inr (2, [sv]))] sz [.ref (xa 0), .int (nI j), .int 0, .int (nI sn)]) (va_Qi (S := Nat) (fun x _ => x = 1) (fun u t => va_P D vwCl [oX xa ra xi, (xa 3, .inl (k 6, 4, .inr (.inr (.inr (.inr (fun i => some (sa i))))))), (sa j, .inr (2, [.ref u])), (u, .inl (k 3, (sn, .inl (fun _ => 0))))] t.heap ∧ va_D (va_A [oX xa ra xi, (xa 3, .inl (k 6, 4, .inr (.inr (.inr (.inr (fun i => some (sa i))))))), (sa j, .inr (2, [sv]))] sz) [oX xa ra xi, (xa 3, .inl (k 6, 4, .inr (.inr (.inr (.inr (fun i => some (sa i))))))), (sa j, .inr (2, [.ref u])), (u, .inl (k 3, (sn, .inl (fun _ => 0))))]) (va_A [oX xa ra xi, (xa 3, .inl (k 6, 4, .inr (.inr (.inr (.inr (fun i => some (sa i))))))), (sa j, .inr (2, [sv]))] sz)) 1 40 (va_A [oX xa ra xi, (xa 3, .inl (k 6, 4, .inr (.inr (.inr (.inr (fun i => some (sa i))))))), (sa j, .inr (2, [sv]))] sz) := by
  refine wx_startW (Qc := (fun A => va_Qi (S := Nat) (fun x _ => x = 1) (fun u t => va_P D vwCl [oX xa ra xi, (xa 3, .inl (k 6, 4, .inr (.inr (.inr (.inr (fun i => some (sa i))))))), (sa j, .inr (2, [.ref u])), (u, .inl (k 3, (sn, .inl (fun _ => 0))))] t.heap ∧ va_D A [oX xa ra xi, (xa 3, .inl (k 6, 4, .inr (.inr (.inr (.inr (fun i => some (sa i))))))), (sa j, .inr (2, [.ref u])), (u, .inl (k 3, (sn, .inl (fun _ => 0))))]) A)) (by decide +kernel) (Nat.le_of_ble_eq_true rfl) ?_
  intro p e s m below meth c ls A hA hx hb hr hlk hml hown hts hP hK hD hZ hexc hl
  have hl : lv_has ls 5 [(0, .ref (xa 0)), (1, .int (nI j)), (2, .int 0), (3, .int (nI sn))] := hl
  have hown : s.vm.findClass RX0 = some m.cls := hown
  have hS : va_S A s.heap s.heap [] := va_S.rf
  suffices hw : ∀ (H : Heap) (locs : List Loc), va_P D vwCl [oX xa ra xi, (xa 3, .inl (k 6, 4, .inr (.inr (.inr (.inr (fun i => some (sa i))))))), (sa j, .inr (2, [sv]))] H → va_S A s.heap H locs → gW p l e rmX0_sheet_new0 s m [.ref (xa 0), .int (nI j), .int 0, .int (nI sn)] below meth c ((fun A => va_Qi (S := Nat) (fun x _ => x = 1) (fun u t => va_P D vwCl [oX xa ra xi, (xa 3, .inl (k 6, 4, .inr (.inr (.inr (.inr (fun i => some (sa i))))))), (sa j, .inr (2, [.ref u])), (u, .inl (k 3, (sn, .inl (fun _ => 0))))] t.heap ∧ va_D A [oX xa ra xi, (xa 3, .inl (k 6, 4, .inr (.inr (.inr (.inr (fun i => some (sa i))))))), (sa j, .inr (2, [.ref u])), (u, .inl (k 3, (sn, .inl (fun _ => 0))))]) A) A) A 1 40 H locs 0 ls [] from hw s.heap [] hP hS
  clear hP hS
  intro H locs hP hS
  have hle : nI sn ≤ 40 := nI_le (b := 40) hsn (by decide)
  refine lv_iload_n hx hb dX0_sheet_0 rfl (lv_at hl 1 rfl) ?_
  refine lv_iload_n hx hb dX0_sheet_1 rfl (lv_at hl 2 rfl) ?_
  refine rd_callSZ (As := [.int (nI j), .int 0]) (rest := []) ⟨hx, hb, hml, hown, hts⟩ (mX0_isSheet l D k (nI j) 0 _ his) (va_cwS 2 hts (lw_S q818 q819 q90 q820) rfl rfl rfl hdX0_isSheet ⟨Nat.le_of_ble_eq_true rfl, Nat.le_of_ble_eq_true rfl⟩) hK rfl hl.1 rfl (Nat.le_of_ble_eq_true rfl) dX0_sheet_2 ⟨Nat.le_of_ble_eq_true rfl, Nat.le_of_ble_eq_true rfl⟩ (fun z1 => ?_)
  refine lv_if_eq (tgt := 14) hx hb dX0_sheet_5 (by decide) (fun c9 => absurd c9 (by decide)) (fun _ => ?_)
  refine lv_iload_n hx hb dX0_sheet_8 rfl (lv_at hl 3 rfl) ?_
  refine lv_bipush (v := 40) hx hb dX0_sheet_9 (by decide) ?_
  refine lv_icmp_le (tgt := 16) hx hb dX0_sheet_11 (by decide) (fun _ => ?_) (fun c9 => absurd hle c9)
  refine lv_aload_n hx hb dX0_sheet_16 rfl (lv_at hl 0 rfl) ?_
  refine va_get (D := D) (cl := vwCl) (ci := 0) (v := .ref (xa 3)) (C := RX0) (T := TX0) (N := 15) hx hb hts in_X0 hown hK.1 hP 0 rfl rfl 12 (by decide) (hts _ q203) (fun _ h9 => h9) rfl dX0_sheet_17 ?_
  refine lv_iload_n hx hb dX0_sheet_20 rfl (lv_at hl 1 rfl) ?_
  refine x_aald hx hb hK hP 1 6 (j := j) (n := 4) rfl hj (by decide) rfl rfl rfl dX0_sheet_21 ?_
  refine lv_iload_n hx hb dX0_sheet_22 rfl (lv_at hl 2 rfl) ?_
  refine lv_if_ne (tgt := 32) hx hb dX0_sheet_23 (by decide) (fun c9 => absurd rfl c9) (fun _ => ?_)
  refine lv_iload_n hx hb dX0_sheet_26 rfl (lv_at hl 3 rfl) ?_
  refine x_newa (atype := .byte) (a0 := (sn, .inl (fun _ => 0))) (N' := sn) hx hb (hts _ q167) rfl hK hP hD hS hA 3 rfl (fun _ => rfl) (nI_pos (by omega)) (nI_clamp (by omega)) (Nat.le_trans (Nat.mul_le_mul_right _ hsn) (Nat.le_of_ble_eq_true rfl)) (Nat.le_of_ble_eq_true rfl) (Nat.le_trans (Nat.add_le_add_left hsn 0) (Nat.le_of_ble_eq_true rfl)) dX0_sheet_27 (fun u H hP hD hS => ?_)
  have hP : va_P D vwCl [oX xa ra xi, (xa 3, .inl (k 6, 4, .inr (.inr (.inr (.inr (fun i => some (sa i))))))), (sa j, .inr (2, [sv])), (u, .inl (k 3, (sn, .inl (fun _ => 0))))] _ := hP
  have hD : va_D A [oX xa ra xi, (xa 3, .inl (k 6, 4, .inr (.inr (.inr (.inr (fun i => some (sa i))))))), (sa j, .inr (2, [sv])), (u, .inl (k 3, (sn, .inl (fun _ => 0))))] := hD
  refine lv_goto (tgt := 46) hx hb dX0_sheet_29 (by decide) ?_
  refine va_putN (D := D) (cl := vwCl) (ci := 2) (v := .ref u) (ty := (.object "java/lang/Object")) (C := RX2) (T := TX2) (N := 1) hx hb hts in_X2 tyX2 tyX2_ok nmX2 hown hK.1 hP hD hS 2 rfl rfl 0 (by decide) (hK.nw 8 rfl) (fun _ h9 => h9) rfl (by decide +kernel) rfl rfl (Nat.le_of_ble_eq_true rfl) dX0_sheet_46 (fun H locs hP hD hS => ?_)
  have hP : va_P D vwCl [oX xa ra xi, (xa 3, .inl (k 6, 4, .inr (.inr (.inr (.inr (fun i => some (sa i))))))), (sa j, .inr (2, [.ref u])), (u, .inl (k 3, (sn, .inl (fun _ => 0))))] _ := hP
  have hD : va_D A [oX xa ra xi, (xa 3, .inl (k 6, 4, .inr (.inr (.inr (.inr (fun i => some (sa i))))))), (sa j, .inr (2, [.ref u])), (u, .inl (k 3, (sn, .inl (fun _ => 0))))] := hD
  refine lv_iconst (v := 1) hx hb dX0_sheet_49 (by decide) ?_
  refine W.widen (k := 1) (n := 40) (Nat.le_of_ble_eq_true rfl) (Nat.le_trans (Nat.add_le_add_left hsn 0) (Nat.le_of_ble_eq_true rfl)) ?_
  exact W.iret hx hb hr (fun t ht _ => ⟨⟨1, u, rfl, rfl, at_heap ht hP, hD⟩, hS.F ht⟩) hS.2.2 dX0_sheet_50 hlk

abbrev rmX0_sheet_new1 : Room := { frames := 2, cells := 1, slots := 40, locals := 46 }
set_option maxHeartbeats 4000000 in
theorem mX0_sheet_new1 (l : Launch) (D : va_G) (k : Nat → ClassId) (xa : Nat → Nat) (ra : Nat → Nat → Nat) (sa : Nat → Nat) (j : Nat) (hj : j < 4) (sv : Value) (xi : Nat → Int32) (sn : Nat) (hsn : sn ≤ 40) (his : fX0_isSheet (nI j) 1 = some 1) (sz : Nat) : Met l yX0_sheet (wsW_ yX0_sheet cX0_sheet 5 (some .int) [(16, 50, 51, 319)]) rmX0_sheet_new1 (wxP D k [oX xa ra xi, (xa 3, .inl (k 6, 4, .inr (.inr (.inr (.inr (fun i => some (sa i))))))), (sa j, .inr (2, [sv]))] sz [.ref (xa 0), .int (nI j), .int 1, .int (nI sn)]) (va_Qi (S := Nat) (fun x _ => x = 1) (fun u t => va_P D vwCl [oX xa ra xi, (xa 3, .inl (k 6, 4, .inr (.inr (.inr (.inr (fun i => some (sa i))))))), (sa j, .inr (2, [.ref u])), (u, .inl (k 1, (sn, .inl (fun _ => 0))))] t.heap ∧ va_D (va_A [oX xa ra xi, (xa 3, .inl (k 6, 4, .inr (.inr (.inr (.inr (fun i => some (sa i))))))), (sa j, .inr (2, [sv]))] sz) [oX xa ra xi, (xa 3, .inl (k 6, 4, .inr (.inr (.inr (.inr (fun i => some (sa i))))))), (sa j, .inr (2, [.ref u])), (u, .inl (k 1, (sn, .inl (fun _ => 0))))]) (va_A [oX xa ra xi, (xa 3, .inl (k 6, 4, .inr (.inr (.inr (.inr (fun i => some (sa i))))))), (sa j, .inr (2, [sv]))] sz)) 1 40 (va_A [oX xa ra xi, (xa 3, .inl (k 6, 4, .inr (.inr (.inr (.inr (fun i => some (sa i))))))), (sa j, .inr (2, [sv]))] sz) := by
  refine wx_startW (Qc := (fun A => va_Qi (S := Nat) (fun x _ => x = 1) (fun u t => va_P D vwCl [oX xa ra xi, (xa 3, .inl (k 6, 4, .inr (.inr (.inr (.inr (fun i => some (sa i))))))), (sa j, .inr (2, [.ref u])), (u, .inl (k 1, (sn, .inl (fun _ => 0))))] t.heap ∧ va_D A [oX xa ra xi, (xa 3, .inl (k 6, 4, .inr (.inr (.inr (.inr (fun i => some (sa i))))))), (sa j, .inr (2, [.ref u])), (u, .inl (k 1, (sn, .inl (fun _ => 0))))]) A)) (by decide +kernel) (Nat.le_of_ble_eq_true rfl) ?_
  intro p e s m below meth c ls A hA hx hb hr hlk hml hown hts hP hK hD hZ hexc hl
  have hl : lv_has ls 5 [(0, .ref (xa 0)), (1, .int (nI j)), (2, .int 1), (3, .int (nI sn))] := hl
  have hown : s.vm.findClass RX0 = some m.cls := hown
  have hS : va_S A s.heap s.heap [] := va_S.rf
  suffices hw : ∀ (H : Heap) (locs : List Loc), va_P D vwCl [oX xa ra xi, (xa 3, .inl (k 6, 4, .inr (.inr (.inr (.inr (fun i => some (sa i))))))), (sa j, .inr (2, [sv]))] H → va_S A s.heap H locs → gW p l e rmX0_sheet_new1 s m [.ref (xa 0), .int (nI j), .int 1, .int (nI sn)] below meth c ((fun A => va_Qi (S := Nat) (fun x _ => x = 1) (fun u t => va_P D vwCl [oX xa ra xi, (xa 3, .inl (k 6, 4, .inr (.inr (.inr (.inr (fun i => some (sa i))))))), (sa j, .inr (2, [.ref u])), (u, .inl (k 1, (sn, .inl (fun _ => 0))))] t.heap ∧ va_D A [oX xa ra xi, (xa 3, .inl (k 6, 4, .inr (.inr (.inr (.inr (fun i => some (sa i))))))), (sa j, .inr (2, [.ref u])), (u, .inl (k 1, (sn, .inl (fun _ => 0))))]) A) A) A 1 40 H locs 0 ls [] from hw s.heap [] hP hS
  clear hP hS
  intro H locs hP hS
  have hle : nI sn ≤ 40 := nI_le (b := 40) hsn (by decide)
  refine lv_iload_n hx hb dX0_sheet_0 rfl (lv_at hl 1 rfl) ?_
  refine lv_iload_n hx hb dX0_sheet_1 rfl (lv_at hl 2 rfl) ?_
  refine rd_callSZ (As := [.int (nI j), .int 1]) (rest := []) ⟨hx, hb, hml, hown, hts⟩ (mX0_isSheet l D k (nI j) 1 _ his) (va_cwS 2 hts (lw_S q818 q819 q90 q820) rfl rfl rfl hdX0_isSheet ⟨Nat.le_of_ble_eq_true rfl, Nat.le_of_ble_eq_true rfl⟩) hK rfl hl.1 rfl (Nat.le_of_ble_eq_true rfl) dX0_sheet_2 ⟨Nat.le_of_ble_eq_true rfl, Nat.le_of_ble_eq_true rfl⟩ (fun z1 => ?_)
  refine lv_if_eq (tgt := 14) hx hb dX0_sheet_5 (by decide) (fun c9 => absurd c9 (by decide)) (fun _ => ?_)
  refine lv_iload_n hx hb dX0_sheet_8 rfl (lv_at hl 3 rfl) ?_
  refine lv_bipush (v := 40) hx hb dX0_sheet_9 (by decide) ?_
  refine lv_icmp_le (tgt := 16) hx hb dX0_sheet_11 (by decide) (fun _ => ?_) (fun c9 => absurd hle c9)
  refine lv_aload_n hx hb dX0_sheet_16 rfl (lv_at hl 0 rfl) ?_
  refine va_get (D := D) (cl := vwCl) (ci := 0) (v := .ref (xa 3)) (C := RX0) (T := TX0) (N := 15) hx hb hts in_X0 hown hK.1 hP 0 rfl rfl 12 (by decide) (hts _ q203) (fun _ h9 => h9) rfl dX0_sheet_17 ?_
  refine lv_iload_n hx hb dX0_sheet_20 rfl (lv_at hl 1 rfl) ?_
  refine x_aald hx hb hK hP 1 6 (j := j) (n := 4) rfl hj (by decide) rfl rfl rfl dX0_sheet_21 ?_
  refine lv_iload_n hx hb dX0_sheet_22 rfl (lv_at hl 2 rfl) ?_
  refine lv_if_ne (tgt := 32) hx hb dX0_sheet_23 (by decide) (fun _ => ?_) (fun c9 => absurd c9 (by decide))
  refine lv_iload_n hx hb dX0_sheet_32 rfl (lv_at hl 2 rfl) ?_
  refine lv_iconst (v := 1) hx hb dX0_sheet_33 (by decide) ?_
  refine lv_icmp_ne (tgt := 43) hx hb dX0_sheet_34 (by decide) (fun c9 => absurd rfl c9) (fun _ => ?_)
  refine lv_iload_n hx hb dX0_sheet_37 rfl (lv_at hl 3 rfl) ?_
  refine x_newa (atype := .int) (a0 := (sn, .inl (fun _ => 0))) (N' := sn) hx hb (hts _ q153) rfl hK hP hD hS hA 1 rfl (fun _ => rfl) (nI_pos (by omega)) (nI_clamp (by omega)) (Nat.le_trans (Nat.mul_le_mul_right _ hsn) (Nat.le_of_ble_eq_true rfl)) (Nat.le_of_ble_eq_true rfl) (Nat.le_trans (Nat.add_le_add_left hsn 0) (Nat.le_of_ble_eq_true rfl)) dX0_sheet_38 (fun u H hP hD hS => ?_)
  have hP : va_P D vwCl [oX xa ra xi, (xa 3, .inl (k 6, 4, .inr (.inr (.inr (.inr (fun i => some (sa i))))))), (sa j, .inr (2, [sv])), (u, .inl (k 1, (sn, .inl (fun _ => 0))))] _ := hP
  have hD : va_D A [oX xa ra xi, (xa 3, .inl (k 6, 4, .inr (.inr (.inr (.inr (fun i => some (sa i))))))), (sa j, .inr (2, [sv])), (u, .inl (k 1, (sn, .inl (fun _ => 0))))] := hD
  refine lv_goto (tgt := 46) hx hb dX0_sheet_40 (by decide) ?_
  refine va_putN (D := D) (cl := vwCl) (ci := 2) (v := .ref u) (ty := (.object "java/lang/Object")) (C := RX2) (T := TX2) (N := 1) hx hb hts in_X2 tyX2 tyX2_ok nmX2 hown hK.1 hP hD hS 2 rfl rfl 0 (by decide) (hK.nw 8 rfl) (fun _ h9 => h9) rfl (by decide +kernel) rfl rfl (Nat.le_of_ble_eq_true rfl) dX0_sheet_46 (fun H locs hP hD hS => ?_)
  have hP : va_P D vwCl [oX xa ra xi, (xa 3, .inl (k 6, 4, .inr (.inr (.inr (.inr (fun i => some (sa i))))))), (sa j, .inr (2, [.ref u])), (u, .inl (k 1, (sn, .inl (fun _ => 0))))] _ := hP
  have hD : va_D A [oX xa ra xi, (xa 3, .inl (k 6, 4, .inr (.inr (.inr (.inr (fun i => some (sa i))))))), (sa j, .inr (2, [.ref u])), (u, .inl (k 1, (sn, .inl (fun _ => 0))))] := hD
  refine lv_iconst (v := 1) hx hb dX0_sheet_49 (by decide) ?_
  refine W.widen (k := 1) (n := 40) (Nat.le_of_ble_eq_true rfl) (Nat.le_trans (Nat.add_le_add_left hsn 0) (Nat.le_of_ble_eq_true rfl)) ?_
  exact W.iret hx hb hr (fun t ht _ => ⟨⟨1, u, rfl, rfl, at_heap ht hP, hD⟩, hS.F ht⟩) hS.2.2 dX0_sheet_50 hlk

abbrev rmX0_sheet_new2 : Room := { frames := 2, cells := 1, slots := 40, locals := 46 }
set_option maxHeartbeats 4000000 in
theorem mX0_sheet_new2 (l : Launch) (D : va_G) (k : Nat → ClassId) (xa : Nat → Nat) (ra : Nat → Nat → Nat) (sa : Nat → Nat) (j : Nat) (hj : j < 4) (sv : Value) (xi : Nat → Int32) (sn : Nat) (hsn : sn ≤ 40) (his : fX0_isSheet (nI j) 2 = some 1) (sz : Nat) : Met l yX0_sheet (wsW_ yX0_sheet cX0_sheet 5 (some .int) [(16, 50, 51, 319)]) rmX0_sheet_new2 (wxP D k [oX xa ra xi, (xa 3, .inl (k 6, 4, .inr (.inr (.inr (.inr (fun i => some (sa i))))))), (sa j, .inr (2, [sv]))] sz [.ref (xa 0), .int (nI j), .int 2, .int (nI sn)]) (va_Qi (S := Nat) (fun x _ => x = 1) (fun u t => va_P D vwCl [oX xa ra xi, (xa 3, .inl (k 6, 4, .inr (.inr (.inr (.inr (fun i => some (sa i))))))), (sa j, .inr (2, [.ref u])), (u, .inl (k 0, (sn, .inr (.inl (fun _ => 0)))))] t.heap ∧ va_D (va_A [oX xa ra xi, (xa 3, .inl (k 6, 4, .inr (.inr (.inr (.inr (fun i => some (sa i))))))), (sa j, .inr (2, [sv]))] sz) [oX xa ra xi, (xa 3, .inl (k 6, 4, .inr (.inr (.inr (.inr (fun i => some (sa i))))))), (sa j, .inr (2, [.ref u])), (u, .inl (k 0, (sn, .inr (.inl (fun _ => 0)))))]) (va_A [oX xa ra xi, (xa 3, .inl (k 6, 4, .inr (.inr (.inr (.inr (fun i => some (sa i))))))), (sa j, .inr (2, [sv]))] sz)) 1 40 (va_A [oX xa ra xi, (xa 3, .inl (k 6, 4, .inr (.inr (.inr (.inr (fun i => some (sa i))))))), (sa j, .inr (2, [sv]))] sz) := by
  refine wx_startW (Qc := (fun A => va_Qi (S := Nat) (fun x _ => x = 1) (fun u t => va_P D vwCl [oX xa ra xi, (xa 3, .inl (k 6, 4, .inr (.inr (.inr (.inr (fun i => some (sa i))))))), (sa j, .inr (2, [.ref u])), (u, .inl (k 0, (sn, .inr (.inl (fun _ => 0)))))] t.heap ∧ va_D A [oX xa ra xi, (xa 3, .inl (k 6, 4, .inr (.inr (.inr (.inr (fun i => some (sa i))))))), (sa j, .inr (2, [.ref u])), (u, .inl (k 0, (sn, .inr (.inl (fun _ => 0)))))]) A)) (by decide +kernel) (Nat.le_of_ble_eq_true rfl) ?_
  intro p e s m below meth c ls A hA hx hb hr hlk hml hown hts hP hK hD hZ hexc hl
  have hl : lv_has ls 5 [(0, .ref (xa 0)), (1, .int (nI j)), (2, .int 2), (3, .int (nI sn))] := hl
  have hown : s.vm.findClass RX0 = some m.cls := hown
  have hS : va_S A s.heap s.heap [] := va_S.rf
  suffices hw : ∀ (H : Heap) (locs : List Loc), va_P D vwCl [oX xa ra xi, (xa 3, .inl (k 6, 4, .inr (.inr (.inr (.inr (fun i => some (sa i))))))), (sa j, .inr (2, [sv]))] H → va_S A s.heap H locs → gW p l e rmX0_sheet_new2 s m [.ref (xa 0), .int (nI j), .int 2, .int (nI sn)] below meth c ((fun A => va_Qi (S := Nat) (fun x _ => x = 1) (fun u t => va_P D vwCl [oX xa ra xi, (xa 3, .inl (k 6, 4, .inr (.inr (.inr (.inr (fun i => some (sa i))))))), (sa j, .inr (2, [.ref u])), (u, .inl (k 0, (sn, .inr (.inl (fun _ => 0)))))] t.heap ∧ va_D A [oX xa ra xi, (xa 3, .inl (k 6, 4, .inr (.inr (.inr (.inr (fun i => some (sa i))))))), (sa j, .inr (2, [.ref u])), (u, .inl (k 0, (sn, .inr (.inl (fun _ => 0)))))]) A) A) A 1 40 H locs 0 ls [] from hw s.heap [] hP hS
  clear hP hS
  intro H locs hP hS
  have hle : nI sn ≤ 40 := nI_le (b := 40) hsn (by decide)
  refine lv_iload_n hx hb dX0_sheet_0 rfl (lv_at hl 1 rfl) ?_
  refine lv_iload_n hx hb dX0_sheet_1 rfl (lv_at hl 2 rfl) ?_
  refine rd_callSZ (As := [.int (nI j), .int 2]) (rest := []) ⟨hx, hb, hml, hown, hts⟩ (mX0_isSheet l D k (nI j) 2 _ his) (va_cwS 2 hts (lw_S q818 q819 q90 q820) rfl rfl rfl hdX0_isSheet ⟨Nat.le_of_ble_eq_true rfl, Nat.le_of_ble_eq_true rfl⟩) hK rfl hl.1 rfl (Nat.le_of_ble_eq_true rfl) dX0_sheet_2 ⟨Nat.le_of_ble_eq_true rfl, Nat.le_of_ble_eq_true rfl⟩ (fun z1 => ?_)
  refine lv_if_eq (tgt := 14) hx hb dX0_sheet_5 (by decide) (fun c9 => absurd c9 (by decide)) (fun _ => ?_)
  refine lv_iload_n hx hb dX0_sheet_8 rfl (lv_at hl 3 rfl) ?_
  refine lv_bipush (v := 40) hx hb dX0_sheet_9 (by decide) ?_
  refine lv_icmp_le (tgt := 16) hx hb dX0_sheet_11 (by decide) (fun _ => ?_) (fun c9 => absurd hle c9)
  refine lv_aload_n hx hb dX0_sheet_16 rfl (lv_at hl 0 rfl) ?_
  refine va_get (D := D) (cl := vwCl) (ci := 0) (v := .ref (xa 3)) (C := RX0) (T := TX0) (N := 15) hx hb hts in_X0 hown hK.1 hP 0 rfl rfl 12 (by decide) (hts _ q203) (fun _ h9 => h9) rfl dX0_sheet_17 ?_
  refine lv_iload_n hx hb dX0_sheet_20 rfl (lv_at hl 1 rfl) ?_
  refine x_aald hx hb hK hP 1 6 (j := j) (n := 4) rfl hj (by decide) rfl rfl rfl dX0_sheet_21 ?_
  refine lv_iload_n hx hb dX0_sheet_22 rfl (lv_at hl 2 rfl) ?_
  refine lv_if_ne (tgt := 32) hx hb dX0_sheet_23 (by decide) (fun _ => ?_) (fun c9 => absurd c9 (by decide))
  refine lv_iload_n hx hb dX0_sheet_32 rfl (lv_at hl 2 rfl) ?_
  refine lv_iconst (v := 1) hx hb dX0_sheet_33 (by decide) ?_
  refine lv_icmp_ne (tgt := 43) hx hb dX0_sheet_34 (by decide) (fun _ => ?_) (fun c9 => absurd c9 (by decide))
  refine lv_iload_n hx hb dX0_sheet_43 rfl (lv_at hl 3 rfl) ?_
  refine x_newa (atype := .long) (a0 := (sn, .inr (.inl (fun _ => 0)))) (N' := sn) hx hb (hts _ q152) rfl hK hP hD hS hA 0 rfl (fun _ => rfl) (nI_pos (by omega)) (nI_clamp (by omega)) (Nat.le_trans (Nat.mul_le_mul_right _ hsn) (Nat.le_of_ble_eq_true rfl)) (Nat.le_of_ble_eq_true rfl) (Nat.le_trans (Nat.add_le_add_left hsn 0) (Nat.le_of_ble_eq_true rfl)) dX0_sheet_44 (fun u H hP hD hS => ?_)
  have hP : va_P D vwCl [oX xa ra xi, (xa 3, .inl (k 6, 4, .inr (.inr (.inr (.inr (fun i => some (sa i))))))), (sa j, .inr (2, [sv])), (u, .inl (k 0, (sn, .inr (.inl (fun _ => 0)))))] _ := hP
  have hD : va_D A [oX xa ra xi, (xa 3, .inl (k 6, 4, .inr (.inr (.inr (.inr (fun i => some (sa i))))))), (sa j, .inr (2, [sv])), (u, .inl (k 0, (sn, .inr (.inl (fun _ => 0)))))] := hD
  refine va_putN (D := D) (cl := vwCl) (ci := 2) (v := .ref u) (ty := (.object "java/lang/Object")) (C := RX2) (T := TX2) (N := 1) hx hb hts in_X2 tyX2 tyX2_ok nmX2 hown hK.1 hP hD hS 2 rfl rfl 0 (by decide) (hK.nw 8 rfl) (fun _ h9 => h9) rfl (by decide +kernel) rfl rfl (Nat.le_of_ble_eq_true rfl) dX0_sheet_46 (fun H locs hP hD hS => ?_)
  have hP : va_P D vwCl [oX xa ra xi, (xa 3, .inl (k 6, 4, .inr (.inr (.inr (.inr (fun i => some (sa i))))))), (sa j, .inr (2, [.ref u])), (u, .inl (k 0, (sn, .inr (.inl (fun _ => 0)))))] _ := hP
  have hD : va_D A [oX xa ra xi, (xa 3, .inl (k 6, 4, .inr (.inr (.inr (.inr (fun i => some (sa i))))))), (sa j, .inr (2, [.ref u])), (u, .inl (k 0, (sn, .inr (.inl (fun _ => 0)))))] := hD
  refine lv_iconst (v := 1) hx hb dX0_sheet_49 (by decide) ?_
  refine W.widen (k := 1) (n := 40) (Nat.le_of_ble_eq_true rfl) (Nat.le_trans (Nat.add_le_add_left hsn 0) (Nat.le_of_ble_eq_true rfl)) ?_
  exact W.iret hx hb hr (fun t ht _ => ⟨⟨1, u, rfl, rfl, at_heap ht hP, hD⟩, hS.F ht⟩) hS.2.2 dX0_sheet_50 hlk

