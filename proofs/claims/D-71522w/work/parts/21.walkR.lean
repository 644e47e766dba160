/-! walks of Row, by program -/
set_option maxRecDepth 100000
abbrev rmJ3_bitCount : Room := { frames := 0, cells := 0, slots := 0, locals := 0 }
theorem hdJ3_bitCount : yJ3_bitCount.cls ≠ "java/lang/invoke/MethodHandle" ∧ yJ3_bitCount.cls ≠ "java/lang/invoke/VarHandle" ∧ (parseMethodDescriptor yJ3_bitCount.desc).map (fun d => d.parameters.length) = some 1 := by decide +kernel
set_option maxHeartbeats 4000000 in
theorem mJ3_bitCount (l : Launch) (D : va_G) (k : Nat → ClassId) (p1 : Int64) (r : Int32) (hf : fJ3_bitCount p1 = some r) : CtI l yJ3_bitCount cJ3_bitCount 2 rmJ3_bitCount [.long p1] D k [] r := by
  refine rd_start (by decide +kernel) (Nat.le_of_ble_eq_true rfl) ?_
  intro p e s m below meth c ls hx hb hr hlk hml hown hts hP hK hl
  have hl : lv_has ls 2 [(0, .long p1)] := hl
  have hown : s.vm.findClass RJ3 = some m.cls := hown
  unfold fJ3_bitCount at hf
  refine lv_lload_n hx hb dJ3_bitCount_0 rfl (lv_at hl 0 rfl) ?_
  refine lv_lload_n hx hb dJ3_bitCount_1 rfl (lv_at hl 0 rfl) ?_
  refine lv_iconst (v := 1) hx hb dJ3_bitCount_2 (by decide) ?_
  refine lv_lushr hx hb dJ3_bitCount_3 rfl ?_
  refine lv_ldc2 hx hb hown (hts _ q436) dJ3_bitCount_4 ?_
  refine lv_land hx hb dJ3_bitCount_7 ?_
  refine lv_lsub hx hb dJ3_bitCount_8 ?_
  obtain ⟨y1, ey1, hf⟩ := ob hf
  refine x_asL ey1 ?_
  refine lv_lstore_n (lv' := [(0, .long y1)]) hx hb dJ3_bitCount_9 rfl hl (by decide) rfl (fun ls hl => ?_)
  refine lv_lload_n hx hb dJ3_bitCount_10 rfl (lv_at hl 0 rfl) ?_
  refine lv_ldc2 hx hb hown (hts _ q437) dJ3_bitCount_11 ?_
  refine lv_land hx hb dJ3_bitCount_14 ?_
  refine lv_lload_n hx hb dJ3_bitCount_15 rfl (lv_at hl 0 rfl) ?_
  refine lv_iconst (v := 2) hx hb dJ3_bitCount_16 (by decide) ?_
  refine lv_lushr hx hb dJ3_bitCount_17 rfl ?_
  refine lv_ldc2 hx hb hown (hts _ q437) dJ3_bitCount_18 ?_
  refine lv_land hx hb dJ3_bitCount_21 ?_
  refine lv_ladd hx hb dJ3_bitCount_22 ?_
  obtain ⟨y2, ey2, hf⟩ := ob hf
  refine x_asL ey2 ?_
  refine lv_lstore_n (lv' := [(0, .long y2)]) hx hb dJ3_bitCount_23 rfl hl (by decide) rfl (fun ls hl => ?_)
  refine lv_lload_n hx hb dJ3_bitCount_24 rfl (lv_at hl 0 rfl) ?_
  refine lv_lload_n hx hb dJ3_bitCount_25 rfl (lv_at hl 0 rfl) ?_
  refine lv_iconst (v := 4) hx hb dJ3_bitCount_26 (by decide) ?_
  refine lv_lushr hx hb dJ3_bitCount_27 rfl ?_
  refine lv_ladd hx hb dJ3_bitCount_28 ?_
  refine lv_ldc2 hx hb hown (hts _ q438) dJ3_bitCount_29 ?_
  refine lv_land hx hb dJ3_bitCount_32 ?_
  obtain ⟨y3, ey3, hf⟩ := ob hf
  refine x_asL ey3 ?_
  refine lv_lstore_n (lv' := [(0, .long y3)]) hx hb dJ3_bitCount_33 rfl hl (by decide) rfl (fun ls hl => ?_)
  refine lv_lload_n hx hb dJ3_bitCount_34 rfl (lv_at hl 0 rfl) ?_
  refine lv_lload_n hx hb dJ3_bitCount_35 rfl (lv_at hl 0 rfl) ?_
  refine lv_bipush (v := 8) hx hb dJ3_bitCount_36 (by decide) ?_
  refine lv_lushr hx hb dJ3_bitCount_38 rfl ?_
  refine lv_ladd hx hb dJ3_bitCount_39 ?_
  obtain ⟨y4, ey4, hf⟩ := ob hf
  refine x_asL ey4 ?_
  refine lv_lstore_n (lv' := [(0, .long y4)]) hx hb dJ3_bitCount_40 rfl hl (by decide) rfl (fun ls hl => ?_)
  refine lv_lload_n hx hb dJ3_bitCount_41 rfl (lv_at hl 0 rfl) ?_
  refine lv_lload_n hx hb dJ3_bitCount_42 rfl (lv_at hl 0 rfl) ?_
  refine lv_bipush (v := 16) hx hb dJ3_bitCount_43 (by decide) ?_
  refine lv_lushr hx hb dJ3_bitCount_45 rfl ?_
  refine lv_ladd hx hb dJ3_bitCount_46 ?_
  obtain ⟨y5, ey5, hf⟩ := ob hf
  refine x_asL ey5 ?_
  refine lv_lstore_n (lv' := [(0, .long y5)]) hx hb dJ3_bitCount_47 rfl hl (by decide) rfl (fun ls hl => ?_)
  refine lv_lload_n hx hb dJ3_bitCount_48 rfl (lv_at hl 0 rfl) ?_
  refine lv_lload_n hx hb dJ3_bitCount_49 rfl (lv_at hl 0 rfl) ?_
  refine lv_bipush (v := 32) hx hb dJ3_bitCount_50 (by decide) ?_
  refine lv_lushr hx hb dJ3_bitCount_52 rfl ?_
  refine lv_ladd hx hb dJ3_bitCount_53 ?_
  obtain ⟨y6, ey6, hf⟩ := ob hf
  refine x_asL ey6 ?_
  refine lv_lstore_n (lv' := [(0, .long y6)]) hx hb dJ3_bitCount_54 rfl hl (by decide) rfl (fun ls hl => ?_)
  refine lv_lload_n hx hb dJ3_bitCount_55 rfl (lv_at hl 0 rfl) ?_
  refine lv_l2i hx hb dJ3_bitCount_56 rfl ?_
  refine lv_bipush (v := 127) hx hb dJ3_bitCount_57 (by decide) ?_
  refine lv_iand hx hb dJ3_bitCount_59 ?_
  exact rd_iret hx hb hr hlk (Option.some.inj hf) dJ3_bitCount_60

abbrev rmJ13_bitCount : Room := { frames := 0, cells := 0, slots := 0, locals := 0 }
theorem hdJ13_bitCount : yJ13_bitCount.cls ≠ "java/lang/invoke/MethodHandle" ∧ yJ13_bitCount.cls ≠ "java/lang/invoke/VarHandle" ∧ (parseMethodDescriptor yJ13_bitCount.desc).map (fun d => d.parameters.length) = some 1 := by decide +kernel
set_option maxHeartbeats 4000000 in
theorem mJ13_bitCount (l : Launch) (D : va_G) (k : Nat → ClassId) (p1 : Int32) (r : Int32) (hf : fJ13_bitCount p1 = some r) : CtI l yJ13_bitCount cJ13_bitCount 1 rmJ13_bitCount [.int p1] D k [] r := by
  refine rd_start (by decide +kernel) (Nat.le_of_ble_eq_true rfl) ?_
  intro p e s m below meth c ls hx hb hr hlk hml hown hts hP hK hl
  have hl : lv_has ls 1 [(0, .int p1)] := hl
  have hown : s.vm.findClass RJ13 = some m.cls := hown
  unfold fJ13_bitCount at hf
  refine lv_iload_n hx hb dJ13_bitCount_0 rfl (lv_at hl 0 rfl) ?_
  refine lv_iload_n hx hb dJ13_bitCount_1 rfl (lv_at hl 0 rfl) ?_
  refine lv_iconst (v := 1) hx hb dJ13_bitCount_2 (by decide) ?_
  refine lv_iushr hx hb dJ13_bitCount_3 rfl ?_
  refine lv_ldcw hx hb hown (hts _ q929) dJ13_bitCount_4 ?_
  refine lv_iand hx hb dJ13_bitCount_7 ?_
  refine lv_isub hx hb dJ13_bitCount_8 ?_
  obtain ⟨y1, ey1, hf⟩ := ob hf
  refine x_asI ey1 ?_
  refine lv_istore_n (lv' := [(0, .int y1)]) hx hb dJ13_bitCount_9 rfl hl (by decide) rfl (fun ls hl => ?_)
  refine lv_iload_n hx hb dJ13_bitCount_10 rfl (lv_at hl 0 rfl) ?_
  refine lv_ldcw hx hb hown (hts _ q930) dJ13_bitCount_11 ?_
  refine lv_iand hx hb dJ13_bitCount_14 ?_
  refine lv_iload_n hx hb dJ13_bitCount_15 rfl (lv_at hl 0 rfl) ?_
  refine lv_iconst (v := 2) hx hb dJ13_bitCount_16 (by decide) ?_
  refine lv_iushr hx hb dJ13_bitCount_17 rfl ?_
  refine lv_ldcw hx hb hown (hts _ q930) dJ13_bitCount_18 ?_
  refine lv_iand hx hb dJ13_bitCount_21 ?_
  refine lv_iadd hx hb dJ13_bitCount_22 ?_
  obtain ⟨y2, ey2, hf⟩ := ob hf
  refine x_asI ey2 ?_
  refine lv_istore_n (lv' := [(0, .int y2)]) hx hb dJ13_bitCount_23 rfl hl (by decide) rfl (fun ls hl => ?_)
  refine lv_iload_n hx hb dJ13_bitCount_24 rfl (lv_at hl 0 rfl) ?_
  refine lv_iload_n hx hb dJ13_bitCount_25 rfl (lv_at hl 0 rfl) ?_
  refine lv_iconst (v := 4) hx hb dJ13_bitCount_26 (by decide) ?_
  refine lv_iushr hx hb dJ13_bitCount_27 rfl ?_
  refine lv_iadd hx hb dJ13_bitCount_28 ?_
  refine lv_ldcw hx hb hown (hts _ q931) dJ13_bitCount_29 ?_
  refine lv_iand hx hb dJ13_bitCount_32 ?_
  obtain ⟨y3, ey3, hf⟩ := ob hf
  refine x_asI ey3 ?_
  refine lv_istore_n (lv' := [(0, .int y3)]) hx hb dJ13_bitCount_33 rfl hl (by decide) rfl (fun ls hl => ?_)
  refine lv_iload_n hx hb dJ13_bitCount_34 rfl (lv_at hl 0 rfl) ?_
  refine lv_iload_n hx hb dJ13_bitCount_35 rfl (lv_at hl 0 rfl) ?_
  refine lv_bipush (v := 8) hx hb dJ13_bitCount_36 (by decide) ?_
  refine lv_iushr hx hb dJ13_bitCount_38 rfl ?_
  refine lv_iadd hx hb dJ13_bitCount_39 ?_
  obtain ⟨y4, ey4, hf⟩ := ob hf
  refine x_asI ey4 ?_
  refine lv_istore_n (lv' := [(0, .int y4)]) hx hb dJ13_bitCount_40 rfl hl (by decide) rfl (fun ls hl => ?_)
  refine lv_iload_n hx hb dJ13_bitCount_41 rfl (lv_at hl 0 rfl) ?_
  refine lv_iload_n hx hb dJ13_bitCount_42 rfl (lv_at hl 0 rfl) ?_
  refine lv_bipush (v := 16) hx hb dJ13_bitCount_43 (by decide) ?_
  refine lv_iushr hx hb dJ13_bitCount_45 rfl ?_
  refine lv_iadd hx hb dJ13_bitCount_46 ?_
  obtain ⟨y5, ey5, hf⟩ := ob hf
  refine x_asI ey5 ?_
  refine lv_istore_n (lv' := [(0, .int y5)]) hx hb dJ13_bitCount_47 rfl hl (by decide) rfl (fun ls hl => ?_)
  refine lv_iload_n hx hb dJ13_bitCount_48 rfl (lv_at hl 0 rfl) ?_
  refine lv_bipush (v := 63) hx hb dJ13_bitCount_49 (by decide) ?_
  refine lv_iand hx hb dJ13_bitCount_51 ?_
  exact rd_iret hx hb hr hlk (Option.some.inj hf) dJ13_bitCount_52

abbrev rmX1_isOpen : Room := { frames := 0, cells := 0, slots := 0, locals := 0 }
theorem hdX1_isOpen : yX1_isOpen.cls ≠ "java/lang/invoke/MethodHandle" ∧ yX1_isOpen.cls ≠ "java/lang/invoke/VarHandle" ∧ (parseMethodDescriptor yX1_isOpen.desc).map (fun d => d.parameters.length) = some 1 := by decide +kernel
set_option maxHeartbeats 4000000 in
theorem mX1_isOpen (l : Launch) (D : va_G) (k : Nat → ClassId) (a : Nat → Nat) (rs : RS) (p1 : Int32) (r : Int32) (hf : fX1_isOpen rs p1 = some r) : CtZ l yX1_isOpen cX1_isOpen 2 rmX1_isOpen [.ref (a 0), .int p1] D k (wR k a rs) r := by
  refine rd_start (by decide +kernel) (Nat.le_of_ble_eq_true rfl) ?_
  intro p e s m below meth c ls hx hb hr hlk hml hown hts hP hK hl
  have hl : lv_has ls 2 [(0, .ref (a 0)), (1, .int p1)] := hl
  have hown : s.vm.findClass RX1 = some m.cls := hown
  unfold fX1_isOpen at hf
  refine lv_aload_n hx hb dX1_isOpen_0 rfl (lv_at hl 0 rfl) ?_
  refine va_get (D := D) (cl := vwCl) (ci := 1) (v := .ref (a 1)) (C := RX1) (T := TX1) (N := 6) hx hb hts in_X1 hown hK.1 hP 0 rfl rfl 0 (by decide) (hts _ q125) (fun _ h9 => h9) rfl dX1_isOpen_1 ?_
  refine lv_iload_n hx hb dX1_isOpen_4 rfl (lv_at hl 1 rfl) ?_
  refine lv_bipush (v := 64) hx hb dX1_isOpen_5 (by decide) ?_
  refine lv_idiv hx hb dX1_isOpen_7 (by decide) ?_
  obtain ⟨v1, ev1, hf⟩ := ob hf
  refine x_lald hx hb hK hP 1 0 ev1 rfl rfl dX1_isOpen_8 ?_
  refine lv_iload_n hx hb dX1_isOpen_9 rfl (lv_at hl 1 rfl) ?_
  refine lv_bipush (v := 64) hx hb dX1_isOpen_10 (by decide) ?_
  refine lv_irem hx hb dX1_isOpen_12 (by decide) ?_
  refine lv_lushr hx hb dX1_isOpen_13 rfl ?_
  refine lv_lconst (v := 1) hx hb dX1_isOpen_14 (by decide) ?_
  refine lv_land hx hb dX1_isOpen_15 ?_
  refine lv_lconst (v := 1) hx hb dX1_isOpen_16 (by decide) ?_
  refine W.lcmp hx hb dX1_isOpen_17 ?_
  refine lv_if_ne (tgt := 25) hx hb dX1_isOpen_18 (by decide) (fun c2 => ?_) (fun c2 => ?_)
  · have hf := oi_f c2 hf
    refine lv_iconst (v := 0) hx hb dX1_isOpen_25 (by decide) ?_
    exact rd_zret hx hb hr hlk (Or.inl rfl) (Option.some.inj hf) dX1_isOpen_26
  · have hf := oi_t c2 hf
    refine lv_iconst (v := 1) hx hb dX1_isOpen_21 (by decide) ?_
    refine lv_goto (tgt := 26) hx hb dX1_isOpen_22 (by decide) ?_
    exact rd_zret hx hb hr hlk (Or.inr rfl) (Option.some.inj hf) dX1_isOpen_26

abbrev rmX1_step : Room := { frames := 1, cells := 0, slots := 0, locals := 21 }
theorem hdX1_step : yX1_step.cls ≠ "java/lang/invoke/MethodHandle" ∧ yX1_step.cls ≠ "java/lang/invoke/VarHandle" ∧ (parseMethodDescriptor yX1_step.desc).map (fun d => d.parameters.length) = some 1 := by decide +kernel
set_option maxHeartbeats 4000000 in
theorem mX1_step (l : Launch) (D : va_G) (k : Nat → ClassId) (a : Nat → Nat) (rs : RS) (p1 : Int32) (r : Int32) (hf : fX1_step rs p1 = some r) : CtI l yX1_step cX1_step 2 rmX1_step [.ref (a 0), .int p1] D k (wR k a rs) r := by
  refine rd_start (by decide +kernel) (Nat.le_of_ble_eq_true rfl) ?_
  intro p e s m below meth c ls hx hb hr hlk hml hown hts hP hK hl
  have hl : lv_has ls 2 [(0, .ref (a 0)), (1, .int p1)] := hl
  have hown : s.vm.findClass RX1 = some m.cls := hown
  unfold fX1_step at hf
  refine lv_aload_n hx hb dX1_step_0 rfl (lv_at hl 0 rfl) ?_
  refine lv_iload_n hx hb dX1_step_1 rfl (lv_at hl 1 rfl) ?_
  obtain ⟨v1, ev1, hf⟩ := ob hf
  refine rd_callVZ (As := [.int p1]) (rest := []) ⟨hx, hb, hml, hown, hts⟩ (mX1_isOpen l D k a rs p1 _ ev1) (cwV 1 hts (lw_V q183 q184 q185 q91 q186) rfl rfl rfl ⟨rfl, hdX1_isOpen⟩ ⟨Nat.le_of_ble_eq_true rfl, Nat.le_of_ble_eq_true rfl⟩) hK hP [0, 1, 2, 3, 4, 5] rfl 0 1 rfl rfl rfl hl.1 rfl (Nat.le_of_ble_eq_true rfl) dX1_step_2 ⟨Nat.le_of_ble_eq_true rfl, Nat.le_of_ble_eq_true rfl⟩ (fun zv1 => ?_)
  refine lv_if_eq (tgt := 12) hx hb dX1_step_5 (by decide) (fun c3 => ?_) (fun c3 => ?_)
  · have hf := oi_t c3 hf
    refine lv_iconst (v := (-1)) hx hb dX1_step_12 (by decide) ?_
    exact rd_iret hx hb hr hlk (Option.some.inj hf) dX1_step_13
  · have hf := oi_f c3 hf
    refine lv_iconst (v := 1) hx hb dX1_step_8 (by decide) ?_
    refine lv_goto (tgt := 13) hx hb dX1_step_9 (by decide) ?_
    exact rd_iret hx hb hr hlk (Option.some.inj hf) dX1_step_13

abbrev rmX1_comesTo : Room := { frames := 0, cells := 0, slots := 0, locals := 0 }
theorem hdX1_comesTo : yX1_comesTo.cls ≠ "java/lang/invoke/MethodHandle" ∧ yX1_comesTo.cls ≠ "java/lang/invoke/VarHandle" ∧ (parseMethodDescriptor yX1_comesTo.desc).map (fun d => d.parameters.length) = some 3 := by decide +kernel
set_option maxHeartbeats 4000000 in
theorem mX1_comesTo (l : Launch) (D : va_G) (k : Nat → ClassId) (a : Nat → Nat) (rs : RS) (p1 : Int32) (p2 : Int32) (p3 : Int32) (r : Int32) (hf : fX1_comesTo rs p1 p2 p3 = some r) : CtZ l yX1_comesTo cX1_comesTo 4 rmX1_comesTo [.ref (a 0), .int p1, .int p2, .int p3] D k (wR k a rs) r := by
  refine rd_start (by decide +kernel) (Nat.le_of_ble_eq_true rfl) ?_
  intro p e s m below meth c ls hx hb hr hlk hml hown hts hP hK hl
  have hl : lv_has ls 4 [(0, .ref (a 0)), (1, .int p1), (2, .int p2), (3, .int p3)] := hl
  have hown : s.vm.findClass RX1 = some m.cls := hown
  unfold fX1_comesTo at hf
  refine lv_iload_n hx hb dX1_comesTo_0 rfl (lv_at hl 3 rfl) ?_
  refine lv_iload_n hx hb dX1_comesTo_1 rfl (lv_at hl 2 rfl) ?_
  refine lv_aload_n hx hb dX1_comesTo_2 rfl (lv_at hl 0 rfl) ?_
  refine va_get (D := D) (cl := vwCl) (ci := 1) (v := .ref (a 4)) (C := RX1) (T := TX1) (N := 6) hx hb hts in_X1 hown hK.1 hP 0 rfl rfl 4 (by decide) (hts _ q135) (fun _ h9 => h9) rfl dX1_comesTo_3 ?_
  refine lv_iload_n hx hb dX1_comesTo_6 rfl (lv_at hl 1 rfl) ?_
  obtain ⟨v1, ev1, hf⟩ := ob hf
  refine x_sald hx hb hK hP 4 2 ev1 rfl rfl dX1_comesTo_7 ?_
  refine lv_iadd hx hb dX1_comesTo_8 ?_
  refine lv_icmp_lt (tgt := 28) hx hb dX1_comesTo_9 (by decide) (fun c2 => ?_) (fun c2 => ?_)
  · have hf := oi_t c2 hf
    refine lv_iconst (v := 0) hx hb dX1_comesTo_28 (by decide) ?_
    exact rd_zret hx hb hr hlk (Or.inl rfl) (Option.some.inj hf) dX1_comesTo_29
  · have hf := oi_f c2 hf
    refine lv_iload_n hx hb dX1_comesTo_12 rfl (lv_at hl 3 rfl) ?_
    refine lv_iload_n hx hb dX1_comesTo_13 rfl (lv_at hl 2 rfl) ?_
    refine lv_aload_n hx hb dX1_comesTo_14 rfl (lv_at hl 0 rfl) ?_
    refine va_get (D := D) (cl := vwCl) (ci := 1) (v := .ref (a 5)) (C := RX1) (T := TX1) (N := 6) hx hb hts in_X1 hown hK.1 hP 0 rfl rfl 5 (by decide) (hts _ q137) (fun _ h9 => h9) rfl dX1_comesTo_15 ?_
    refine lv_iload_n hx hb dX1_comesTo_18 rfl (lv_at hl 1 rfl) ?_
    obtain ⟨v3, ev3, hf⟩ := ob hf
    refine x_sald hx hb hK hP 5 2 ev3 rfl rfl dX1_comesTo_19 ?_
    refine lv_iadd hx hb dX1_comesTo_20 ?_
    refine lv_icmp_gt (tgt := 28) hx hb dX1_comesTo_21 (by decide) (fun c4 => ?_) (fun c4 => ?_)
    · have hf := oi_t c4 hf
      refine lv_iconst (v := 0) hx hb dX1_comesTo_28 (by decide) ?_
      exact rd_zret hx hb hr hlk (Or.inl rfl) (Option.some.inj hf) dX1_comesTo_29
    · have hf := oi_f c4 hf
      refine lv_iconst (v := 1) hx hb dX1_comesTo_24 (by decide) ?_
      refine lv_goto (tgt := 29) hx hb dX1_comesTo_25 (by decide) ?_
      exact rd_zret hx hb hr hlk (Or.inr rfl) (Option.some.inj hf) dX1_comesTo_29

abbrev rmX1_opens : Room := { frames := 1, cells := 0, slots := 0, locals := 21 }
theorem hdX1_opens : yX1_opens.cls ≠ "java/lang/invoke/MethodHandle" ∧ yX1_opens.cls ≠ "java/lang/invoke/VarHandle" ∧ (parseMethodDescriptor yX1_opens.desc).map (fun d => d.parameters.length) = some 1 := by decide +kernel
set_option maxHeartbeats 4000000 in
theorem mX1_opens (l : Launch) (D : va_G) (k : Nat → ClassId) (a : Nat → Nat) (rs : RS) (p1 : Int32) (r : Int32) (hf : fX1_opens rs p1 = some r) : CtI l yX1_opens cX1_opens 7 rmX1_opens [.ref (a 0), .int p1] D k (wR k a rs) r := by
  refine rd_start (by decide +kernel) (Nat.le_of_ble_eq_true rfl) ?_
  intro p e s m below meth c ls hx hb hr hlk hml hown hts hP hK hl
  have hl : lv_has ls 7 [(0, .ref (a 0)), (1, .int p1)] := hl
  have hown : s.vm.findClass RX1 = some m.cls := hown
  unfold fX1_opens at hf
  refine lv_iconst (v := 0) hx hb dX1_opens_0 (by decide) ?_
  refine lv_istore_n (lv' := [(2, .int (0 : Int32)), (0, .ref (a 0)), (1, .int p1)]) hx hb dX1_opens_1 rfl hl (by decide) rfl (fun ls hl => ?_)
  refine lv_iconst (v := 0) hx hb dX1_opens_2 (by decide) ?_
  refine lv_istore_n (lv' := [(3, .int (0 : Int32)), (2, .int (0 : Int32)), (0, .ref (a 0)), (1, .int p1)]) hx hb dX1_opens_3 rfl hl (by decide) rfl (fun ls hl => ?_)
  have hL4 : ∀ (nn : Nat) (x2_4 : Int32) (x3_4 : Int32), fX1_opens_L4 rs p1 nn x2_4 x3_4 = some r → ∀ ls : Array Slot, lv_has ls 7 [(0, .ref (a 0)), (1, .int p1), (2, .int x2_4), (3, .int x3_4)] → gR p l e rmX1_opens s m [.ref (a 0), .int p1] below meth c (vp_Si (fun x => x = r)) 4 ls [] := by
    intro nn4
    induction nn4 with
    | zero =>
      intro x2_4 x3_4 hf
      rw [fX1_opens_L4] at hf; cases hf
    | succ nn4 ih4 =>
      intro x2_4 x3_4 hf ls hl
      rw [fX1_opens_L4] at hf
      refine lv_iload_n hx hb dX1_opens_4 rfl (lv_at hl 3 rfl) ?_
      refine lv_iconst (v := 2) hx hb dX1_opens_5 (by decide) ?_
      refine lv_icmp_ge (tgt := 68) hx hb dX1_opens_6 (by decide) (fun c1 => ?_) (fun c1 => ?_)
      · have hf := oi_t c1 hf
        refine lv_iload_n hx hb dX1_opens_68 rfl (lv_at hl 2 rfl) ?_
        exact rd_iret hx hb hr hlk (Option.some.inj hf) dX1_opens_69
      · have hf := oi_f c1 hf
        refine lv_iconst (v := 0) hx hb dX1_opens_9 (by decide) ?_
        refine lv_bipush (v := 64) hx hb dX1_opens_10 (by decide) ?_
        refine lv_iload_n hx hb dX1_opens_12 rfl (lv_at hl 1 rfl) ?_
        refine lv_bipush (v := 64) hx hb dX1_opens_13 (by decide) ?_
        refine lv_iload_n hx hb dX1_opens_15 rfl (lv_at hl 3 rfl) ?_
        refine lv_imul hx hb dX1_opens_16 ?_
        refine lv_isub hx hb dX1_opens_17 ?_
        refine x_mmin hx hb (hml.trans hl.1.symm) hown (hts _ q176) (hts _ q177) (hts _ q93) (hts _ q178) (Nat.le_of_ble_eq_true rfl) (Nat.le_of_ble_eq_true rfl) (Nat.le_of_ble_eq_true rfl) (Nat.le_of_ble_eq_true rfl) dX1_opens_18 ?_
        refine x_mmax hx hb (hml.trans hl.1.symm) hown (hts _ q187) (hts _ q188) (hts _ q93) (hts _ q189) (Nat.le_of_ble_eq_true rfl) (Nat.le_of_ble_eq_true rfl) (Nat.le_of_ble_eq_true rfl) (Nat.le_of_ble_eq_true rfl) dX1_opens_21 ?_
        obtain ⟨y2, ey2, hf⟩ := ob hf
        refine x_asI ey2 ?_
        refine lv_istore (lv' := [(4, .int y2), (0, .ref (a 0)), (1, .int p1), (2, .int x2_4), (3, .int x3_4)]) hx hb dX1_opens_24 hl (by decide) rfl (fun ls hl => ?_)
        refine lv_iload hx hb dX1_opens_26 (lv_at hl 0 rfl) ?_
        refine lv_bipush (v := 64) hx hb dX1_opens_28 (by decide) ?_
        have hB45 : ∀ (x2_45 : Int32) (x3_45 : Int32) (s0_45 : Int64), fX1_opens_B45 rs p1 (fX1_opens_L4 rs p1 nn4) x2_45 x3_45 s0_45 = some r → ∀ ls : Array Slot, lv_has ls 7 [(0, .ref (a 0)), (1, .int p1), (2, .int x2_45), (3, .int x3_45)] → gR p l e rmX1_opens s m [.ref (a 0), .int p1] below meth c (vp_Si (fun x => x = r)) 45 ls [.long s0_45] := by
          intro x2_45 x3_45 s0_45 hf ls hl
          unfold fX1_opens_B45 at hf
          refine lv_lstore (lv' := [(5, .long s0_45), (0, .ref (a 0)), (1, .int p1), (2, .int x2_45), (3, .int x3_45)]) hx hb dX1_opens_45 hl (by decide) rfl (fun ls hl => ?_)
          refine lv_iload_n hx hb dX1_opens_47 rfl (lv_at hl 3 rfl) ?_
          refine lv_aload_n hx hb dX1_opens_48 rfl (lv_at hl 1 rfl) ?_
          refine va_get (D := D) (cl := vwCl) (ci := 1) (v := .ref (a 1)) (C := RX1) (T := TX1) (N := 6) hx hb hts in_X1 hown hK.1 hP 0 rfl rfl 0 (by decide) (hts _ q125) (fun _ h9 => h9) rfl dX1_opens_49 ?_
          refine lv_iload_n hx hb dX1_opens_52 rfl (lv_at hl 4 rfl) ?_
          obtain ⟨v4, ev4, hf⟩ := ob hf
          refine x_lald hx hb hK hP 1 0 ev4 rfl rfl dX1_opens_53 ?_
          refine lv_lload hx hb dX1_opens_54 (lv_at hl 0 rfl) ?_
          refine lv_land hx hb dX1_opens_56 ?_
          obtain ⟨v5, ev5, hf⟩ := ob hf
          refine rd_callS (As := [.long (v4 &&& s0_45)]) (rest := [.int x2_45]) ⟨hx, hb, hml, hown, hts⟩ (mJ3_bitCount l D k   (v4 &&& s0_45) _ ev5) (va_cwS 1 hts (lw_S q433 q434 q100 q435) rfl rfl rfl hdJ3_bitCount ⟨Nat.le_of_ble_eq_true rfl, Nat.le_of_ble_eq_true rfl⟩) hK rfl hl.1 rfl (Nat.le_of_ble_eq_true rfl) dX1_opens_57 ⟨Nat.le_of_ble_eq_true rfl, Nat.le_of_ble_eq_true rfl⟩ ?_
          refine lv_iadd hx hb dX1_opens_60 ?_
          obtain ⟨y7, ey7, hf⟩ := ob hf
          refine x_asI ey7 ?_
          refine lv_istore_n (lv' := [(2, .int y7), (5, .long s0_45), (0, .ref (a 0)), (1, .int p1), (3, .int x3_45)]) hx hb dX1_opens_61 rfl hl (by decide) rfl (fun ls hl => ?_)
          refine lv_iinc (v := (x3_45 + 1)) (lv' := [(3, .int (x3_45 + 1)), (2, .int y7), (5, .long s0_45), (0, .ref (a 0)), (1, .int p1)]) hx hb dX1_opens_62 hl (k := 4) rfl rfl (by decide) rfl (fun ls hl => ?_)
          refine lv_goto (tgt := 4) hx hb dX1_opens_65 (by decide) ?_
          exact ih4 y7 (x3_45 + 1) hf ls (lv_sub hl [3, 4, 1, 0] rfl)
        refine lv_icmp_ne (tgt := 39) hx hb dX1_opens_30 (by decide) (fun c3 => ?_) (fun c3 => ?_)
        · have hf := oi_f c3 hf
          refine lv_lconst (v := 1) hx hb dX1_opens_39 (by decide) ?_
          refine lv_iload hx hb dX1_opens_40 (lv_at hl 0 rfl) ?_
          refine lv_lshl hx hb dX1_opens_42 rfl ?_
          refine lv_lconst (v := 1) hx hb dX1_opens_43 (by decide) ?_
          refine lv_lsub hx hb dX1_opens_44 ?_
          exact hB45 x2_4 x3_4 ((((1 : Int64) <<< ((y2).toInt64 &&& 63))) - (1 : Int64)) hf ls (lv_sub hl [1, 2, 3, 4] rfl)
        · have hf := oi_t c3 hf
          refine lv_ldc2 hx hb hown (hts _ q400) dX1_opens_33 ?_
          refine lv_goto (tgt := 45) hx hb dX1_opens_36 (by decide) ?_
          exact hB45 x2_4 x3_4 (-1 : Int64) hf ls (lv_sub hl [1, 2, 3, 4] rfl)
  exact hL4 FU (0 : Int32) (0 : Int32) hf ls (lv_sub hl [2, 3, 1, 0] rfl)

abbrev rmX1_excess : Room := { frames := 2, cells := 0, slots := 0, locals := 47 }
theorem hdX1_excess : yX1_excess.cls ≠ "java/lang/invoke/MethodHandle" ∧ yX1_excess.cls ≠ "java/lang/invoke/VarHandle" ∧ (parseMethodDescriptor yX1_excess.desc).map (fun d => d.parameters.length) = some 1 := by decide +kernel
set_option maxHeartbeats 4000000 in
theorem mX1_excess (l : Launch) (D : va_G) (k : Nat → ClassId) (a : Nat → Nat) (rs : RS) (p1 : Int32) (r : Int32) (hf : fX1_excess rs p1 = some r) : CtI l yX1_excess cX1_excess 2 rmX1_excess [.ref (a 0), .int p1] D k (wR k a rs) r := by
  refine rd_start (by decide +kernel) (Nat.le_of_ble_eq_true rfl) ?_
  intro p e s m below meth c ls hx hb hr hlk hml hown hts hP hK hl
  have hl : lv_has ls 2 [(0, .ref (a 0)), (1, .int p1)] := hl
  have hown : s.vm.findClass RX1 = some m.cls := hown
  unfold fX1_excess at hf
  refine lv_iconst (v := 2) hx hb dX1_excess_0 (by decide) ?_
  refine lv_aload_n hx hb dX1_excess_1 rfl (lv_at hl 0 rfl) ?_
  refine lv_iload_n hx hb dX1_excess_2 rfl (lv_at hl 1 rfl) ?_
  obtain ⟨v1, ev1, hf⟩ := ob hf
  refine rd_callV (As := [.int p1]) (rest := [.int (2 : Int32)]) ⟨hx, hb, hml, hown, hts⟩ (mX1_opens l D k a rs p1 _ ev1) (cwV 1 hts (lw_V q464 q430 q431 q91 q432) rfl rfl rfl ⟨rfl, hdX1_opens⟩ ⟨Nat.le_of_ble_eq_true rfl, Nat.le_of_ble_eq_true rfl⟩) hK hP [0, 1, 2, 3, 4, 5] rfl 0 1 rfl rfl rfl hl.1 rfl (Nat.le_of_ble_eq_true rfl) dX1_excess_3 ⟨Nat.le_of_ble_eq_true rfl, Nat.le_of_ble_eq_true rfl⟩ ?_
  refine lv_imul hx hb dX1_excess_6 ?_
  refine lv_iload_n hx hb dX1_excess_7 rfl (lv_at hl 1 rfl) ?_
  refine lv_isub hx hb dX1_excess_8 ?_
  exact rd_iret hx hb hr hlk (Option.some.inj hf) dX1_excess_9

abbrev rmX1_becomes : Room := { frames := 0, cells := 0, slots := 0, locals := 0 }
theorem hdX1_becomes : yX1_becomes.cls ≠ "java/lang/invoke/MethodHandle" ∧ yX1_becomes.cls ≠ "java/lang/invoke/VarHandle" ∧ (parseMethodDescriptor yX1_becomes.desc).map (fun d => d.parameters.length) = some 2 := by decide +kernel
abbrev qcX1_becomes (D : va_G) (k : Nat → ClassId) (a : Nat → Nat) (rs : RS) (A : Nat → Prop) : Array Value → State → Outcome → State → Prop := va_Qv (fun (_ : Unit) => True) (fun _ t => va_P D vwCl (wR k a rs) t.heap) A
set_option maxHeartbeats 4000000 in
theorem mX1_becomes (l : Launch) (D : va_G) (k : Nat → ClassId) (a : Nat → Nat) (rs : RS) (p1 : Int32) (p2 : Int32) (sz : Nat) (rs_o : RS) (hf : fX1_becomes rs p1 p2 = some rs_o) : Met l yX1_becomes (ws_ yX1_becomes cX1_becomes 5 none) rmX1_becomes (wrP D k (wR k a rs) sz [.ref (a 0), .int p1, .int p2]) (qcX1_becomes D k a rs_o (va_A (wR k a rs) sz)) 0 0 (va_A (wR k a rs) sz) := by
  refine wr_start (Qc := fun A => qcX1_becomes D k a rs_o A) (by decide +kernel) (Nat.le_of_ble_eq_true rfl) ?_
  intro p e s m below meth c ls A hA hx hb hr hlk hml hown hts hP hK hD hl
  have hl : lv_has ls 5 [(0, .ref (a 0)), (1, .int p1), (2, .int p2)] := hl
  have hown : s.vm.findClass RX1 = some m.cls := hown
  have hS : va_S A s.heap s.heap [] := va_S.rf
  suffices hw : ∀ (H : Heap) (locs : List Loc), va_P D vwCl (wR k a rs) H → va_S A s.heap H locs → gW p l e rmX1_becomes s m [.ref (a 0), .int p1, .int p2] below meth c (qcX1_becomes D k a rs_o A) A 0 0 H locs 0 ls [] from hw s.heap [] hP hS
  clear hP hS
  intro H locs hP hS
  unfold fX1_becomes at hf
  refine lv_lconst (v := 1) hx hb dX1_becomes_0 (by decide) ?_
  refine lv_iload_n hx hb dX1_becomes_1 rfl (lv_at hl 1 rfl) ?_
  refine lv_bipush (v := 64) hx hb dX1_becomes_2 (by decide) ?_
  refine lv_irem hx hb dX1_becomes_4 (by decide) ?_
  refine lv_lshl hx hb dX1_becomes_5 rfl ?_
  obtain ⟨y1, ey1, hf⟩ := ob hf
  refine x_asL ey1 ?_
  refine lv_lstore_n (lv' := [(3, .long y1), (0, .ref (a 0)), (1, .int p1), (2, .int p2)]) hx hb dX1_becomes_6 rfl hl (by decide) rfl (fun ls hl => ?_)
  refine lv_aload_n hx hb dX1_becomes_7 rfl (lv_at hl 1 rfl) ?_
  refine va_get (D := D) (cl := vwCl) (ci := 1) (v := .ref (a 1)) (C := RX1) (T := TX1) (N := 6) hx hb hts in_X1 hown hK.1 hP 0 rfl rfl 0 (by decide) (hts _ q125) (fun _ h9 => h9) rfl dX1_becomes_8 ?_
  refine lv_iload_n hx hb dX1_becomes_11 rfl (lv_at hl 2 rfl) ?_
  refine lv_bipush (v := 64) hx hb dX1_becomes_12 (by decide) ?_
  refine lv_idiv hx hb dX1_becomes_14 (by decide) ?_
  refine lv_iload_n hx hb dX1_becomes_15 rfl (lv_at hl 3 rfl) ?_
  have hB48 : ∀ (rs_48 : RS) (s0_48 : Int64) (s1_48 : Int32), ∀ (H : Heap) (locs : List Loc), va_P D vwCl (wR k a rs_48) H → va_D A (wR k a rs_48) → va_S A s.heap H locs → fX1_becomes_B48 p1 p2 rs_48 s0_48 s1_48 = some rs_o → ∀ ls : Array Slot, lv_has ls 5 [] → gW p l e rmX1_becomes s m [.ref (a 0), .int p1, .int p2] below meth c (qcX1_becomes D k a rs_o A) A 0 0 H locs 48 ls [.long s0_48, .int s1_48, .ref (a 1)] := by
    intro rs_48 s0_48 s1_48 H locs hP hD hS hf ls hl
    unfold fX1_becomes_B48 at hf
    obtain ⟨u3, eu3, hf⟩ := ob hf
    refine x_last hx hb hK hP hD hS 1 0 eu3 rfl rfl (wR k a (rsW rs_48 u3)) rfl dX1_becomes_48 (fun H locs hP hD hS => ?_)
    have he1 := Option.some.inj hf
    rw [he1] at hP
    exact wr_vret hx hb hr hlk hP hS dX1_becomes_49
  refine lv_if_eq (tgt := 33) hx hb dX1_becomes_16 (by decide) (fun c2 => ?_) (fun c2 => ?_)
  · have hf := oi_t c2 hf
    refine lv_aload_n hx hb dX1_becomes_33 rfl (lv_at hl 1 rfl) ?_
    refine va_get (D := D) (cl := vwCl) (ci := 1) (v := .ref (a 1)) (C := RX1) (T := TX1) (N := 6) hx hb hts in_X1 hown hK.1 hP 0 rfl rfl 0 (by decide) (hts _ q125) (fun _ h9 => h9) rfl dX1_becomes_34 ?_
    refine lv_iload_n hx hb dX1_becomes_37 rfl (lv_at hl 2 rfl) ?_
    refine lv_bipush (v := 64) hx hb dX1_becomes_38 (by decide) ?_
    refine lv_idiv hx hb dX1_becomes_40 (by decide) ?_
    obtain ⟨v4, ev4, hf⟩ := ob hf
    refine x_lald hx hb hK hP 1 0 ev4 rfl rfl dX1_becomes_41 ?_
    refine lv_lload_n hx hb dX1_becomes_42 rfl (lv_at hl 0 rfl) ?_
    refine lv_ldc2 hx hb hown (hts _ q400) dX1_becomes_43 ?_
    refine lv_lxor hx hb dX1_becomes_46 ?_
    refine lv_land hx hb dX1_becomes_47 ?_
    exact hB48 rs (v4 &&& (y1 ^^^ (-1 : Int64))) (p1 / (64 : Int32)) H locs hP hD hS hf ls (lv_sub hl [] rfl)
  · have hf := oi_f c2 hf
    refine lv_aload_n hx hb dX1_becomes_19 rfl (lv_at hl 1 rfl) ?_
    refine va_get (D := D) (cl := vwCl) (ci := 1) (v := .ref (a 1)) (C := RX1) (T := TX1) (N := 6) hx hb hts in_X1 hown hK.1 hP 0 rfl rfl 0 (by decide) (hts _ q125) (fun _ h9 => h9) rfl dX1_becomes_20 ?_
    refine lv_iload_n hx hb dX1_becomes_23 rfl (lv_at hl 2 rfl) ?_
    refine lv_bipush (v := 64) hx hb dX1_becomes_24 (by decide) ?_
    refine lv_idiv hx hb dX1_becomes_26 (by decide) ?_
    obtain ⟨v5, ev5, hf⟩ := ob hf
    refine x_lald hx hb hK hP 1 0 ev5 rfl rfl dX1_becomes_27 ?_
    refine lv_lload_n hx hb dX1_becomes_28 rfl (lv_at hl 0 rfl) ?_
    refine lv_lor hx hb dX1_becomes_29 ?_
    refine lv_goto (tgt := 48) hx hb dX1_becomes_30 (by decide) ?_
    exact hB48 rs (v5 ||| y1) (p1 / (64 : Int32)) H locs hP hD hS hf ls (lv_sub hl [] rfl)

abbrev rmX1_summarise : Room := { frames := 2, cells := 0, slots := 0, locals := 42 }
theorem hdX1_summarise : yX1_summarise.cls ≠ "java/lang/invoke/MethodHandle" ∧ yX1_summarise.cls ≠ "java/lang/invoke/VarHandle" ∧ (parseMethodDescriptor yX1_summarise.desc).map (fun d => d.parameters.length) = some 1 := by decide +kernel
abbrev qcX1_summarise (D : va_G) (k : Nat → ClassId) (a : Nat → Nat) (rs : RS) (A : Nat → Prop) : Array Value → State → Outcome → State → Prop := va_Qv (fun (_ : Unit) => True) (fun _ t => va_P D vwCl (wR k a rs) t.heap) A
set_option maxHeartbeats 4000000 in
theorem mX1_summarise (l : Launch) (D : va_G) (k : Nat → ClassId) (a : Nat → Nat) (rs : RS) (p1 : Int32) (sz : Nat) (rs_o : RS) (hf : fX1_summarise rs p1 = some rs_o) : Met l yX1_summarise (ws_ yX1_summarise cX1_summarise 6 none) rmX1_summarise (wrP D k (wR k a rs) sz [.ref (a 0), .int p1]) (qcX1_summarise D k a rs_o (va_A (wR k a rs) sz)) 0 0 (va_A (wR k a rs) sz) := by
  refine wr_start (Qc := fun A => qcX1_summarise D k a rs_o A) (by decide +kernel) (Nat.le_of_ble_eq_true rfl) ?_
  intro p e s m below meth c ls A hA hx hb hr hlk hml hown hts hP hK hD hl
  have hl : lv_has ls 6 [(0, .ref (a 0)), (1, .int p1)] := hl
  have hown : s.vm.findClass RX1 = some m.cls := hown
  have hS : va_S A s.heap s.heap [] := va_S.rf
  suffices hw : ∀ (H : Heap) (locs : List Loc), va_P D vwCl (wR k a rs) H → va_S A s.heap H locs → gW p l e rmX1_summarise s m [.ref (a 0), .int p1] below meth c (qcX1_summarise D k a rs_o A) A 0 0 H locs 0 ls [] from hw s.heap [] hP hS
  clear hP hS
  intro H locs hP hS
  unfold fX1_summarise at hf
  refine lv_iconst (v := 0) hx hb dX1_summarise_0 (by decide) ?_
  refine lv_istore_n (lv' := [(2, .int (0 : Int32)), (0, .ref (a 0)), (1, .int p1)]) hx hb dX1_summarise_1 rfl hl (by decide) rfl (fun ls hl => ?_)
  refine lv_sipush (v := 1000) hx hb dX1_summarise_2 (by decide) ?_
  refine lv_istore_n (lv' := [(3, .int (1000 : Int32)), (2, .int (0 : Int32)), (0, .ref (a 0)), (1, .int p1)]) hx hb dX1_summarise_5 rfl hl (by decide) rfl (fun ls hl => ?_)
  refine lv_sipush (v := (-1000)) hx hb dX1_summarise_6 (by decide) ?_
  refine lv_istore (lv' := [(4, .int (-1000 : Int32)), (3, .int (1000 : Int32)), (2, .int (0 : Int32)), (0, .ref (a 0)), (1, .int p1)]) hx hb dX1_summarise_9 hl (by decide) rfl (fun ls hl => ?_)
  refine lv_bipush (v := 16) hx hb dX1_summarise_11 (by decide) ?_
  refine lv_iload_n hx hb dX1_summarise_13 rfl (lv_at hl 4 rfl) ?_
  refine lv_imul hx hb dX1_summarise_14 ?_
  obtain ⟨y1, ey1, hf⟩ := ob hf
  refine x_asI ey1 ?_
  refine lv_istore (lv' := [(5, .int y1), (4, .int (-1000 : Int32)), (3, .int (1000 : Int32)), (2, .int (0 : Int32)), (0, .ref (a 0)), (1, .int p1)]) hx hb dX1_summarise_15 hl (by decide) rfl (fun ls hl => ?_)
  have hL17 : ∀ (nn : Nat) (rs_17 : RS) (x2_17 : Int32) (x3_17 : Int32) (x4_17 : Int32) (x5_17 : Int32), ∀ (H : Heap) (locs : List Loc), va_P D vwCl (wR k a rs_17) H → va_D A (wR k a rs_17) → va_S A s.heap H locs → fX1_summarise_L17 p1 nn rs_17 x2_17 x3_17 x4_17 x5_17 = some rs_o → ∀ ls : Array Slot, lv_has ls 6 [(0, .ref (a 0)), (1, .int p1), (2, .int x2_17), (3, .int x3_17), (4, .int x4_17), (5, .int x5_17)] → gW p l e rmX1_summarise s m [.ref (a 0), .int p1] below meth c (qcX1_summarise D k a rs_o A) A 0 0 H locs 17 ls [] := by
    intro nn17
    induction nn17 with
    | zero =>
      intro rs_17 x2_17 x3_17 x4_17 x5_17 H locs hP hD hS hf
      rw [fX1_summarise_L17] at hf; cases hf
    | succ nn17 ih17 =>
      intro rs_17 x2_17 x3_17 x4_17 x5_17 H locs hP hD hS hf ls hl
      rw [fX1_summarise_L17] at hf
      refine lv_iload hx hb dX1_summarise_17 (lv_at hl 5 rfl) ?_
      refine lv_aload_n hx hb dX1_summarise_19 rfl (lv_at hl 0 rfl) ?_
      refine va_get (D := D) (cl := vwCl) (ci := 1) (v := .int (rP rs_17)) (C := RX1) (T := TX1) (N := 6) hx hb hts in_X1 hown hK.1 hP 0 rfl rfl 1 (by decide) (hts _ q128) (fun _ h9 => h9) rfl dX1_summarise_20 ?_
      refine lv_bipush (v := 16) hx hb dX1_summarise_23 (by decide) ?_
      refine lv_iload_n hx hb dX1_summarise_25 rfl (lv_at hl 1 rfl) ?_
      refine lv_iconst (v := 1) hx hb dX1_summarise_26 (by decide) ?_
      refine lv_iadd hx hb dX1_summarise_27 ?_
      refine lv_imul hx hb dX1_summarise_28 ?_
      refine x_mmin hx hb (hml.trans hl.1.symm) hown (hts _ q176) (hts _ q177) (hts _ q93) (hts _ q178) (Nat.le_of_ble_eq_true rfl) (Nat.le_of_ble_eq_true rfl) (Nat.le_of_ble_eq_true rfl) (Nat.le_of_ble_eq_true rfl) dX1_summarise_29 ?_
      refine lv_icmp_ge (tgt := 64) hx hb dX1_summarise_32 (by decide) (fun c2 => ?_) (fun c2 => ?_)
      · have hf := oi_t c2 hf
        refine lv_aload_n hx hb dX1_summarise_64 rfl (lv_at hl 0 rfl) ?_
        refine va_get (D := D) (cl := vwCl) (ci := 1) (v := .ref (a 3)) (C := RX1) (T := TX1) (N := 6) hx hb hts in_X1 hown hK.1 hP 0 rfl rfl 3 (by decide) (hts _ q133) (fun _ h9 => h9) rfl dX1_summarise_65 ?_
        refine lv_bipush (v := 8) hx hb dX1_summarise_68 (by decide) ?_
        refine lv_iload_n hx hb dX1_summarise_70 rfl (lv_at hl 1 rfl) ?_
        refine lv_iadd hx hb dX1_summarise_71 ?_
        refine lv_iload_n hx hb dX1_summarise_72 rfl (lv_at hl 2 rfl) ?_
        refine lv_i2s hx hb dX1_summarise_73 rfl ?_
        obtain ⟨u3, eu3, hf⟩ := ob hf
        refine x_sast hx hb hK hP hD hS 3 2 eu3 rfl rfl (wR k a (rsG rs_17 u3)) rfl dX1_summarise_74 (fun H locs hP hD hS => ?_)
        refine lv_aload_n hx hb dX1_summarise_75 rfl (lv_at hl 0 rfl) ?_
        refine va_get (D := D) (cl := vwCl) (ci := 1) (v := .ref (a 4)) (C := RX1) (T := TX1) (N := 6) hx hb hts in_X1 hown hK.1 hP 0 rfl rfl 4 (by decide) (hts _ q135) (fun _ h9 => h9) rfl dX1_summarise_76 ?_
        refine lv_bipush (v := 8) hx hb dX1_summarise_79 (by decide) ?_
        refine lv_iload_n hx hb dX1_summarise_81 rfl (lv_at hl 1 rfl) ?_
        refine lv_iadd hx hb dX1_summarise_82 ?_
        refine lv_iload_n hx hb dX1_summarise_83 rfl (lv_at hl 3 rfl) ?_
        refine lv_i2s hx hb dX1_summarise_84 rfl ?_
        obtain ⟨u4, eu4, hf⟩ := ob hf
        refine x_sast hx hb hK hP hD hS 4 2 eu4 rfl rfl (wR k a (rsL (rsG rs_17 u3) u4)) rfl dX1_summarise_85 (fun H locs hP hD hS => ?_)
        refine lv_aload_n hx hb dX1_summarise_86 rfl (lv_at hl 0 rfl) ?_
        refine va_get (D := D) (cl := vwCl) (ci := 1) (v := .ref (a 5)) (C := RX1) (T := TX1) (N := 6) hx hb hts in_X1 hown hK.1 hP 0 rfl rfl 5 (by decide) (hts _ q137) (fun _ h9 => h9) rfl dX1_summarise_87 ?_
        refine lv_bipush (v := 8) hx hb dX1_summarise_90 (by decide) ?_
        refine lv_iload_n hx hb dX1_summarise_92 rfl (lv_at hl 1 rfl) ?_
        refine lv_iadd hx hb dX1_summarise_93 ?_
        refine lv_iload hx hb dX1_summarise_94 (lv_at hl 4 rfl) ?_
        refine lv_i2s hx hb dX1_summarise_96 rfl ?_
        obtain ⟨u5, eu5, hf⟩ := ob hf
        refine x_sast hx hb hK hP hD hS 5 2 eu5 rfl rfl (wR k a (rsH (rsL (rsG rs_17 u3) u4) u5)) rfl dX1_summarise_97 (fun H locs hP hD hS => ?_)
        have he1 := Option.some.inj hf
        rw [he1] at hP
        exact wr_vret hx hb hr hlk hP hS dX1_summarise_98
      · have hf := oi_f c2 hf
        refine lv_iload_n hx hb dX1_summarise_35 rfl (lv_at hl 2 rfl) ?_
        refine lv_aload_n hx hb dX1_summarise_36 rfl (lv_at hl 0 rfl) ?_
        refine lv_iload hx hb dX1_summarise_37 (lv_at hl 5 rfl) ?_
        obtain ⟨v6, ev6, hf⟩ := ob hf
        refine rd_callV (As := [.int x5_17]) (rest := [.int x2_17]) ⟨hx, hb, hml, hown, hts⟩ (mX1_step l D k a rs_17 x5_17 _ ev6) (cwV 1 hts (lw_V q179 q180 q181 q91 q182) rfl rfl rfl ⟨rfl, hdX1_step⟩ ⟨Nat.le_of_ble_eq_true rfl, Nat.le_of_ble_eq_true rfl⟩) hK hP [0, 1, 2, 3, 4, 5] rfl 0 1 rfl rfl rfl hl.1 rfl (Nat.le_of_ble_eq_true rfl) dX1_summarise_39 ⟨Nat.le_of_ble_eq_true rfl, Nat.le_of_ble_eq_true rfl⟩ ?_
        refine lv_iadd hx hb dX1_summarise_42 ?_
        obtain ⟨y8, ey8, hf⟩ := ob hf
        refine x_asI ey8 ?_
        refine lv_istore_n (lv' := [(2, .int y8), (0, .ref (a 0)), (1, .int p1), (3, .int x3_17), (4, .int x4_17), (5, .int x5_17)]) hx hb dX1_summarise_43 rfl hl (by decide) rfl (fun ls hl => ?_)
        refine lv_iload_n hx hb dX1_summarise_44 rfl (lv_at hl 3 rfl) ?_
        refine lv_iload_n hx hb dX1_summarise_45 rfl (lv_at hl 0 rfl) ?_
        refine x_mmin hx hb (hml.trans hl.1.symm) hown (hts _ q176) (hts _ q177) (hts _ q93) (hts _ q178) (Nat.le_of_ble_eq_true rfl) (Nat.le_of_ble_eq_true rfl) (Nat.le_of_ble_eq_true rfl) (Nat.le_of_ble_eq_true rfl) dX1_summarise_46 ?_
        obtain ⟨y9, ey9, hf⟩ := ob hf
        refine x_asI ey9 ?_
        refine lv_istore_n (lv' := [(3, .int y9), (2, .int y8), (0, .ref (a 0)), (1, .int p1), (4, .int x4_17), (5, .int x5_17)]) hx hb dX1_summarise_49 rfl hl (by decide) rfl (fun ls hl => ?_)
        refine lv_iload hx hb dX1_summarise_50 (lv_at hl 4 rfl) ?_
        refine lv_iload_n hx hb dX1_summarise_52 rfl (lv_at hl 1 rfl) ?_
        refine x_mmax hx hb (hml.trans hl.1.symm) hown (hts _ q187) (hts _ q188) (hts _ q93) (hts _ q189) (Nat.le_of_ble_eq_true rfl) (Nat.le_of_ble_eq_true rfl) (Nat.le_of_ble_eq_true rfl) (Nat.le_of_ble_eq_true rfl) dX1_summarise_53 ?_
        obtain ⟨y10, ey10, hf⟩ := ob hf
        refine x_asI ey10 ?_
        refine lv_istore (lv' := [(4, .int y10), (3, .int y9), (2, .int y8), (0, .ref (a 0)), (1, .int p1), (5, .int x5_17)]) hx hb dX1_summarise_56 hl (by decide) rfl (fun ls hl => ?_)
        refine lv_iinc (v := (x5_17 + 1)) (lv' := [(5, .int (x5_17 + 1)), (4, .int y10), (3, .int y9), (2, .int y8), (0, .ref (a 0)), (1, .int p1)]) hx hb dX1_summarise_58 hl (k := 5) rfl rfl (by decide) rfl (fun ls hl => ?_)
        refine lv_goto (tgt := 17) hx hb dX1_summarise_61 (by decide) ?_
        exact ih17 rs_17 y8 y9 y10 (x5_17 + 1) H locs hP hD hS hf ls (lv_sub hl [4, 5, 3, 2, 1, 0] rfl)
  exact hL17 FU rs (0 : Int32) (1000 : Int32) (-1000 : Int32) y1 H locs hP hD hS hf ls (lv_sub hl [4, 5, 3, 2, 1, 0] rfl)

abbrev rmX1_summariseAll : Room := { frames := 3, cells := 0, slots := 0, locals := 67 }
theorem hdX1_summariseAll : yX1_summariseAll.cls ≠ "java/lang/invoke/MethodHandle" ∧ yX1_summariseAll.cls ≠ "java/lang/invoke/VarHandle" ∧ (parseMethodDescriptor yX1_summariseAll.desc).map (fun d => d.parameters.length) = some 0 := by decide +kernel
abbrev qcX1_summariseAll (D : va_G) (k : Nat → ClassId) (a : Nat → Nat) (rs : RS) (A : Nat → Prop) : Array Value → State → Outcome → State → Prop := va_Qv (fun (_ : Unit) => True) (fun _ t => va_P D vwCl (wR k a rs) t.heap) A
set_option maxHeartbeats 4000000 in
theorem mX1_summariseAll (l : Launch) (D : va_G) (k : Nat → ClassId) (a : Nat → Nat) (rs : RS) (sz : Nat) (rs_o : RS) (hf : fX1_summariseAll rs = some rs_o) : Met l yX1_summariseAll (ws_ yX1_summariseAll cX1_summariseAll 2 none) rmX1_summariseAll (wrP D k (wR k a rs) sz [.ref (a 0)]) (qcX1_summariseAll D k a rs_o (va_A (wR k a rs) sz)) 0 0 (va_A (wR k a rs) sz) := by
  refine wr_start (Qc := fun A => qcX1_summariseAll D k a rs_o A) (by decide +kernel) (Nat.le_of_ble_eq_true rfl) ?_
  intro p e s m below meth c ls A hA hx hb hr hlk hml hown hts hP hK hD hl
  have hl : lv_has ls 2 [(0, .ref (a 0))] := hl
  have hown : s.vm.findClass RX1 = some m.cls := hown
  have hS : va_S A s.heap s.heap [] := va_S.rf
  suffices hw : ∀ (H : Heap) (locs : List Loc), va_P D vwCl (wR k a rs) H → va_S A s.heap H locs → gW p l e rmX1_summariseAll s m [.ref (a 0)] below meth c (qcX1_summariseAll D k a rs_o A) A 0 0 H locs 0 ls [] from hw s.heap [] hP hS
  clear hP hS
  intro H locs hP hS
  unfold fX1_summariseAll at hf
  refine lv_iconst (v := 0) hx hb dX1_summariseAll_0 (by decide) ?_
  refine lv_istore_n (lv' := [(1, .int (0 : Int32)), (0, .ref (a 0))]) hx hb dX1_summariseAll_1 rfl hl (by decide) rfl (fun ls hl => ?_)
  have hL2 : ∀ (nn : Nat) (rs_2 : RS) (x1_2 : Int32), ∀ (H : Heap) (locs : List Loc), va_P D vwCl (wR k a rs_2) H → va_D A (wR k a rs_2) → va_S A s.heap H locs → fX1_summariseAll_L2 nn rs_2 x1_2 = some rs_o → ∀ ls : Array Slot, lv_has ls 2 [(0, .ref (a 0)), (1, .int x1_2)] → gW p l e rmX1_summariseAll s m [.ref (a 0)] below meth c (qcX1_summariseAll D k a rs_o A) A 0 0 H locs 2 ls [] := by
    intro nn2
    induction nn2 with
    | zero =>
      intro rs_2 x1_2 H locs hP hD hS hf
      rw [fX1_summariseAll_L2] at hf; cases hf
    | succ nn2 ih2 =>
      intro rs_2 x1_2 H locs hP hD hS hf ls hl
      rw [fX1_summariseAll_L2] at hf
      refine lv_iload_n hx hb dX1_summariseAll_2 rfl (lv_at hl 1 rfl) ?_
      refine lv_bipush (v := 8) hx hb dX1_summariseAll_3 (by decide) ?_
      refine lv_icmp_ge (tgt := 19) hx hb dX1_summariseAll_5 (by decide) (fun c1 => ?_) (fun c1 => ?_)
      · have hf := oi_t c1 hf
        refine lv_bipush (v := 7) hx hb dX1_summariseAll_19 (by decide) ?_
        refine lv_istore_n (lv' := [(1, .int (7 : Int32)), (0, .ref (a 0))]) hx hb dX1_summariseAll_21 rfl hl (by decide) rfl (fun ls hl => ?_)
        have hL22 : ∀ (nn : Nat) (rs_22 : RS) (x1_22 : Int32), ∀ (H : Heap) (locs : List Loc), va_P D vwCl (wR k a rs_22) H → va_D A (wR k a rs_22) → va_S A s.heap H locs → fX1_summariseAll_L22 nn rs_22 x1_22 = some rs_o → ∀ ls : Array Slot, lv_has ls 2 [(0, .ref (a 0)), (1, .int x1_22)] → gW p l e rmX1_summariseAll s m [.ref (a 0)] below meth c (qcX1_summariseAll D k a rs_o A) A 0 0 H locs 22 ls [] := by
          intro nn22
          induction nn22 with
          | zero =>
            intro rs_22 x1_22 H locs hP hD hS hf
            rw [fX1_summariseAll_L22] at hf; cases hf
          | succ nn22 ih22 =>
            intro rs_22 x1_22 H locs hP hD hS hf ls hl
            rw [fX1_summariseAll_L22] at hf
            refine lv_iload_n hx hb dX1_summariseAll_22 rfl (lv_at hl 1 rfl) ?_
            refine lv_if_le (tgt := 132) hx hb dX1_summariseAll_23 (by decide) (fun c2 => ?_) (fun c2 => ?_)
            · have hf := oi_t c2 hf
              have he1 := Option.some.inj hf
              rw [he1] at hP
              exact wr_vret hx hb hr hlk hP hS dX1_summariseAll_132
            · have hf := oi_f c2 hf
              refine lv_aload_n hx hb dX1_summariseAll_26 rfl (lv_at hl 0 rfl) ?_
              refine va_get (D := D) (cl := vwCl) (ci := 1) (v := .ref (a 3)) (C := RX1) (T := TX1) (N := 6) hx hb hts in_X1 hown hK.1 hP 0 rfl rfl 3 (by decide) (hts _ q133) (fun _ h9 => h9) rfl dX1_summariseAll_27 ?_
              refine lv_iload_n hx hb dX1_summariseAll_30 rfl (lv_at hl 1 rfl) ?_
              refine lv_aload_n hx hb dX1_summariseAll_31 rfl (lv_at hl 0 rfl) ?_
              refine va_get (D := D) (cl := vwCl) (ci := 1) (v := .ref (a 3)) (C := RX1) (T := TX1) (N := 6) hx hb hts in_X1 hown hK.1 hP 0 rfl rfl 3 (by decide) (hts _ q133) (fun _ h9 => h9) rfl dX1_summariseAll_32 ?_
              refine lv_iconst (v := 2) hx hb dX1_summariseAll_35 (by decide) ?_
              refine lv_iload_n hx hb dX1_summariseAll_36 rfl (lv_at hl 1 rfl) ?_
              refine lv_imul hx hb dX1_summariseAll_37 ?_
              obtain ⟨v3, ev3, hf⟩ := ob hf
              refine x_sald hx hb hK hP 3 2 ev3 rfl rfl dX1_summariseAll_38 ?_
              refine lv_aload_n hx hb dX1_summariseAll_39 rfl (lv_at hl 0 rfl) ?_
              refine va_get (D := D) (cl := vwCl) (ci := 1) (v := .ref (a 3)) (C := RX1) (T := TX1) (N := 6) hx hb hts in_X1 hown hK.1 hP 0 rfl rfl 3 (by decide) (hts _ q133) (fun _ h9 => h9) rfl dX1_summariseAll_40 ?_
              refine lv_iconst (v := 2) hx hb dX1_summariseAll_43 (by decide) ?_
              refine lv_iload_n hx hb dX1_summariseAll_44 rfl (lv_at hl 1 rfl) ?_
              refine lv_imul hx hb dX1_summariseAll_45 ?_
              refine lv_iconst (v := 1) hx hb dX1_summariseAll_46 (by decide) ?_
              refine lv_iadd hx hb dX1_summariseAll_47 ?_
              obtain ⟨v4, ev4, hf⟩ := ob hf
              refine x_sald hx hb hK hP 3 2 ev4 rfl rfl dX1_summariseAll_48 ?_
              refine lv_iadd hx hb dX1_summariseAll_49 ?_
              refine lv_i2s hx hb dX1_summariseAll_50 rfl ?_
              obtain ⟨u5, eu5, hf⟩ := ob hf
              refine x_sast hx hb hK hP hD hS 3 2 eu5 rfl rfl (wR k a (rsG rs_22 u5)) rfl dX1_summariseAll_51 (fun H locs hP hD hS => ?_)
              refine lv_aload_n hx hb dX1_summariseAll_52 rfl (lv_at hl 0 rfl) ?_
              refine va_get (D := D) (cl := vwCl) (ci := 1) (v := .ref (a 4)) (C := RX1) (T := TX1) (N := 6) hx hb hts in_X1 hown hK.1 hP 0 rfl rfl 4 (by decide) (hts _ q135) (fun _ h9 => h9) rfl dX1_summariseAll_53 ?_
              refine lv_iload_n hx hb dX1_summariseAll_56 rfl (lv_at hl 1 rfl) ?_
              refine lv_aload_n hx hb dX1_summariseAll_57 rfl (lv_at hl 0 rfl) ?_
              refine va_get (D := D) (cl := vwCl) (ci := 1) (v := .ref (a 4)) (C := RX1) (T := TX1) (N := 6) hx hb hts in_X1 hown hK.1 hP 0 rfl rfl 4 (by decide) (hts _ q135) (fun _ h9 => h9) rfl dX1_summariseAll_58 ?_
              refine lv_iconst (v := 2) hx hb dX1_summariseAll_61 (by decide) ?_
              refine lv_iload_n hx hb dX1_summariseAll_62 rfl (lv_at hl 1 rfl) ?_
              refine lv_imul hx hb dX1_summariseAll_63 ?_
              obtain ⟨v6, ev6, hf⟩ := ob hf
              refine x_sald hx hb hK hP 4 2 ev6 rfl rfl dX1_summariseAll_64 ?_
              refine lv_aload_n hx hb dX1_summariseAll_65 rfl (lv_at hl 0 rfl) ?_
              refine va_get (D := D) (cl := vwCl) (ci := 1) (v := .ref (a 3)) (C := RX1) (T := TX1) (N := 6) hx hb hts in_X1 hown hK.1 hP 0 rfl rfl 3 (by decide) (hts _ q133) (fun _ h9 => h9) rfl dX1_summariseAll_66 ?_
              refine lv_iconst (v := 2) hx hb dX1_summariseAll_69 (by decide) ?_
              refine lv_iload_n hx hb dX1_summariseAll_70 rfl (lv_at hl 1 rfl) ?_
              refine lv_imul hx hb dX1_summariseAll_71 ?_
              obtain ⟨v7, ev7, hf⟩ := ob hf
              refine x_sald hx hb hK hP 3 2 ev7 rfl rfl dX1_summariseAll_72 ?_
              refine lv_aload_n hx hb dX1_summariseAll_73 rfl (lv_at hl 0 rfl) ?_
              refine va_get (D := D) (cl := vwCl) (ci := 1) (v := .ref (a 4)) (C := RX1) (T := TX1) (N := 6) hx hb hts in_X1 hown hK.1 hP 0 rfl rfl 4 (by decide) (hts _ q135) (fun _ h9 => h9) rfl dX1_summariseAll_74 ?_
              refine lv_iconst (v := 2) hx hb dX1_summariseAll_77 (by decide) ?_
              refine lv_iload_n hx hb dX1_summariseAll_78 rfl (lv_at hl 1 rfl) ?_
              refine lv_imul hx hb dX1_summariseAll_79 ?_
              refine lv_iconst (v := 1) hx hb dX1_summariseAll_80 (by decide) ?_
              refine lv_iadd hx hb dX1_summariseAll_81 ?_
              obtain ⟨v8, ev8, hf⟩ := ob hf
              refine x_sald hx hb hK hP 4 2 ev8 rfl rfl dX1_summariseAll_82 ?_
              refine lv_iadd hx hb dX1_summariseAll_83 ?_
              refine x_mmin hx hb (hml.trans hl.1.symm) hown (hts _ q176) (hts _ q177) (hts _ q93) (hts _ q178) (Nat.le_of_ble_eq_true rfl) (Nat.le_of_ble_eq_true rfl) (Nat.le_of_ble_eq_true rfl) (Nat.le_of_ble_eq_true rfl) dX1_summariseAll_84 ?_
              refine lv_i2s hx hb dX1_summariseAll_87 rfl ?_
              obtain ⟨u9, eu9, hf⟩ := ob hf
              refine x_sast hx hb hK hP hD hS 4 2 eu9 rfl rfl (wR k a (rsL (rsG rs_22 u5) u9)) rfl dX1_summariseAll_88 (fun H locs hP hD hS => ?_)
              refine lv_aload_n hx hb dX1_summariseAll_89 rfl (lv_at hl 0 rfl) ?_
              refine va_get (D := D) (cl := vwCl) (ci := 1) (v := .ref (a 5)) (C := RX1) (T := TX1) (N := 6) hx hb hts in_X1 hown hK.1 hP 0 rfl rfl 5 (by decide) (hts _ q137) (fun _ h9 => h9) rfl dX1_summariseAll_90 ?_
              refine lv_iload_n hx hb dX1_summariseAll_93 rfl (lv_at hl 1 rfl) ?_
              refine lv_aload_n hx hb dX1_summariseAll_94 rfl (lv_at hl 0 rfl) ?_
              refine va_get (D := D) (cl := vwCl) (ci := 1) (v := .ref (a 5)) (C := RX1) (T := TX1) (N := 6) hx hb hts in_X1 hown hK.1 hP 0 rfl rfl 5 (by decide) (hts _ q137) (fun _ h9 => h9) rfl dX1_summariseAll_95 ?_
              refine lv_iconst (v := 2) hx hb dX1_summariseAll_98 (by decide) ?_
              refine lv_iload_n hx hb dX1_summariseAll_99 rfl (lv_at hl 1 rfl) ?_
              refine lv_imul hx hb dX1_summariseAll_100 ?_
              obtain ⟨v10, ev10, hf⟩ := ob hf
              refine x_sald hx hb hK hP 5 2 ev10 rfl rfl dX1_summariseAll_101 ?_
              refine lv_aload_n hx hb dX1_summariseAll_102 rfl (lv_at hl 0 rfl) ?_
              refine va_get (D := D) (cl := vwCl) (ci := 1) (v := .ref (a 3)) (C := RX1) (T := TX1) (N := 6) hx hb hts in_X1 hown hK.1 hP 0 rfl rfl 3 (by decide) (hts _ q133) (fun _ h9 => h9) rfl dX1_summariseAll_103 ?_
              refine lv_iconst (v := 2) hx hb dX1_summariseAll_106 (by decide) ?_
              refine lv_iload_n hx hb dX1_summariseAll_107 rfl (lv_at hl 1 rfl) ?_
              refine lv_imul hx hb dX1_summariseAll_108 ?_
              obtain ⟨v11, ev11, hf⟩ := ob hf
              refine x_sald hx hb hK hP 3 2 ev11 rfl rfl dX1_summariseAll_109 ?_
              refine lv_aload_n hx hb dX1_summariseAll_110 rfl (lv_at hl 0 rfl) ?_
              refine va_get (D := D) (cl := vwCl) (ci := 1) (v := .ref (a 5)) (C := RX1) (T := TX1) (N := 6) hx hb hts in_X1 hown hK.1 hP 0 rfl rfl 5 (by decide) (hts _ q137) (fun _ h9 => h9) rfl dX1_summariseAll_111 ?_
              refine lv_iconst (v := 2) hx hb dX1_summariseAll_114 (by decide) ?_
              refine lv_iload_n hx hb dX1_summariseAll_115 rfl (lv_at hl 1 rfl) ?_
              refine lv_imul hx hb dX1_summariseAll_116 ?_
              refine lv_iconst (v := 1) hx hb dX1_summariseAll_117 (by decide) ?_
              refine lv_iadd hx hb dX1_summariseAll_118 ?_
              obtain ⟨v12, ev12, hf⟩ := ob hf
              refine x_sald hx hb hK hP 5 2 ev12 rfl rfl dX1_summariseAll_119 ?_
              refine lv_iadd hx hb dX1_summariseAll_120 ?_
              refine x_mmax hx hb (hml.trans hl.1.symm) hown (hts _ q187) (hts _ q188) (hts _ q93) (hts _ q189) (Nat.le_of_ble_eq_true rfl) (Nat.le_of_ble_eq_true rfl) (Nat.le_of_ble_eq_true rfl) (Nat.le_of_ble_eq_true rfl) dX1_summariseAll_121 ?_
              refine lv_i2s hx hb dX1_summariseAll_124 rfl ?_
              obtain ⟨u13, eu13, hf⟩ := ob hf
              refine x_sast hx hb hK hP hD hS 5 2 eu13 rfl rfl (wR k a (rsH (rsL (rsG rs_22 u5) u9) u13)) rfl dX1_summariseAll_125 (fun H locs hP hD hS => ?_)
              refine lv_iinc (v := (x1_22 + (-1))) (lv' := [(1, .int (x1_22 + (-1))), (0, .ref (a 0))]) hx hb dX1_summariseAll_126 hl (k := 1) rfl rfl (by decide) rfl (fun ls hl => ?_)
              refine lv_goto (tgt := 22) hx hb dX1_summariseAll_129 (by decide) ?_
              exact ih22 (rsH (rsL (rsG rs_22 u5) u9) u13) (x1_22 + (-1)) H locs hP hD hS hf ls (lv_sub hl [1, 0] rfl)
        exact hL22 FU rs_2 (7 : Int32) H locs hP hD hS hf ls (lv_sub hl [1, 0] rfl)
      · have hf := oi_f c1 hf
        refine lv_aload_n hx hb dX1_summariseAll_8 rfl (lv_at hl 0 rfl) ?_
        refine lv_iload_n hx hb dX1_summariseAll_9 rfl (lv_at hl 1 rfl) ?_
        obtain ⟨g14, et15, hf⟩ := ob hf
        refine wr_callVv (As := [.int x1_2]) (rest := []) ⟨hx, hb, hml, hown, hts⟩ (mX1_summarise l D k a rs_2 x1_2 _ _ et15) (cwV 1 hts (lw_V q172 q173 q174 q91 q175) rfl rfl rfl ⟨rfl, hdX1_summarise⟩ ⟨Nat.le_of_ble_eq_true rfl, Nat.le_of_ble_eq_true rfl⟩) hK hP hD hS hA [0, 1, 2, 3, 4, 5] [] (wR k a g14) rfl rfl fm_n 6 rfl (by decide) (by decide) [(a 0), (a 1), (a 2), (a 3), (a 4), (a 5)] rfl rfl 0 1 rfl rfl rfl hl.1 rfl (Nat.le_of_ble_eq_true rfl) dX1_summariseAll_10 ⟨Nat.le_of_ble_eq_true rfl, Nat.le_of_ble_eq_true rfl⟩ (fun H locs hP hD hS => ?_)
        refine lv_iinc (v := (x1_2 + 1)) (lv' := [(1, .int (x1_2 + 1)), (0, .ref (a 0))]) hx hb dX1_summariseAll_13 hl (k := 1) rfl rfl (by decide) rfl (fun ls hl => ?_)
        refine lv_goto (tgt := 2) hx hb dX1_summariseAll_16 (by decide) ?_
        exact ih2 g14 (x1_2 + 1) H locs hP hD hS hf ls (lv_sub hl [1, 0] rfl)
  exact hL2 FU rs (0 : Int32) H locs hP hD hS hf ls (lv_sub hl [1, 0] rfl)

abbrev rmX1_as : Room := { frames := 1, cells := 0, slots := 0, locals := 26 }
theorem hdX1_as : yX1_as.cls ≠ "java/lang/invoke/MethodHandle" ∧ yX1_as.cls ≠ "java/lang/invoke/VarHandle" ∧ (parseMethodDescriptor yX1_as.desc).map (fun d => d.parameters.length) = some 1 := by decide +kernel
abbrev qcX1_as (D : va_G) (k : Nat → ClassId) (a : Nat → Nat) (b : Nat → Nat) (rs : RS) (rt : RS) (A : Nat → Prop) : Array Value → State → Outcome → State → Prop := va_Qv (fun (_ : Unit) => True) (fun _ t => va_P D vwCl (wR k a rs ++ wR k b rt) t.heap) A
set_option maxHeartbeats 4000000 in
theorem mX1_as (l : Launch) (D : va_G) (k : Nat → ClassId) (a : Nat → Nat) (b : Nat → Nat) (rs : RS) (rt : RS) (sz : Nat) (rs_o : RS) (hf : fX1_as rs rt = some rs_o) : Met l yX1_as (ws_ yX1_as cX1_as 2 none) rmX1_as (wrP D k (wR k a rs ++ wR k b rt) sz [.ref (a 0), .ref (b 0)]) (qcX1_as D k a b rs_o rt (va_A (wR k a rs ++ wR k b rt) sz)) 0 0 (va_A (wR k a rs ++ wR k b rt) sz) := by
  refine wr_start (Qc := fun A => qcX1_as D k a b rs_o rt A) (by decide +kernel) (Nat.le_of_ble_eq_true rfl) ?_
  intro p e s m below meth c ls A hA hx hb hr hlk hml hown hts hP hK hD hl
  have hl : lv_has ls 2 [(0, .ref (a 0)), (1, .ref (b 0))] := hl
  have hown : s.vm.findClass RX1 = some m.cls := hown
  have hS : va_S A s.heap s.heap [] := va_S.rf
  suffices hw : ∀ (H : Heap) (locs : List Loc), va_P D vwCl (wR k a rs ++ wR k b rt) H → va_S A s.heap H locs → gW p l e rmX1_as s m [.ref (a 0), .ref (b 0)] below meth c (qcX1_as D k a b rs_o rt A) A 0 0 H locs 0 ls [] from hw s.heap [] hP hS
  clear hP hS
  intro H locs hP hS
  unfold fX1_as at hf
  refine lv_aload_n hx hb dX1_as_0 rfl (lv_at hl 1 rfl) ?_
  refine va_get (D := D) (cl := vwCl) (ci := 1) (v := .ref (b 1)) (C := RX1) (T := TX1) (N := 6) hx hb hts in_X1 hown hK.1 hP 6 rfl rfl 0 (by decide) (hts _ q125) (fun _ h9 => h9) rfl dX1_as_1 ?_
  refine lv_iconst (v := 0) hx hb dX1_as_4 (by decide) ?_
  refine lv_aload_n hx hb dX1_as_5 rfl (lv_at hl 0 rfl) ?_
  refine va_get (D := D) (cl := vwCl) (ci := 1) (v := .ref (a 1)) (C := RX1) (T := TX1) (N := 6) hx hb hts in_X1 hown hK.1 hP 0 rfl rfl 0 (by decide) (hts _ q125) (fun _ h9 => h9) rfl dX1_as_6 ?_
  refine lv_iconst (v := 0) hx hb dX1_as_9 (by decide) ?_
  refine lv_iconst (v := 2) hx hb dX1_as_10 (by decide) ?_
  obtain ⟨u1, eu1, hf⟩ := ob hf
  refine x_copyL hx hb (hml.trans hl.1.symm) hown (hts _ q410) (hts _ q412) (hts _ q411) (hts _ q99) hK hP hD hS 7 1 0 eu1 rfl rfl rfl (Nat.le_of_ble_eq_true rfl) (Nat.le_of_ble_eq_true rfl) (wR k a (rsW rs u1) ++ wR k b rt) rfl dX1_as_11 (fun H locs hP hD hS => ?_)
  refine lv_aload_n hx hb dX1_as_14 rfl (lv_at hl 0 rfl) ?_
  refine lv_aload_n hx hb dX1_as_15 rfl (lv_at hl 1 rfl) ?_
  refine va_get (D := D) (cl := vwCl) (ci := 1) (v := .int (rP rt)) (C := RX1) (T := TX1) (N := 6) hx hb hts in_X1 hown hK.1 hP 6 rfl rfl 1 (by decide) (hts _ q128) (fun _ h9 => h9) rfl dX1_as_16 ?_
  refine va_put (D := D) (cl := vwCl) (ci := 1) (v := .int (rP rt)) (ty := .int) (C := RX1) (T := TX1) (N := 6) hx hb hts in_X1 tyX1 tyX1_ok nmX1 hown hK.1 hP hD hS 0 rfl rfl 1 (by decide) (hts _ q128) (fun _ h9 => h9) rfl (by decide +kernel) rfl rfl (Nat.le_of_ble_eq_true rfl) dX1_as_19 (fun H locs hP hD hS => ?_)
  have hP : va_P D vwCl (wR k a (rsP (rsW rs u1) (rP rt)) ++ wR k b rt) H := hP
  have hD : va_D A (wR k a (rsP (rsW rs u1) (rP rt)) ++ wR k b rt) := hD
  refine lv_aload_n hx hb dX1_as_22 rfl (lv_at hl 1 rfl) ?_
  refine va_get (D := D) (cl := vwCl) (ci := 1) (v := .ref (b 2)) (C := RX1) (T := TX1) (N := 6) hx hb hts in_X1 hown hK.1 hP 6 rfl rfl 2 (by decide) (hts _ q130) (fun _ h9 => h9) rfl dX1_as_23 ?_
  refine lv_iconst (v := 0) hx hb dX1_as_26 (by decide) ?_
  refine lv_aload_n hx hb dX1_as_27 rfl (lv_at hl 0 rfl) ?_
  refine va_get (D := D) (cl := vwCl) (ci := 1) (v := .ref (a 2)) (C := RX1) (T := TX1) (N := 6) hx hb hts in_X1 hown hK.1 hP 0 rfl rfl 2 (by decide) (hts _ q130) (fun _ h9 => h9) rfl dX1_as_28 ?_
  refine lv_iconst (v := 0) hx hb dX1_as_31 (by decide) ?_
  refine lv_bipush (v := 64) hx hb dX1_as_32 (by decide) ?_
  obtain ⟨u2, eu2, hf⟩ := ob hf
  refine x_copyI hx hb (hml.trans hl.1.symm) hown (hts _ q410) (hts _ q412) (hts _ q411) (hts _ q99) hK hP hD hS 8 2 1 eu2 rfl rfl rfl (Nat.le_of_ble_eq_true rfl) (Nat.le_of_ble_eq_true rfl) (wR k a (rsT (rsP (rsW rs u1) (rP rt)) u2) ++ wR k b rt) rfl dX1_as_34 (fun H locs hP hD hS => ?_)
  refine lv_aload_n hx hb dX1_as_37 rfl (lv_at hl 1 rfl) ?_
  refine va_get (D := D) (cl := vwCl) (ci := 1) (v := .ref (b 3)) (C := RX1) (T := TX1) (N := 6) hx hb hts in_X1 hown hK.1 hP 6 rfl rfl 3 (by decide) (hts _ q133) (fun _ h9 => h9) rfl dX1_as_38 ?_
  refine lv_iconst (v := 0) hx hb dX1_as_41 (by decide) ?_
  refine lv_aload_n hx hb dX1_as_42 rfl (lv_at hl 0 rfl) ?_
  refine va_get (D := D) (cl := vwCl) (ci := 1) (v := .ref (a 3)) (C := RX1) (T := TX1) (N := 6) hx hb hts in_X1 hown hK.1 hP 0 rfl rfl 3 (by decide) (hts _ q133) (fun _ h9 => h9) rfl dX1_as_43 ?_
  refine lv_iconst (v := 0) hx hb dX1_as_46 (by decide) ?_
  refine lv_bipush (v := 16) hx hb dX1_as_47 (by decide) ?_
  obtain ⟨u3, eu3, hf⟩ := ob hf
  refine x_copyS hx hb (hml.trans hl.1.symm) hown (hts _ q410) (hts _ q412) (hts _ q411) (hts _ q99) hK hP hD hS 9 3 2 eu3 rfl rfl rfl (Nat.le_of_ble_eq_true rfl) (Nat.le_of_ble_eq_true rfl) (wR k a (rsG (rsT (rsP (rsW rs u1) (rP rt)) u2) u3) ++ wR k b rt) rfl dX1_as_49 (fun H locs hP hD hS => ?_)
  refine lv_aload_n hx hb dX1_as_52 rfl (lv_at hl 1 rfl) ?_
  refine va_get (D := D) (cl := vwCl) (ci := 1) (v := .ref (b 4)) (C := RX1) (T := TX1) (N := 6) hx hb hts in_X1 hown hK.1 hP 6 rfl rfl 4 (by decide) (hts _ q135) (fun _ h9 => h9) rfl dX1_as_53 ?_
  refine lv_iconst (v := 0) hx hb dX1_as_56 (by decide) ?_
  refine lv_aload_n hx hb dX1_as_57 rfl (lv_at hl 0 rfl) ?_
  refine va_get (D := D) (cl := vwCl) (ci := 1) (v := .ref (a 4)) (C := RX1) (T := TX1) (N := 6) hx hb hts in_X1 hown hK.1 hP 0 rfl rfl 4 (by decide) (hts _ q135) (fun _ h9 => h9) rfl dX1_as_58 ?_
  refine lv_iconst (v := 0) hx hb dX1_as_61 (by decide) ?_
  refine lv_bipush (v := 16) hx hb dX1_as_62 (by decide) ?_
  obtain ⟨u4, eu4, hf⟩ := ob hf
  refine x_copyS hx hb (hml.trans hl.1.symm) hown (hts _ q410) (hts _ q412) (hts _ q411) (hts _ q99) hK hP hD hS 10 4 2 eu4 rfl rfl rfl (Nat.le_of_ble_eq_true rfl) (Nat.le_of_ble_eq_true rfl) (wR k a (rsL (rsG (rsT (rsP (rsW rs u1) (rP rt)) u2) u3) u4) ++ wR k b rt) rfl dX1_as_64 (fun H locs hP hD hS => ?_)
  refine lv_aload_n hx hb dX1_as_67 rfl (lv_at hl 1 rfl) ?_
  refine va_get (D := D) (cl := vwCl) (ci := 1) (v := .ref (b 5)) (C := RX1) (T := TX1) (N := 6) hx hb hts in_X1 hown hK.1 hP 6 rfl rfl 5 (by decide) (hts _ q137) (fun _ h9 => h9) rfl dX1_as_68 ?_
  refine lv_iconst (v := 0) hx hb dX1_as_71 (by decide) ?_
  refine lv_aload_n hx hb dX1_as_72 rfl (lv_at hl 0 rfl) ?_
  refine va_get (D := D) (cl := vwCl) (ci := 1) (v := .ref (a 5)) (C := RX1) (T := TX1) (N := 6) hx hb hts in_X1 hown hK.1 hP 0 rfl rfl 5 (by decide) (hts _ q137) (fun _ h9 => h9) rfl dX1_as_73 ?_
  refine lv_iconst (v := 0) hx hb dX1_as_76 (by decide) ?_
  refine lv_bipush (v := 16) hx hb dX1_as_77 (by decide) ?_
  obtain ⟨u5, eu5, hf⟩ := ob hf
  refine x_copyS hx hb (hml.trans hl.1.symm) hown (hts _ q410) (hts _ q412) (hts _ q411) (hts _ q99) hK hP hD hS 11 5 2 eu5 rfl rfl rfl (Nat.le_of_ble_eq_true rfl) (Nat.le_of_ble_eq_true rfl) (wR k a (rsH (rsL (rsG (rsT (rsP (rsW rs u1) (rP rt)) u2) u3) u4) u5) ++ wR k b rt) rfl dX1_as_79 (fun H locs hP hD hS => ?_)
  have he1 := Option.some.inj hf
  rw [he1] at hP
  exact wr_vret hx hb hr hlk hP hS dX1_as_82

abbrev rmJ7_fill : Room := { frames := 0, cells := 0, slots := 0, locals := 0 }
theorem hdJ7_fill : yJ7_fill.cls ≠ "java/lang/invoke/MethodHandle" ∧ yJ7_fill.cls ≠ "java/lang/invoke/VarHandle" ∧ (parseMethodDescriptor yJ7_fill.desc).map (fun d => d.parameters.length) = some 2 := by decide +kernel
abbrev qcJ7_fill (D : va_G) (k : Nat → ClassId) (aa : Nat) (al : Nat → Int64) (A : Nat → Prop) : Array Value → State → Outcome → State → Prop := va_Qv (fun (_ : Unit) => True) (fun _ t => va_P D vwCl [(aa, .inl (k 0, 2, .inr (.inl al)))] t.heap) A
set_option maxHeartbeats 4000000 in
theorem mJ7_fill (l : Launch) (D : va_G) (k : Nat → ClassId) (aa : Nat) (al : Nat → Int64) (p2 : Int64) (sz : Nat) (al_o : Nat → Int64) (hf : fJ7_fill al p2 = some al_o) : Met l yJ7_fill (ws_ yJ7_fill cJ7_fill 5 none) rmJ7_fill (wrP D k [(aa, .inl (k 0, 2, .inr (.inl al)))] sz [.ref aa, .long p2]) (qcJ7_fill D k aa al_o (va_A [(aa, .inl (k 0, 2, .inr (.inl al)))] sz)) 0 0 (va_A [(aa, .inl (k 0, 2, .inr (.inl al)))] sz) := by
  refine wr_start (Qc := fun A => qcJ7_fill D k aa al_o A) (by decide +kernel) (Nat.le_of_ble_eq_true rfl) ?_
  intro p e s m below meth c ls A hA hx hb hr hlk hml hown hts hP hK hD hl
  have hl : lv_has ls 5 [(0, .ref aa), (1, .long p2)] := hl
  have hown : s.vm.findClass RJ7 = some m.cls := hown
  have hS : va_S A s.heap s.heap [] := va_S.rf
  suffices hw : ∀ (H : Heap) (locs : List Loc), va_P D vwCl [(aa, .inl (k 0, 2, .inr (.inl al)))] H → va_S A s.heap H locs → gW p l e rmJ7_fill s m [.ref aa, .long p2] below meth c (qcJ7_fill D k aa al_o A) A 0 0 H locs 0 ls [] from hw s.heap [] hP hS
  clear hP hS
  intro H locs hP hS
  unfold fJ7_fill at hf
  refine lv_iconst (v := 0) hx hb dJ7_fill_0 (by decide) ?_
  refine lv_istore_n (lv' := [(3, .int (0 : Int32)), (0, .ref aa), (1, .long p2)]) hx hb dJ7_fill_1 rfl hl (by decide) rfl (fun ls hl => ?_)
  refine lv_aload_n hx hb dJ7_fill_2 rfl (lv_at hl 1 rfl) ?_
  refine va_alen hx hb hK.1 hP 0 0 rfl rfl rfl dJ7_fill_3 ?_
  refine lv_istore (lv' := [(4, .int (2 : Int32)), (3, .int (0 : Int32)), (0, .ref aa), (1, .long p2)]) hx hb dJ7_fill_4 hl (by decide) rfl (fun ls hl => ?_)
  have hL6 : ∀ (nn : Nat) (al_6 : Nat → Int64) (x3_6 : Int32) (x4_6 : Int32), ∀ (H : Heap) (locs : List Loc), va_P D vwCl [(aa, .inl (k 0, 2, .inr (.inl al_6)))] H → va_D A [(aa, .inl (k 0, 2, .inr (.inl al_6)))] → va_S A s.heap H locs → fJ7_fill_L6 p2 nn al_6 x3_6 x4_6 = some al_o → ∀ ls : Array Slot, lv_has ls 5 [(0, .ref aa), (1, .long p2), (3, .int x3_6), (4, .int x4_6)] → gW p l e rmJ7_fill s m [.ref aa, .long p2] below meth c (qcJ7_fill D k aa al_o A) A 0 0 H locs 6 ls [] := by
    intro nn6
    induction nn6 with
    | zero =>
      intro al_6 x3_6 x4_6 H locs hP hD hS hf
      rw [fJ7_fill_L6] at hf; cases hf
    | succ nn6 ih6 =>
      intro al_6 x3_6 x4_6 H locs hP hD hS hf ls hl
      rw [fJ7_fill_L6] at hf
      refine lv_iload_n hx hb dJ7_fill_6 rfl (lv_at hl 2 rfl) ?_
      refine lv_iload hx hb dJ7_fill_7 (lv_at hl 3 rfl) ?_
      refine lv_icmp_ge (tgt := 22) hx hb dJ7_fill_9 (by decide) (fun c1 => ?_) (fun c1 => ?_)
      · have hf := oi_t c1 hf
        have he1 := Option.some.inj hf
        rw [he1] at hP
        exact wr_vret hx hb hr hlk hP hS dJ7_fill_22
      · have hf := oi_f c1 hf
        refine lv_aload_n hx hb dJ7_fill_12 rfl (lv_at hl 0 rfl) ?_
        refine lv_iload_n hx hb dJ7_fill_13 rfl (lv_at hl 2 rfl) ?_
        refine lv_lload_n hx hb dJ7_fill_14 rfl (lv_at hl 1 rfl) ?_
        obtain ⟨u2, eu2, hf⟩ := ob hf
        refine x_last hx hb hK hP hD hS 0 0 eu2 rfl rfl [(aa, .inl (k 0, 2, .inr (.inl u2)))] rfl dJ7_fill_15 (fun H locs hP hD hS => ?_)
        refine lv_iinc (v := (x3_6 + 1)) (lv' := [(3, .int (x3_6 + 1)), (0, .ref aa), (1, .long p2), (4, .int x4_6)]) hx hb dJ7_fill_16 hl (k := 2) rfl rfl (by decide) rfl (fun ls hl => ?_)
        refine lv_goto (tgt := 6) hx hb dJ7_fill_19 (by decide) ?_
        exact ih6 u2 (x3_6 + 1) x4_6 H locs hP hD hS hf ls (lv_sub hl [1, 2, 0, 3] rfl)
  exact hL6 FU al (0 : Int32) (2 : Int32) H locs hP hD hS hf ls (lv_sub hl [2, 3, 1, 0] rfl)

abbrev rmJ7_fill_2 : Room := { frames := 0, cells := 0, slots := 0, locals := 0 }
theorem hdJ7_fill_2 : yJ7_fill_2.cls ≠ "java/lang/invoke/MethodHandle" ∧ yJ7_fill_2.cls ≠ "java/lang/invoke/VarHandle" ∧ (parseMethodDescriptor yJ7_fill_2.desc).map (fun d => d.parameters.length) = some 2 := by decide +kernel
abbrev qcJ7_fill_2 (D : va_G) (k : Nat → ClassId) (aa : Nat) (ai : Nat → Int32) (A : Nat → Prop) : Array Value → State → Outcome → State → Prop := va_Qv (fun (_ : Unit) => True) (fun _ t => va_P D vwCl [(aa, .inl (k 1, 64, .inl ai))] t.heap) A
set_option maxHeartbeats 4000000 in
theorem mJ7_fill_2 (l : Launch) (D : va_G) (k : Nat → ClassId) (aa : Nat) (ai : Nat → Int32) (p2 : Int32) (sz : Nat) (ai_o : Nat → Int32) (hf : fJ7_fill_2 ai p2 = some ai_o) : Met l yJ7_fill_2 (ws_ yJ7_fill_2 cJ7_fill_2 4 none) rmJ7_fill_2 (wrP D k [(aa, .inl (k 1, 64, .inl ai))] sz [.ref aa, .int p2]) (qcJ7_fill_2 D k aa ai_o (va_A [(aa, .inl (k 1, 64, .inl ai))] sz)) 0 0 (va_A [(aa, .inl (k 1, 64, .inl ai))] sz) := by
  refine wr_start (Qc := fun A => qcJ7_fill_2 D k aa ai_o A) (by decide +kernel) (Nat.le_of_ble_eq_true rfl) ?_
  intro p e s m below meth c ls A hA hx hb hr hlk hml hown hts hP hK hD hl
  have hl : lv_has ls 4 [(0, .ref aa), (1, .int p2)] := hl
  have hown : s.vm.findClass RJ7 = some m.cls := hown
  have hS : va_S A s.heap s.heap [] := va_S.rf
  suffices hw : ∀ (H : Heap) (locs : List Loc), va_P D vwCl [(aa, .inl (k 1, 64, .inl ai))] H → va_S A s.heap H locs → gW p l e rmJ7_fill_2 s m [.ref aa, .int p2] below meth c (qcJ7_fill_2 D k aa ai_o A) A 0 0 H locs 0 ls [] from hw s.heap [] hP hS
  clear hP hS
  intro H locs hP hS
  unfold fJ7_fill_2 at hf
  refine lv_iconst (v := 0) hx hb dJ7_fill_2_0 (by decide) ?_
  refine lv_istore_n (lv' := [(2, .int (0 : Int32)), (0, .ref aa), (1, .int p2)]) hx hb dJ7_fill_2_1 rfl hl (by decide) rfl (fun ls hl => ?_)
  refine lv_aload_n hx hb dJ7_fill_2_2 rfl (lv_at hl 1 rfl) ?_
  refine va_alen hx hb hK.1 hP 0 1 rfl rfl rfl dJ7_fill_2_3 ?_
  refine lv_istore_n (lv' := [(3, .int (64 : Int32)), (2, .int (0 : Int32)), (0, .ref aa), (1, .int p2)]) hx hb dJ7_fill_2_4 rfl hl (by decide) rfl (fun ls hl => ?_)
  have hL5 : ∀ (nn : Nat) (ai_5 : Nat → Int32) (x2_5 : Int32) (x3_5 : Int32), ∀ (H : Heap) (locs : List Loc), va_P D vwCl [(aa, .inl (k 1, 64, .inl ai_5))] H → va_D A [(aa, .inl (k 1, 64, .inl ai_5))] → va_S A s.heap H locs → fJ7_fill_2_L5 p2 nn ai_5 x2_5 x3_5 = some ai_o → ∀ ls : Array Slot, lv_has ls 4 [(0, .ref aa), (1, .int p2), (2, .int x2_5), (3, .int x3_5)] → gW p l e rmJ7_fill_2 s m [.ref aa, .int p2] below meth c (qcJ7_fill_2 D k aa ai_o A) A 0 0 H locs 5 ls [] := by
    intro nn5
    induction nn5 with
    | zero =>
      intro ai_5 x2_5 x3_5 H locs hP hD hS hf
      rw [fJ7_fill_2_L5] at hf; cases hf
    | succ nn5 ih5 =>
      intro ai_5 x2_5 x3_5 H locs hP hD hS hf ls hl
      rw [fJ7_fill_2_L5] at hf
      refine lv_iload_n hx hb dJ7_fill_2_5 rfl (lv_at hl 2 rfl) ?_
      refine lv_iload_n hx hb dJ7_fill_2_6 rfl (lv_at hl 3 rfl) ?_
      refine lv_icmp_ge (tgt := 20) hx hb dJ7_fill_2_7 (by decide) (fun c1 => ?_) (fun c1 => ?_)
      · have hf := oi_t c1 hf
        have he1 := Option.some.inj hf
        rw [he1] at hP
        exact wr_vret hx hb hr hlk hP hS dJ7_fill_2_20
      · have hf := oi_f c1 hf
        refine lv_aload_n hx hb dJ7_fill_2_10 rfl (lv_at hl 0 rfl) ?_
        refine lv_iload_n hx hb dJ7_fill_2_11 rfl (lv_at hl 2 rfl) ?_
        refine lv_iload_n hx hb dJ7_fill_2_12 rfl (lv_at hl 1 rfl) ?_
        obtain ⟨u2, eu2, hf⟩ := ob hf
        refine x_iast hx hb hK hP hD hS 0 1 eu2 rfl rfl [(aa, .inl (k 1, 64, .inl u2))] rfl dJ7_fill_2_13 (fun H locs hP hD hS => ?_)
        refine lv_iinc (v := (x2_5 + 1)) (lv' := [(2, .int (x2_5 + 1)), (0, .ref aa), (1, .int p2), (3, .int x3_5)]) hx hb dJ7_fill_2_14 hl (k := 2) rfl rfl (by decide) rfl (fun ls hl => ?_)
        refine lv_goto (tgt := 5) hx hb dJ7_fill_2_17 (by decide) ?_
        exact ih5 u2 (x2_5 + 1) x3_5 H locs hP hD hS hf ls (lv_sub hl [1, 2, 0, 3] rfl)
  exact hL5 FU ai (0 : Int32) (64 : Int32) H locs hP hD hS hf ls (lv_sub hl [2, 3, 1, 0] rfl)
