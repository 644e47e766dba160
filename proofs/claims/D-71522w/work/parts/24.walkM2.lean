/-! walks of the model, by program -/
set_option maxRecDepth 100000
abbrev rmX3_child : Room := { frames := 3, cells := 0, slots := 0, locals := 69 }
theorem hdX3_child : yX3_child.cls ≠ "java/lang/invoke/MethodHandle" ∧ yX3_child.cls ≠ "java/lang/invoke/VarHandle" ∧ (parseMethodDescriptor yX3_child.desc).map (fun d => d.parameters.length) = some 2 := by decide +kernel
set_option maxHeartbeats 4000000 in
theorem mX3_child (l : Launch) (D : va_G) (k : Nat → ClassId) (ma : Nat → Nat) (mi : Nat → Int32) (st : Nat → Int32) (rp : Nat → Int32) (tp : Nat → Int32) (cr : Nat → Int32) (cw : Nat → Int32) (ik : Nat → Int32) (ln : Nat → Int32) (lg : Nat → Int32) (ce : Nat → Int64) (p1 : Int32) (p2 : Int32) (r : Int32) (hf : fX3_child st p1 p2 = some r) : CtI l yX3_child cX3_child 3 rmX3_child [.ref (ma 0), .int p1, .int p2] D k (wM k ma mi st rp tp cr cw ik ln lg ce) r := by
  refine rd_start (by decide +kernel) (Nat.le_of_ble_eq_true rfl) ?_
  intro p e s m below meth c ls hx hb hr hlk hml hown hts hP hK hl
  have hl : lv_has ls 3 [(0, .ref (ma 0)), (1, .int p1), (2, .int p2)] := hl
  have hown : s.vm.findClass RX3 = some m.cls := hown
  unfold fX3_child at hf
  refine lv_aload_n hx hb dX3_child_0 rfl (lv_at hl 0 rfl) ?_
  refine lv_iload_n hx hb dX3_child_1 rfl (lv_at hl 1 rfl) ?_
  obtain ⟨v1, ev1, hf⟩ := ob hf
  refine rd_callVZ (As := [.int p1]) (rest := []) ⟨hx, hb, hml, hown, hts⟩ (mX3_isNode l D k ma mi st rp tp cr cw ik ln lg ce p1 _ ev1) (cwV 1 hts (lw_V q1107 q1109 qs65 q94 q1110) rfl rfl rfl ⟨rfl, hdX3_isNode⟩ ⟨Nat.le_of_ble_eq_true rfl, Nat.le_of_ble_eq_true rfl⟩) hK hP [0, 1, 2, 3, 4, 5, 6, 7, 8, 9] rfl 0 3 rfl rfl rfl hl.1 rfl (Nat.le_of_ble_eq_true rfl) dX3_child_2 ⟨Nat.le_of_ble_eq_true rfl, Nat.le_of_ble_eq_true rfl⟩ (fun zv1 => ?_)
  refine lv_if_eq (tgt := 12) hx hb dX3_child_5 (by decide) (fun c3 => ?_) (fun c3 => ?_)
  · have hf := oi_t c3 hf
    refine lv_iconst (v := (-1)) hx hb dX3_child_12 (by decide) ?_
    refine lv_goto (tgt := 22) hx hb dX3_child_13 (by decide) ?_
    exact rd_iret hx hb hr hlk (Option.some.inj hf) dX3_child_22
  · have hf := oi_f c3 hf
    refine lv_iload_n hx hb dX3_child_8 rfl (lv_at hl 2 rfl) ?_
    refine lv_if_ge (tgt := 16) hx hb dX3_child_9 (by decide) (fun c4 => ?_) (fun c4 => ?_)
    · have hf := oi_t c4 hf
      refine lv_aload_n hx hb dX3_child_16 rfl (lv_at hl 0 rfl) ?_
      refine lv_iload_n hx hb dX3_child_17 rfl (lv_at hl 1 rfl) ?_
      refine lv_iload_n hx hb dX3_child_18 rfl (lv_at hl 2 rfl) ?_
      obtain ⟨v5, ev5, hf⟩ := ob hf
      refine rd_callV (As := [.int p1, .int p2]) (rest := []) ⟨hx, hb, hml, hown, hts⟩ (mX3_childOf l D k ma mi st rp tp cr cw ik ln lg ce p1 p2 _ ev5) (cwV 2 hts (lw_V q1127 q1129 qs70 q94 q1130) rfl rfl rfl ⟨rfl, hdX3_childOf⟩ ⟨Nat.le_of_ble_eq_true rfl, Nat.le_of_ble_eq_true rfl⟩) hK hP [0, 1, 2, 3, 4, 5, 6, 7, 8, 9] rfl 0 3 rfl rfl rfl hl.1 rfl (Nat.le_of_ble_eq_true rfl) dX3_child_19 ⟨Nat.le_of_ble_eq_true rfl, Nat.le_of_ble_eq_true rfl⟩ ?_
      exact rd_iret hx hb hr hlk (Option.some.inj hf) dX3_child_22
    · have hf := oi_f c4 hf
      refine lv_iconst (v := (-1)) hx hb dX3_child_12 (by decide) ?_
      refine lv_goto (tgt := 22) hx hb dX3_child_13 (by decide) ?_
      exact rd_iret hx hb hr hlk (Option.some.inj hf) dX3_child_22

abbrev rmX3_below : Room := { frames := 3, cells := 0, slots := 0, locals := 66 }
theorem hdX3_below : yX3_below.cls ≠ "java/lang/invoke/MethodHandle" ∧ yX3_below.cls ≠ "java/lang/invoke/VarHandle" ∧ (parseMethodDescriptor yX3_below.desc).map (fun d => d.parameters.length) = some 1 := by decide +kernel
set_option maxHeartbeats 4000000 in
theorem mX3_below (l : Launch) (D : va_G) (k : Nat → ClassId) (ma : Nat → Nat) (mi : Nat → Int32) (st : Nat → Int32) (rp : Nat → Int32) (tp : Nat → Int32) (cr : Nat → Int32) (cw : Nat → Int32) (ik : Nat → Int32) (ln : Nat → Int32) (lg : Nat → Int32) (ce : Nat → Int64) (p1 : Int32) (r : Int32) (hf : fX3_below st p1 = some r) : CtI l yX3_below cX3_below 3 rmX3_below [.ref (ma 0), .int p1] D k (wM k ma mi st rp tp cr cw ik ln lg ce) r := by
  refine rd_start (by decide +kernel) (Nat.le_of_ble_eq_true rfl) ?_
  intro p e s m below meth c ls hx hb hr hlk hml hown hts hP hK hl
  have hl : lv_has ls 3 [(0, .ref (ma 0)), (1, .int p1)] := hl
  have hown : s.vm.findClass RX3 = some m.cls := hown
  unfold fX3_below at hf
  refine lv_iconst (v := 0) hx hb dX3_below_0 (by decide) ?_
  refine lv_istore_n (lv' := [(2, .int (0 : Int32)), (0, .ref (ma 0)), (1, .int p1)]) hx hb dX3_below_1 rfl hl (by decide) rfl (fun ls hl => ?_)
  have hL2 : ∀ (nn : Nat) (x2_2 : Int32), fX3_below_L2 st p1 nn x2_2 = some r → ∀ ls : Array Slot, lv_has ls 3 [(0, .ref (ma 0)), (1, .int p1), (2, .int x2_2)] → gR p l e rmX3_below s m [.ref (ma 0), .int p1] below meth c (vp_Si (fun x => x = r)) 2 ls [] := by
    intro nn2
    induction nn2 with
    | zero =>
      intro x2_2 hf
      rw [fX3_below_L2] at hf; cases hf
    | succ nn2 ih2 =>
      intro x2_2 hf ls hl
      rw [fX3_below_L2] at hf
      refine lv_iload_n hx hb dX3_below_2 rfl (lv_at hl 2 rfl) ?_
      refine lv_aload_n hx hb dX3_below_3 rfl (lv_at hl 0 rfl) ?_
      obtain ⟨v1, ev1, hf⟩ := ob hf
      refine rd_callV (As := []) (rest := [.int x2_2]) ⟨hx, hb, hml, hown, hts⟩ (mX3_many l D k ma mi st rp tp cr cw ik ln lg ce  _ ev1) (cwV 0 hts (lw_V q1048 q1050 qs61 q94 q1051) rfl rfl rfl ⟨rfl, hdX3_many⟩ ⟨Nat.le_of_ble_eq_true rfl, Nat.le_of_ble_eq_true rfl⟩) hK hP [0, 1, 2, 3, 4, 5, 6, 7, 8, 9] rfl 0 3 rfl rfl rfl hl.1 rfl (Nat.le_of_ble_eq_true rfl) dX3_below_4 ⟨Nat.le_of_ble_eq_true rfl, Nat.le_of_ble_eq_true rfl⟩ ?_
      refine lv_icmp_ge (tgt := 35) hx hb dX3_below_7 (by decide) (fun c3 => ?_) (fun c3 => ?_)
      · have hf := oi_t c3 hf
        refine lv_iconst (v := (-1)) hx hb dX3_below_35 (by decide) ?_
        exact rd_iret hx hb hr hlk (Option.some.inj hf) dX3_below_36
      · have hf := oi_f c3 hf
        refine lv_aload_n hx hb dX3_below_10 rfl (lv_at hl 0 rfl) ?_
        refine lv_iload_n hx hb dX3_below_11 rfl (lv_at hl 1 rfl) ?_
        obtain ⟨v4, ev4, hf⟩ := ob hf
        refine rd_callVZ (As := [.int p1]) (rest := []) ⟨hx, hb, hml, hown, hts⟩ (mX3_isNode l D k ma mi st rp tp cr cw ik ln lg ce p1 _ ev4) (cwV 1 hts (lw_V q1107 q1109 qs65 q94 q1110) rfl rfl rfl ⟨rfl, hdX3_isNode⟩ ⟨Nat.le_of_ble_eq_true rfl, Nat.le_of_ble_eq_true rfl⟩) hK hP [0, 1, 2, 3, 4, 5, 6, 7, 8, 9] rfl 0 3 rfl rfl rfl hl.1 rfl (Nat.le_of_ble_eq_true rfl) dX3_below_12 ⟨Nat.le_of_ble_eq_true rfl, Nat.le_of_ble_eq_true rfl⟩ (fun zv4 => ?_)
        refine lv_if_eq (tgt := 35) hx hb dX3_below_15 (by decide) (fun c6 => ?_) (fun c6 => ?_)
        · have hf := oi_t c6 hf
          refine lv_iconst (v := (-1)) hx hb dX3_below_35 (by decide) ?_
          exact rd_iret hx hb hr hlk (Option.some.inj hf) dX3_below_36
        · have hf := oi_f c6 hf
          refine lv_aload_n hx hb dX3_below_18 rfl (lv_at hl 0 rfl) ?_
          refine lv_iload_n hx hb dX3_below_19 rfl (lv_at hl 2 rfl) ?_
          obtain ⟨v7, ev7, hf⟩ := ob hf
          refine rd_callV (As := [.int x2_2]) (rest := []) ⟨hx, hb, hml, hown, hts⟩ (mX3_fromBelow l D k ma mi st rp tp cr cw ik ln lg ce x2_2 _ ev7) (cwV 1 hts (lw_V q1155 q1157 qs77 q94 q1158) rfl rfl rfl ⟨rfl, hdX3_fromBelow⟩ ⟨Nat.le_of_ble_eq_true rfl, Nat.le_of_ble_eq_true rfl⟩) hK hP [0, 1, 2, 3, 4, 5, 6, 7, 8, 9] rfl 0 3 rfl rfl rfl hl.1 rfl (Nat.le_of_ble_eq_true rfl) dX3_below_20 ⟨Nat.le_of_ble_eq_true rfl, Nat.le_of_ble_eq_true rfl⟩ ?_
          refine lv_iload_n hx hb dX3_below_23 rfl (lv_at hl 1 rfl) ?_
          refine lv_icmp_ne (tgt := 29) hx hb dX3_below_24 (by decide) (fun c9 => ?_) (fun c9 => ?_)
          · have hf := oi_f c9 hf
            refine lv_iinc (v := (x2_2 + 1)) (lv' := [(2, .int (x2_2 + 1)), (0, .ref (ma 0)), (1, .int p1)]) hx hb dX3_below_29 hl (k := 2) rfl rfl (by decide) rfl (fun ls hl => ?_)
            refine lv_goto (tgt := 2) hx hb dX3_below_32 (by decide) ?_
            exact ih2 (x2_2 + 1) hf ls (lv_sub hl [1, 2, 0] rfl)
          · have hf := oi_t c9 hf
            refine lv_iload_n hx hb dX3_below_27 rfl (lv_at hl 2 rfl) ?_
            exact rd_iret hx hb hr hlk (Option.some.inj hf) dX3_below_28
  exact hL2 FU (0 : Int32) hf ls (lv_sub hl [1, 2, 0] rfl)

abbrev rmX3_up : Room := { frames := 3, cells := 0, slots := 0, locals := 70 }
theorem hdX3_up : yX3_up.cls ≠ "java/lang/invoke/MethodHandle" ∧ yX3_up.cls ≠ "java/lang/invoke/VarHandle" ∧ (parseMethodDescriptor yX3_up.desc).map (fun d => d.parameters.length) = some 2 := by decide +kernel
set_option maxHeartbeats 4000000 in
theorem mX3_up (l : Launch) (D : va_G) (k : Nat → ClassId) (ma : Nat → Nat) (mi : Nat → Int32) (st : Nat → Int32) (rp : Nat → Int32) (tp : Nat → Int32) (cr : Nat → Int32) (cw : Nat → Int32) (ik : Nat → Int32) (ln : Nat → Int32) (lg : Nat → Int32) (ce : Nat → Int64) (p1 : Int32) (p2 : Int32) (r : Int32) (hf : fX3_up st p1 p2 = some r) : CtI l yX3_up cX3_up 3 rmX3_up [.ref (ma 0), .int p1, .int p2] D k (wM k ma mi st rp tp cr cw ik ln lg ce) r := by
  refine rd_start (by decide +kernel) (Nat.le_of_ble_eq_true rfl) ?_
  intro p e s m below meth c ls hx hb hr hlk hml hown hts hP hK hl
  have hl : lv_has ls 3 [(0, .ref (ma 0)), (1, .int p1), (2, .int p2)] := hl
  have hown : s.vm.findClass RX3 = some m.cls := hown
  unfold fX3_up at hf
  refine lv_aload_n hx hb dX3_up_0 rfl (lv_at hl 0 rfl) ?_
  refine lv_iload_n hx hb dX3_up_1 rfl (lv_at hl 1 rfl) ?_
  obtain ⟨v1, ev1, hf⟩ := ob hf
  refine rd_callVZ (As := [.int p1]) (rest := []) ⟨hx, hb, hml, hown, hts⟩ (mX3_isNode l D k ma mi st rp tp cr cw ik ln lg ce p1 _ ev1) (cwV 1 hts (lw_V q1107 q1109 qs65 q94 q1110) rfl rfl rfl ⟨rfl, hdX3_isNode⟩ ⟨Nat.le_of_ble_eq_true rfl, Nat.le_of_ble_eq_true rfl⟩) hK hP [0, 1, 2, 3, 4, 5, 6, 7, 8, 9] rfl 0 3 rfl rfl rfl hl.1 rfl (Nat.le_of_ble_eq_true rfl) dX3_up_2 ⟨Nat.le_of_ble_eq_true rfl, Nat.le_of_ble_eq_true rfl⟩ (fun zv1 => ?_)
  refine lv_if_eq (tgt := 12) hx hb dX3_up_5 (by decide) (fun c3 => ?_) (fun c3 => ?_)
  · have hf := oi_t c3 hf
    refine lv_iconst (v := (-1)) hx hb dX3_up_12 (by decide) ?_
    refine lv_goto (tgt := 22) hx hb dX3_up_13 (by decide) ?_
    exact rd_iret hx hb hr hlk (Option.some.inj hf) dX3_up_22
  · have hf := oi_f c3 hf
    refine lv_iload_n hx hb dX3_up_8 rfl (lv_at hl 2 rfl) ?_
    refine lv_if_ge (tgt := 16) hx hb dX3_up_9 (by decide) (fun c4 => ?_) (fun c4 => ?_)
    · have hf := oi_t c4 hf
      refine lv_aload_n hx hb dX3_up_16 rfl (lv_at hl 0 rfl) ?_
      refine lv_iload_n hx hb dX3_up_17 rfl (lv_at hl 1 rfl) ?_
      refine lv_iload_n hx hb dX3_up_18 rfl (lv_at hl 2 rfl) ?_
      obtain ⟨v5, ev5, hf⟩ := ob hf
      refine rd_callV (As := [.int p1, .int p2]) (rest := []) ⟨hx, hb, hml, hown, hts⟩ (mX3_upFrom l D k ma mi st rp tp cr cw ik ln lg ce p1 p2 _ ev5) (cwV 2 hts (lw_V q1119 q1121 qs68 q94 q1122) rfl rfl rfl ⟨rfl, hdX3_upFrom⟩ ⟨Nat.le_of_ble_eq_true rfl, Nat.le_of_ble_eq_true rfl⟩) hK hP [0, 1, 2, 3, 4, 5, 6, 7, 8, 9] rfl 0 3 rfl rfl rfl hl.1 rfl (Nat.le_of_ble_eq_true rfl) dX3_up_19 ⟨Nat.le_of_ble_eq_true rfl, Nat.le_of_ble_eq_true rfl⟩ ?_
      exact rd_iret hx hb hr hlk (Option.some.inj hf) dX3_up_22
    · have hf := oi_f c4 hf
      refine lv_iconst (v := (-1)) hx hb dX3_up_12 (by decide) ?_
      refine lv_goto (tgt := 22) hx hb dX3_up_13 (by decide) ?_
      exact rd_iret hx hb hr hlk (Option.some.inj hf) dX3_up_22

abbrev rmX3_isAbove : Room := { frames := 2, cells := 0, slots := 0, locals := 45 }
theorem hdX3_isAbove : yX3_isAbove.cls ≠ "java/lang/invoke/MethodHandle" ∧ yX3_isAbove.cls ≠ "java/lang/invoke/VarHandle" ∧ (parseMethodDescriptor yX3_isAbove.desc).map (fun d => d.parameters.length) = some 2 := by decide +kernel
set_option maxHeartbeats 4000000 in
theorem mX3_isAbove (l : Launch) (D : va_G) (k : Nat → ClassId) (ma : Nat → Nat) (mi : Nat → Int32) (st : Nat → Int32) (rp : Nat → Int32) (tp : Nat → Int32) (cr : Nat → Int32) (cw : Nat → Int32) (ik : Nat → Int32) (ln : Nat → Int32) (lg : Nat → Int32) (ce : Nat → Int64) (p1 : Int32) (p2 : Int32) (r : Int32) (hf : fX3_isAbove st p1 p2 = some r) : CtZ l yX3_isAbove cX3_isAbove 3 rmX3_isAbove [.ref (ma 0), .int p1, .int p2] D k (wM k ma mi st rp tp cr cw ik ln lg ce) r := by
  refine rd_start (by decide +kernel) (Nat.le_of_ble_eq_true rfl) ?_
  intro p e s m below meth c ls hx hb hr hlk hml hown hts hP hK hl
  have hl : lv_has ls 3 [(0, .ref (ma 0)), (1, .int p1), (2, .int p2)] := hl
  have hown : s.vm.findClass RX3 = some m.cls := hown
  unfold fX3_isAbove at hf
  refine lv_iload_n hx hb dX3_isAbove_0 rfl (lv_at hl 2 rfl) ?_
  refine lv_iload_n hx hb dX3_isAbove_1 rfl (lv_at hl 1 rfl) ?_
  refine lv_icmp_lt (tgt := 20) hx hb dX3_isAbove_2 (by decide) (fun c1 => ?_) (fun c1 => ?_)
  · have hf := oi_t c1 hf
    refine lv_iconst (v := 0) hx hb dX3_isAbove_20 (by decide) ?_
    exact rd_zret hx hb hr hlk (Or.inl rfl) (Option.some.inj hf) dX3_isAbove_21
  · have hf := oi_f c1 hf
    refine lv_iload_n hx hb dX3_isAbove_5 rfl (lv_at hl 2 rfl) ?_
    refine lv_iload_n hx hb dX3_isAbove_6 rfl (lv_at hl 1 rfl) ?_
    refine lv_aload_n hx hb dX3_isAbove_7 rfl (lv_at hl 0 rfl) ?_
    refine lv_iload_n hx hb dX3_isAbove_8 rfl (lv_at hl 1 rfl) ?_
    obtain ⟨v2, ev2, hf⟩ := ob hf
    refine rd_callV (As := [.int p1]) (rest := [.int p1, .int p2]) ⟨hx, hb, hml, hown, hts⟩ (mX3_sizeOf l D k ma mi st rp tp cr cw ik ln lg ce p1 _ ev2) (cwV 1 hts (lw_V q1131 q1133 qs71 q94 q1134) rfl rfl rfl ⟨rfl, hdX3_sizeOf⟩ ⟨Nat.le_of_ble_eq_true rfl, Nat.le_of_ble_eq_true rfl⟩) hK hP [0, 1, 2, 3, 4, 5, 6, 7, 8, 9] rfl 0 3 rfl rfl rfl hl.1 rfl (Nat.le_of_ble_eq_true rfl) dX3_isAbove_9 ⟨Nat.le_of_ble_eq_true rfl, Nat.le_of_ble_eq_true rfl⟩ ?_
    refine lv_iadd hx hb dX3_isAbove_12 ?_
    refine lv_icmp_ge (tgt := 20) hx hb dX3_isAbove_13 (by decide) (fun c4 => ?_) (fun c4 => ?_)
    · have hf := oi_t c4 hf
      refine lv_iconst (v := 0) hx hb dX3_isAbove_20 (by decide) ?_
      exact rd_zret hx hb hr hlk (Or.inl rfl) (Option.some.inj hf) dX3_isAbove_21
    · have hf := oi_f c4 hf
      refine lv_iconst (v := 1) hx hb dX3_isAbove_16 (by decide) ?_
      refine lv_goto (tgt := 21) hx hb dX3_isAbove_17 (by decide) ?_
      exact rd_zret hx hb hr hlk (Or.inr rfl) (Option.some.inj hf) dX3_isAbove_21

abbrev rmX3_meetOf : Room := { frames := 3, cells := 0, slots := 0, locals := 70 }
theorem hdX3_meetOf : yX3_meetOf.cls ≠ "java/lang/invoke/MethodHandle" ∧ yX3_meetOf.cls ≠ "java/lang/invoke/VarHandle" ∧ (parseMethodDescriptor yX3_meetOf.desc).map (fun d => d.parameters.length) = some 2 := by decide +kernel
set_option maxHeartbeats 4000000 in
theorem mX3_meetOf (l : Launch) (D : va_G) (k : Nat → ClassId) (ma : Nat → Nat) (mi : Nat → Int32) (st : Nat → Int32) (rp : Nat → Int32) (tp : Nat → Int32) (cr : Nat → Int32) (cw : Nat → Int32) (ik : Nat → Int32) (ln : Nat → Int32) (lg : Nat → Int32) (ce : Nat → Int64) (p1 : Int32) (p2 : Int32) (r : Int32) (hf : fX3_meetOf st p1 p2 = some r) : CtI l yX3_meetOf cX3_meetOf 4 rmX3_meetOf [.ref (ma 0), .int p1, .int p2] D k (wM k ma mi st rp tp cr cw ik ln lg ce) r := by
  refine rd_start (by decide +kernel) (Nat.le_of_ble_eq_true rfl) ?_
  intro p e s m below meth c ls hx hb hr hlk hml hown hts hP hK hl
  have hl : lv_has ls 4 [(0, .ref (ma 0)), (1, .int p1), (2, .int p2)] := hl
  have hown : s.vm.findClass RX3 = some m.cls := hown
  unfold fX3_meetOf at hf
  refine lv_iload_n hx hb dX3_meetOf_0 rfl (lv_at hl 1 rfl) ?_
  refine lv_istore_n (lv' := [(3, .int p1), (0, .ref (ma 0)), (1, .int p1), (2, .int p2)]) hx hb dX3_meetOf_1 rfl hl (by decide) rfl (fun ls hl => ?_)
  have hL2 : ∀ (nn : Nat) (x3_2 : Int32), fX3_meetOf_L2 st p1 p2 nn x3_2 = some r → ∀ ls : Array Slot, lv_has ls 4 [(0, .ref (ma 0)), (2, .int p2), (3, .int x3_2)] → gR p l e rmX3_meetOf s m [.ref (ma 0), .int p1, .int p2] below meth c (vp_Si (fun x => x = r)) 2 ls [] := by
    intro nn2
    induction nn2 with
    | zero =>
      intro x3_2 hf
      rw [fX3_meetOf_L2] at hf; cases hf
    | succ nn2 ih2 =>
      intro x3_2 hf ls hl
      rw [fX3_meetOf_L2] at hf
      refine lv_aload_n hx hb dX3_meetOf_2 rfl (lv_at hl 0 rfl) ?_
      refine lv_iload_n hx hb dX3_meetOf_3 rfl (lv_at hl 2 rfl) ?_
      refine lv_iload_n hx hb dX3_meetOf_4 rfl (lv_at hl 1 rfl) ?_
      obtain ⟨v1, ev1, hf⟩ := ob hf
      refine rd_callVZ (As := [.int x3_2, .int p2]) (rest := []) ⟨hx, hb, hml, hown, hts⟩ (mX3_isAbove l D k ma mi st rp tp cr cw ik ln lg ce x3_2 p2 _ ev1) (cwV 2 hts (lw_V q1183 q1185 qs80 q94 q1186) rfl rfl rfl ⟨rfl, hdX3_isAbove⟩ ⟨Nat.le_of_ble_eq_true rfl, Nat.le_of_ble_eq_true rfl⟩) hK hP [0, 1, 2, 3, 4, 5, 6, 7, 8, 9] rfl 0 3 rfl rfl rfl hl.1 rfl (Nat.le_of_ble_eq_true rfl) dX3_meetOf_5 ⟨Nat.le_of_ble_eq_true rfl, Nat.le_of_ble_eq_true rfl⟩ (fun zv1 => ?_)
      refine lv_if_ne (tgt := 21) hx hb dX3_meetOf_8 (by decide) (fun c3 => ?_) (fun c3 => ?_)
      · have hf := oi_f c3 hf
        refine lv_iload_n hx hb dX3_meetOf_21 rfl (lv_at hl 2 rfl) ?_
        exact rd_iret hx hb hr hlk (Option.some.inj hf) dX3_meetOf_22
      · have hf := oi_t c3 hf
        refine lv_aload_n hx hb dX3_meetOf_11 rfl (lv_at hl 0 rfl) ?_
        refine lv_iload_n hx hb dX3_meetOf_12 rfl (lv_at hl 2 rfl) ?_
        refine lv_iconst (v := 1) hx hb dX3_meetOf_13 (by decide) ?_
        obtain ⟨v4, ev4, hf⟩ := ob hf
        refine rd_callV (As := [.int x3_2, .int (1 : Int32)]) (rest := []) ⟨hx, hb, hml, hown, hts⟩ (mX3_upFrom l D k ma mi st rp tp cr cw ik ln lg ce x3_2 (1 : Int32) _ ev4) (cwV 2 hts (lw_V q1119 q1121 qs68 q94 q1122) rfl rfl rfl ⟨rfl, hdX3_upFrom⟩ ⟨Nat.le_of_ble_eq_true rfl, Nat.le_of_ble_eq_true rfl⟩) hK hP [0, 1, 2, 3, 4, 5, 6, 7, 8, 9] rfl 0 3 rfl rfl rfl hl.1 rfl (Nat.le_of_ble_eq_true rfl) dX3_meetOf_14 ⟨Nat.le_of_ble_eq_true rfl, Nat.le_of_ble_eq_true rfl⟩ ?_
        refine lv_istore_n (lv' := [(3, .int v4), (0, .ref (ma 0)), (2, .int p2)]) hx hb dX3_meetOf_17 rfl hl (by decide) rfl (fun ls hl => ?_)
        refine lv_goto (tgt := 2) hx hb dX3_meetOf_18 (by decide) ?_
        exact ih2 v4 hf ls (lv_sub hl [1, 2, 0] rfl)
  exact hL2 FU p1 hf ls (lv_sub hl [1, 3, 0] rfl)

abbrev rmX3_meet : Room := { frames := 4, cells := 0, slots := 0, locals := 93 }
theorem hdX3_meet : yX3_meet.cls ≠ "java/lang/invoke/MethodHandle" ∧ yX3_meet.cls ≠ "java/lang/invoke/VarHandle" ∧ (parseMethodDescriptor yX3_meet.desc).map (fun d => d.parameters.length) = some 2 := by decide +kernel
set_option maxHeartbeats 4000000 in
theorem mX3_meet (l : Launch) (D : va_G) (k : Nat → ClassId) (ma : Nat → Nat) (mi : Nat → Int32) (st : Nat → Int32) (rp : Nat → Int32) (tp : Nat → Int32) (cr : Nat → Int32) (cw : Nat → Int32) (ik : Nat → Int32) (ln : Nat → Int32) (lg : Nat → Int32) (ce : Nat → Int64) (p1 : Int32) (p2 : Int32) (r : Int32) (hf : fX3_meet st p1 p2 = some r) : CtI l yX3_meet cX3_meet 3 rmX3_meet [.ref (ma 0), .int p1, .int p2] D k (wM k ma mi st rp tp cr cw ik ln lg ce) r := by
  refine rd_start (by decide +kernel) (Nat.le_of_ble_eq_true rfl) ?_
  intro p e s m below meth c ls hx hb hr hlk hml hown hts hP hK hl
  have hl : lv_has ls 3 [(0, .ref (ma 0)), (1, .int p1), (2, .int p2)] := hl
  have hown : s.vm.findClass RX3 = some m.cls := hown
  unfold fX3_meet at hf
  refine lv_aload_n hx hb dX3_meet_0 rfl (lv_at hl 0 rfl) ?_
  refine lv_iload_n hx hb dX3_meet_1 rfl (lv_at hl 1 rfl) ?_
  obtain ⟨v1, ev1, hf⟩ := ob hf
  refine rd_callVZ (As := [.int p1]) (rest := []) ⟨hx, hb, hml, hown, hts⟩ (mX3_isNode l D k ma mi st rp tp cr cw ik ln lg ce p1 _ ev1) (cwV 1 hts (lw_V q1107 q1109 qs65 q94 q1110) rfl rfl rfl ⟨rfl, hdX3_isNode⟩ ⟨Nat.le_of_ble_eq_true rfl, Nat.le_of_ble_eq_true rfl⟩) hK hP [0, 1, 2, 3, 4, 5, 6, 7, 8, 9] rfl 0 3 rfl rfl rfl hl.1 rfl (Nat.le_of_ble_eq_true rfl) dX3_meet_2 ⟨Nat.le_of_ble_eq_true rfl, Nat.le_of_ble_eq_true rfl⟩ (fun zv1 => ?_)
  refine lv_if_eq (tgt := 25) hx hb dX3_meet_5 (by decide) (fun c3 => ?_) (fun c3 => ?_)
  · have hf := oi_t c3 hf
    refine lv_iconst (v := (-1)) hx hb dX3_meet_25 (by decide) ?_
    exact rd_iret hx hb hr hlk (Option.some.inj hf) dX3_meet_26
  · have hf := oi_f c3 hf
    refine lv_aload_n hx hb dX3_meet_8 rfl (lv_at hl 0 rfl) ?_
    refine lv_iload_n hx hb dX3_meet_9 rfl (lv_at hl 2 rfl) ?_
    obtain ⟨v4, ev4, hf⟩ := ob hf
    refine rd_callVZ (As := [.int p2]) (rest := []) ⟨hx, hb, hml, hown, hts⟩ (mX3_isNode l D k ma mi st rp tp cr cw ik ln lg ce p2 _ ev4) (cwV 1 hts (lw_V q1107 q1109 qs65 q94 q1110) rfl rfl rfl ⟨rfl, hdX3_isNode⟩ ⟨Nat.le_of_ble_eq_true rfl, Nat.le_of_ble_eq_true rfl⟩) hK hP [0, 1, 2, 3, 4, 5, 6, 7, 8, 9] rfl 0 3 rfl rfl rfl hl.1 rfl (Nat.le_of_ble_eq_true rfl) dX3_meet_10 ⟨Nat.le_of_ble_eq_true rfl, Nat.le_of_ble_eq_true rfl⟩ (fun zv4 => ?_)
    refine lv_if_eq (tgt := 25) hx hb dX3_meet_13 (by decide) (fun c6 => ?_) (fun c6 => ?_)
    · have hf := oi_t c6 hf
      refine lv_iconst (v := (-1)) hx hb dX3_meet_25 (by decide) ?_
      exact rd_iret hx hb hr hlk (Option.some.inj hf) dX3_meet_26
    · have hf := oi_f c6 hf
      refine lv_aload_n hx hb dX3_meet_16 rfl (lv_at hl 0 rfl) ?_
      refine lv_iload_n hx hb dX3_meet_17 rfl (lv_at hl 1 rfl) ?_
      refine lv_iload_n hx hb dX3_meet_18 rfl (lv_at hl 2 rfl) ?_
      obtain ⟨v7, ev7, hf⟩ := ob hf
      refine rd_callV (As := [.int p1, .int p2]) (rest := []) ⟨hx, hb, hml, hown, hts⟩ (mX3_meetOf l D k ma mi st rp tp cr cw ik ln lg ce p1 p2 _ ev7) (cwV 2 hts (lw_V q1179 q1181 qs79 q94 q1182) rfl rfl rfl ⟨rfl, hdX3_meetOf⟩ ⟨Nat.le_of_ble_eq_true rfl, Nat.le_of_ble_eq_true rfl⟩) hK hP [0, 1, 2, 3, 4, 5, 6, 7, 8, 9] rfl 0 3 rfl rfl rfl hl.1 rfl (Nat.le_of_ble_eq_true rfl) dX3_meet_19 ⟨Nat.le_of_ble_eq_true rfl, Nat.le_of_ble_eq_true rfl⟩ ?_
      refine lv_goto (tgt := 26) hx hb dX3_meet_22 (by decide) ?_
      exact rd_iret hx hb hr hlk (Option.some.inj hf) dX3_meet_26

abbrev rmX3_way : Room := { frames := 4, cells := 0, slots := 0, locals := 93 }
theorem hdX3_way : yX3_way.cls ≠ "java/lang/invoke/MethodHandle" ∧ yX3_way.cls ≠ "java/lang/invoke/VarHandle" ∧ (parseMethodDescriptor yX3_way.desc).map (fun d => d.parameters.length) = some 2 := by decide +kernel
set_option maxHeartbeats 4000000 in
theorem mX3_way (l : Launch) (D : va_G) (k : Nat → ClassId) (ma : Nat → Nat) (mi : Nat → Int32) (st : Nat → Int32) (rp : Nat → Int32) (tp : Nat → Int32) (cr : Nat → Int32) (cw : Nat → Int32) (ik : Nat → Int32) (ln : Nat → Int32) (lg : Nat → Int32) (ce : Nat → Int64) (p1 : Int32) (p2 : Int32) (r : Int32) (hf : fX3_way st p1 p2 = some r) : CtI l yX3_way cX3_way 3 rmX3_way [.ref (ma 0), .int p1, .int p2] D k (wM k ma mi st rp tp cr cw ik ln lg ce) r := by
  refine rd_start (by decide +kernel) (Nat.le_of_ble_eq_true rfl) ?_
  intro p e s m below meth c ls hx hb hr hlk hml hown hts hP hK hl
  have hl : lv_has ls 3 [(0, .ref (ma 0)), (1, .int p1), (2, .int p2)] := hl
  have hown : s.vm.findClass RX3 = some m.cls := hown
  unfold fX3_way at hf
  refine lv_aload_n hx hb dX3_way_0 rfl (lv_at hl 0 rfl) ?_
  refine lv_iload_n hx hb dX3_way_1 rfl (lv_at hl 1 rfl) ?_
  obtain ⟨v1, ev1, hf⟩ := ob hf
  refine rd_callVZ (As := [.int p1]) (rest := []) ⟨hx, hb, hml, hown, hts⟩ (mX3_isNode l D k ma mi st rp tp cr cw ik ln lg ce p1 _ ev1) (cwV 1 hts (lw_V q1107 q1109 qs65 q94 q1110) rfl rfl rfl ⟨rfl, hdX3_isNode⟩ ⟨Nat.le_of_ble_eq_true rfl, Nat.le_of_ble_eq_true rfl⟩) hK hP [0, 1, 2, 3, 4, 5, 6, 7, 8, 9] rfl 0 3 rfl rfl rfl hl.1 rfl (Nat.le_of_ble_eq_true rfl) dX3_way_2 ⟨Nat.le_of_ble_eq_true rfl, Nat.le_of_ble_eq_true rfl⟩ (fun zv1 => ?_)
  refine lv_if_eq (tgt := 43) hx hb dX3_way_5 (by decide) (fun c3 => ?_) (fun c3 => ?_)
  · have hf := oi_t c3 hf
    refine lv_iconst (v := (-1)) hx hb dX3_way_43 (by decide) ?_
    exact rd_iret hx hb hr hlk (Option.some.inj hf) dX3_way_44
  · have hf := oi_f c3 hf
    refine lv_aload_n hx hb dX3_way_8 rfl (lv_at hl 0 rfl) ?_
    refine lv_iload_n hx hb dX3_way_9 rfl (lv_at hl 2 rfl) ?_
    obtain ⟨v4, ev4, hf⟩ := ob hf
    refine rd_callVZ (As := [.int p2]) (rest := []) ⟨hx, hb, hml, hown, hts⟩ (mX3_isNode l D k ma mi st rp tp cr cw ik ln lg ce p2 _ ev4) (cwV 1 hts (lw_V q1107 q1109 qs65 q94 q1110) rfl rfl rfl ⟨rfl, hdX3_isNode⟩ ⟨Nat.le_of_ble_eq_true rfl, Nat.le_of_ble_eq_true rfl⟩) hK hP [0, 1, 2, 3, 4, 5, 6, 7, 8, 9] rfl 0 3 rfl rfl rfl hl.1 rfl (Nat.le_of_ble_eq_true rfl) dX3_way_10 ⟨Nat.le_of_ble_eq_true rfl, Nat.le_of_ble_eq_true rfl⟩ (fun zv4 => ?_)
    refine lv_if_eq (tgt := 43) hx hb dX3_way_13 (by decide) (fun c6 => ?_) (fun c6 => ?_)
    · have hf := oi_t c6 hf
      refine lv_iconst (v := (-1)) hx hb dX3_way_43 (by decide) ?_
      exact rd_iret hx hb hr hlk (Option.some.inj hf) dX3_way_44
    · have hf := oi_f c6 hf
      refine lv_aload_n hx hb dX3_way_16 rfl (lv_at hl 0 rfl) ?_
      refine lv_iload_n hx hb dX3_way_17 rfl (lv_at hl 1 rfl) ?_
      obtain ⟨v7, ev7, hf⟩ := ob hf
      refine rd_callV (As := [.int p1]) (rest := []) ⟨hx, hb, hml, hown, hts⟩ (mX3_depthOf l D k ma mi st rp tp cr cw ik ln lg ce p1 _ ev7) (cwV 1 hts (lw_V q1123 q1125 qs69 q94 q1126) rfl rfl rfl ⟨rfl, hdX3_depthOf⟩ ⟨Nat.le_of_ble_eq_true rfl, Nat.le_of_ble_eq_true rfl⟩) hK hP [0, 1, 2, 3, 4, 5, 6, 7, 8, 9] rfl 0 3 rfl rfl rfl hl.1 rfl (Nat.le_of_ble_eq_true rfl) dX3_way_18 ⟨Nat.le_of_ble_eq_true rfl, Nat.le_of_ble_eq_true rfl⟩ ?_
      refine lv_aload_n hx hb dX3_way_21 rfl (lv_at hl 0 rfl) ?_
      refine lv_iload_n hx hb dX3_way_22 rfl (lv_at hl 2 rfl) ?_
      obtain ⟨v9, ev9, hf⟩ := ob hf
      refine rd_callV (As := [.int p2]) (rest := [.int v7]) ⟨hx, hb, hml, hown, hts⟩ (mX3_depthOf l D k ma mi st rp tp cr cw ik ln lg ce p2 _ ev9) (cwV 1 hts (lw_V q1123 q1125 qs69 q94 q1126) rfl rfl rfl ⟨rfl, hdX3_depthOf⟩ ⟨Nat.le_of_ble_eq_true rfl, Nat.le_of_ble_eq_true rfl⟩) hK hP [0, 1, 2, 3, 4, 5, 6, 7, 8, 9] rfl 0 3 rfl rfl rfl hl.1 rfl (Nat.le_of_ble_eq_true rfl) dX3_way_23 ⟨Nat.le_of_ble_eq_true rfl, Nat.le_of_ble_eq_true rfl⟩ ?_
      refine lv_iadd hx hb dX3_way_26 ?_
      refine lv_iconst (v := 2) hx hb dX3_way_27 (by decide) ?_
      refine lv_aload_n hx hb dX3_way_28 rfl (lv_at hl 0 rfl) ?_
      refine lv_aload_n hx hb dX3_way_29 rfl (lv_at hl 0 rfl) ?_
      refine lv_iload_n hx hb dX3_way_30 rfl (lv_at hl 1 rfl) ?_
      refine lv_iload_n hx hb dX3_way_31 rfl (lv_at hl 2 rfl) ?_
      obtain ⟨v11, ev11, hf⟩ := ob hf
      refine rd_callV (As := [.int p1, .int p2]) (rest := [.ref (ma 0), .int (2 : Int32), .int (v7 + v9)]) ⟨hx, hb, hml, hown, hts⟩ (mX3_meetOf l D k ma mi st rp tp cr cw ik ln lg ce p1 p2 _ ev11) (cwV 2 hts (lw_V q1179 q1181 qs79 q94 q1182) rfl rfl rfl ⟨rfl, hdX3_meetOf⟩ ⟨Nat.le_of_ble_eq_true rfl, Nat.le_of_ble_eq_true rfl⟩) hK hP [0, 1, 2, 3, 4, 5, 6, 7, 8, 9] rfl 0 3 rfl rfl rfl hl.1 rfl (Nat.le_of_ble_eq_true rfl) dX3_way_32 ⟨Nat.le_of_ble_eq_true rfl, Nat.le_of_ble_eq_true rfl⟩ ?_
      obtain ⟨v13, ev13, hf⟩ := ob hf
      refine rd_callV (As := [.int v11]) (rest := [.int (2 : Int32), .int (v7 + v9)]) ⟨hx, hb, hml, hown, hts⟩ (mX3_depthOf l D k ma mi st rp tp cr cw ik ln lg ce v11 _ ev13) (cwV 1 hts (lw_V q1123 q1125 qs69 q94 q1126) rfl rfl rfl ⟨rfl, hdX3_depthOf⟩ ⟨Nat.le_of_ble_eq_true rfl, Nat.le_of_ble_eq_true rfl⟩) hK hP [0, 1, 2, 3, 4, 5, 6, 7, 8, 9] rfl 0 3 rfl rfl rfl hl.1 rfl (Nat.le_of_ble_eq_true rfl) dX3_way_35 ⟨Nat.le_of_ble_eq_true rfl, Nat.le_of_ble_eq_true rfl⟩ ?_
      refine lv_imul hx hb dX3_way_38 ?_
      refine lv_isub hx hb dX3_way_39 ?_
      refine lv_goto (tgt := 44) hx hb dX3_way_40 (by decide) ?_
      exact rd_iret hx hb hr hlk (Option.some.inj hf) dX3_way_44

abbrev rmX3_level : Room := { frames := 2, cells := 0, slots := 0, locals := 44 }
theorem hdX3_level : yX3_level.cls ≠ "java/lang/invoke/MethodHandle" ∧ yX3_level.cls ≠ "java/lang/invoke/VarHandle" ∧ (parseMethodDescriptor yX3_level.desc).map (fun d => d.parameters.length) = some 2 := by decide +kernel
set_option maxHeartbeats 4000000 in
theorem mX3_level (l : Launch) (D : va_G) (k : Nat → ClassId) (ma : Nat → Nat) (mi : Nat → Int32) (st : Nat → Int32) (rp : Nat → Int32) (tp : Nat → Int32) (cr : Nat → Int32) (cw : Nat → Int32) (ik : Nat → Int32) (ln : Nat → Int32) (lg : Nat → Int32) (ce : Nat → Int64) (p1 : Int32) (p2 : Int32) (r : Int32) (hf : fX3_level st p1 p2 = some r) : CtI l yX3_level cX3_level 7 rmX3_level [.ref (ma 0), .int p1, .int p2] D k (wM k ma mi st rp tp cr cw ik ln lg ce) r := by
  refine rd_start (by decide +kernel) (Nat.le_of_ble_eq_true rfl) ?_
  intro p e s m below meth c ls hx hb hr hlk hml hown hts hP hK hl
  have hl : lv_has ls 7 [(0, .ref (ma 0)), (1, .int p1), (2, .int p2)] := hl
  have hown : s.vm.findClass RX3 = some m.cls := hown
  unfold fX3_level at hf
  refine lv_iload_n hx hb dX3_level_0 rfl (lv_at hl 1 rfl) ?_
  refine lv_if_lt (tgt := 16) hx hb dX3_level_1 (by decide) (fun c1 => ?_) (fun c1 => ?_)
  · have hf := oi_t c1 hf
    refine lv_iconst (v := (-1)) hx hb dX3_level_16 (by decide) ?_
    exact rd_iret hx hb hr hlk (Option.some.inj hf) dX3_level_17
  · have hf := oi_f c1 hf
    refine lv_iload_n hx hb dX3_level_4 rfl (lv_at hl 2 rfl) ?_
    refine lv_i2l hx hb dX3_level_5 rfl ?_
    refine lv_lconst (v := 0) hx hb dX3_level_6 (by decide) ?_
    refine lv_ldc2 hx hb hown (hts _ q1068) dX3_level_7 ?_
    obtain ⟨v2, ev2, hf⟩ := ob hf
    refine rd_callSZ (As := [.long ((p2).toInt64), .long (0 : Int64), .long (2 : Int64)]) (rest := []) ⟨hx, hb, hml, hown, hts⟩ (mX3_in l D k   ((p2).toInt64) (0 : Int64) (2 : Int64) _ ev2) (va_cwS 3 hts (lw_S q999 q1000 q94 q1001) rfl rfl rfl hdX3_in ⟨Nat.le_of_ble_eq_true rfl, Nat.le_of_ble_eq_true rfl⟩) hK rfl hl.1 rfl (Nat.le_of_ble_eq_true rfl) dX3_level_10 ⟨Nat.le_of_ble_eq_true rfl, Nat.le_of_ble_eq_true rfl⟩ (fun zv2 => ?_)
    refine lv_if_ne (tgt := 18) hx hb dX3_level_13 (by decide) (fun c4 => ?_) (fun c4 => ?_)
    · have hf := oi_f c4 hf
      refine lv_bipush (v := (-4)) hx hb dX3_level_18 (by decide) ?_
      refine lv_istore_n (lv' := [(3, .int (-4 : Int32)), (0, .ref (ma 0)), (1, .int p1), (2, .int p2)]) hx hb dX3_level_20 rfl hl (by decide) rfl (fun ls hl => ?_)
      refine lv_bipush (v := (-4)) hx hb dX3_level_21 (by decide) ?_
      refine lv_istore (lv' := [(4, .int (-4 : Int32)), (3, .int (-4 : Int32)), (0, .ref (ma 0)), (1, .int p1), (2, .int p2)]) hx hb dX3_level_23 hl (by decide) rfl (fun ls hl => ?_)
      refine lv_iconst (v := 0) hx hb dX3_level_25 (by decide) ?_
      refine lv_istore (lv' := [(5, .int (0 : Int32)), (4, .int (-4 : Int32)), (3, .int (-4 : Int32)), (0, .ref (ma 0)), (1, .int p1), (2, .int p2)]) hx hb dX3_level_26 hl (by decide) rfl (fun ls hl => ?_)
      refine lv_iconst (v := 0) hx hb dX3_level_28 (by decide) ?_
      refine lv_istore (lv' := [(6, .int (0 : Int32)), (5, .int (0 : Int32)), (4, .int (-4 : Int32)), (3, .int (-4 : Int32)), (0, .ref (ma 0)), (1, .int p1), (2, .int p2)]) hx hb dX3_level_29 hl (by decide) rfl (fun ls hl => ?_)
      have hL31 : ∀ (nn : Nat) (x3_31 : Int32) (x4_31 : Int32) (x5_31 : Int32) (x6_31 : Int32), fX3_level_L31 st p1 p2 nn x3_31 x4_31 x5_31 x6_31 = some r → ∀ ls : Array Slot, lv_has ls 7 [(0, .ref (ma 0)), (1, .int p1), (2, .int p2), (3, .int x3_31), (4, .int x4_31), (5, .int x5_31), (6, .int x6_31)] → gR p l e rmX3_level s m [.ref (ma 0), .int p1, .int p2] below meth c (vp_Si (fun x => x = r)) 31 ls [] := by
        intro nn31
        induction nn31 with
        | zero =>
          intro x3_31 x4_31 x5_31 x6_31 hf
          rw [fX3_level_L31] at hf; cases hf
        | succ nn31 ih31 =>
          intro x3_31 x4_31 x5_31 x6_31 hf ls hl
          rw [fX3_level_L31] at hf
          refine lv_iload hx hb dX3_level_31 (lv_at hl 6 rfl) ?_
          refine lv_aload_n hx hb dX3_level_33 rfl (lv_at hl 0 rfl) ?_
          obtain ⟨v5, ev5, hf⟩ := ob hf
          refine rd_callV (As := []) (rest := [.int x6_31]) ⟨hx, hb, hml, hown, hts⟩ (mX3_many l D k ma mi st rp tp cr cw ik ln lg ce  _ ev5) (cwV 0 hts (lw_V q1048 q1050 qs61 q94 q1051) rfl rfl rfl ⟨rfl, hdX3_many⟩ ⟨Nat.le_of_ble_eq_true rfl, Nat.le_of_ble_eq_true rfl⟩) hK hP [0, 1, 2, 3, 4, 5, 6, 7, 8, 9] rfl 0 3 rfl rfl rfl hl.1 rfl (Nat.le_of_ble_eq_true rfl) dX3_level_34 ⟨Nat.le_of_ble_eq_true rfl, Nat.le_of_ble_eq_true rfl⟩ ?_
          refine lv_icmp_ge (tgt := 76) hx hb dX3_level_37 (by decide) (fun c7 => ?_) (fun c7 => ?_)
          · have hf := oi_t c7 hf
            refine lv_iload_n hx hb dX3_level_76 rfl (lv_at hl 2 rfl) ?_
            refine lv_if_ne (tgt := 84) hx hb dX3_level_77 (by decide) (fun c8 => ?_) (fun c8 => ?_)
            · have hf := oi_f c8 hf
              refine lv_iload_n hx hb dX3_level_84 rfl (lv_at hl 2 rfl) ?_
              refine lv_iconst (v := 1) hx hb dX3_level_85 (by decide) ?_
              refine lv_icmp_ne (tgt := 94) hx hb dX3_level_86 (by decide) (fun c9 => ?_) (fun c9 => ?_)
              · have hf := oi_f c9 hf
                refine lv_iload hx hb dX3_level_94 (lv_at hl 5 rfl) ?_
                exact rd_iret hx hb hr hlk (Option.some.inj hf) dX3_level_96
              · have hf := oi_t c9 hf
                refine lv_iload hx hb dX3_level_89 (lv_at hl 4 rfl) ?_
                refine lv_goto (tgt := 96) hx hb dX3_level_91 (by decide) ?_
                exact rd_iret hx hb hr hlk (Option.some.inj hf) dX3_level_96
            · have hf := oi_t c8 hf
              refine lv_iload_n hx hb dX3_level_80 rfl (lv_at hl 3 rfl) ?_
              refine lv_goto (tgt := 96) hx hb dX3_level_81 (by decide) ?_
              exact rd_iret hx hb hr hlk (Option.some.inj hf) dX3_level_96
          · have hf := oi_f c7 hf
            refine lv_aload_n hx hb dX3_level_40 rfl (lv_at hl 0 rfl) ?_
            refine lv_iload hx hb dX3_level_41 (lv_at hl 6 rfl) ?_
            obtain ⟨v10, ev10, hf⟩ := ob hf
            refine rd_callV (As := [.int x6_31]) (rest := []) ⟨hx, hb, hml, hown, hts⟩ (mX3_depthOf l D k ma mi st rp tp cr cw ik ln lg ce x6_31 _ ev10) (cwV 1 hts (lw_V q1123 q1125 qs69 q94 q1126) rfl rfl rfl ⟨rfl, hdX3_depthOf⟩ ⟨Nat.le_of_ble_eq_true rfl, Nat.le_of_ble_eq_true rfl⟩) hK hP [0, 1, 2, 3, 4, 5, 6, 7, 8, 9] rfl 0 3 rfl rfl rfl hl.1 rfl (Nat.le_of_ble_eq_true rfl) dX3_level_43 ⟨Nat.le_of_ble_eq_true rfl, Nat.le_of_ble_eq_true rfl⟩ ?_
            refine lv_iload_n hx hb dX3_level_46 rfl (lv_at hl 1 rfl) ?_
            have hB70 : ∀ (x3_70 : Int32) (x4_70 : Int32) (x5_70 : Int32) (x6_70 : Int32), fX3_level_B70 st p1 p2 (fX3_level_L31 st p1 p2 nn31) x3_70 x4_70 x5_70 x6_70 = some r → ∀ ls : Array Slot, lv_has ls 7 [(0, .ref (ma 0)), (1, .int p1), (2, .int p2), (3, .int x3_70), (4, .int x4_70), (5, .int x5_70), (6, .int x6_70)] → gR p l e rmX3_level s m [.ref (ma 0), .int p1, .int p2] below meth c (vp_Si (fun x => x = r)) 70 ls [] := by
              intro x3_70 x4_70 x5_70 x6_70 hf ls hl
              unfold fX3_level_B70 at hf
              refine lv_iinc (v := (x6_70 + 1)) (lv' := [(6, .int (x6_70 + 1)), (0, .ref (ma 0)), (1, .int p1), (2, .int p2), (3, .int x3_70), (4, .int x4_70), (5, .int x5_70)]) hx hb dX3_level_70 hl (k := 6) rfl rfl (by decide) rfl (fun ls hl => ?_)
              refine lv_goto (tgt := 31) hx hb dX3_level_73 (by decide) ?_
              exact ih31 x3_70 x4_70 x5_70 (x6_70 + 1) hf ls (lv_sub hl [1, 2, 3, 4, 5, 6, 0] rfl)
            refine lv_icmp_ne (tgt := 70) hx hb dX3_level_47 (by decide) (fun c12 => ?_) (fun c12 => ?_)
            · have hf := oi_f c12 hf
              exact hB70 x3_31 x4_31 x5_31 x6_31 hf ls (lv_sub hl [0, 1, 2, 3, 4, 5, 6] rfl)
            · have hf := oi_t c12 hf
              refine lv_iload_n hx hb dX3_level_50 rfl (lv_at hl 3 rfl) ?_
              refine lv_bipush (v := (-4)) hx hb dX3_level_51 (by decide) ?_
              have hB62 : ∀ (x5_62 : Int32) (x6_62 : Int32) (s0_62 : Int32), fX3_level_B62 st p1 p2 (fX3_level_L31 st p1 p2 nn31) x5_62 x6_62 s0_62 = some r → ∀ ls : Array Slot, lv_has ls 7 [(0, .ref (ma 0)), (1, .int p1), (2, .int p2), (5, .int x5_62), (6, .int x6_62)] → gR p l e rmX3_level s m [.ref (ma 0), .int p1, .int p2] below meth c (vp_Si (fun x => x = r)) 62 ls [.int s0_62] := by
                intro x5_62 x6_62 s0_62 hf ls hl
                unfold fX3_level_B62 at hf
                refine lv_istore_n (lv' := [(3, .int s0_62), (0, .ref (ma 0)), (1, .int p1), (2, .int p2), (5, .int x5_62), (6, .int x6_62)]) hx hb dX3_level_62 rfl hl (by decide) rfl (fun ls hl => ?_)
                refine lv_iload hx hb dX3_level_63 (lv_at hl 5 rfl) ?_
                refine lv_istore (lv' := [(4, .int x6_62), (3, .int s0_62), (0, .ref (ma 0)), (1, .int p1), (2, .int p2), (5, .int x5_62), (6, .int x6_62)]) hx hb dX3_level_65 hl (by decide) rfl (fun ls hl => ?_)
                refine lv_iinc (v := (x5_62 + 1)) (lv' := [(5, .int (x5_62 + 1)), (4, .int x6_62), (3, .int s0_62), (0, .ref (ma 0)), (1, .int p1), (2, .int p2), (6, .int x6_62)]) hx hb dX3_level_67 hl (k := 5) rfl rfl (by decide) rfl (fun ls hl => ?_)
                exact hB70 s0_62 x6_62 (x5_62 + 1) x6_62 hf ls (lv_sub hl [3, 4, 5, 2, 1, 0, 6] rfl)
              refine lv_icmp_ne (tgt := 61) hx hb dX3_level_53 (by decide) (fun c13 => ?_) (fun c13 => ?_)
              · have hf := oi_f c13 hf
                refine lv_iload_n hx hb dX3_level_61 rfl (lv_at hl 3 rfl) ?_
                exact hB62 x5_31 x6_31 x3_31 hf ls (lv_sub hl [0, 1, 2, 5, 6] rfl)
              · have hf := oi_t c13 hf
                refine lv_iload hx hb dX3_level_56 (lv_at hl 6 rfl) ?_
                refine lv_goto (tgt := 62) hx hb dX3_level_58 (by decide) ?_
                exact hB62 x5_31 x6_31 x6_31 hf ls (lv_sub hl [0, 1, 2, 5, 6] rfl)
      exact hL31 FU (-4 : Int32) (-4 : Int32) (0 : Int32) (0 : Int32) hf ls (lv_sub hl [4, 5, 6, 3, 2, 1, 0] rfl)
    · have hf := oi_t c4 hf
      refine lv_iconst (v := (-1)) hx hb dX3_level_16 (by decide) ?_
      exact rd_iret hx hb hr hlk (Option.some.inj hf) dX3_level_17

abbrev rmX3_beside : Room := { frames := 2, cells := 0, slots := 0, locals := 46 }
theorem hdX3_beside : yX3_beside.cls ≠ "java/lang/invoke/MethodHandle" ∧ yX3_beside.cls ≠ "java/lang/invoke/VarHandle" ∧ (parseMethodDescriptor yX3_beside.desc).map (fun d => d.parameters.length) = some 2 := by decide +kernel
set_option maxHeartbeats 4000000 in
theorem mX3_beside (l : Launch) (D : va_G) (k : Nat → ClassId) (ma : Nat → Nat) (mi : Nat → Int32) (st : Nat → Int32) (rp : Nat → Int32) (tp : Nat → Int32) (cr : Nat → Int32) (cw : Nat → Int32) (ik : Nat → Int32) (ln : Nat → Int32) (lg : Nat → Int32) (ce : Nat → Int64) (p1 : Int32) (p2 : Int32) (r : Int32) (hf : fX3_beside st p1 p2 = some r) : CtI l yX3_beside cX3_beside 5 rmX3_beside [.ref (ma 0), .int p1, .int p2] D k (wM k ma mi st rp tp cr cw ik ln lg ce) r := by
  refine rd_start (by decide +kernel) (Nat.le_of_ble_eq_true rfl) ?_
  intro p e s m below meth c ls hx hb hr hlk hml hown hts hP hK hl
  have hl : lv_has ls 5 [(0, .ref (ma 0)), (1, .int p1), (2, .int p2)] := hl
  have hown : s.vm.findClass RX3 = some m.cls := hown
  unfold fX3_beside at hf
  refine lv_aload_n hx hb dX3_beside_0 rfl (lv_at hl 0 rfl) ?_
  refine lv_iload_n hx hb dX3_beside_1 rfl (lv_at hl 1 rfl) ?_
  obtain ⟨v1, ev1, hf⟩ := ob hf
  refine rd_callVZ (As := [.int p1]) (rest := []) ⟨hx, hb, hml, hown, hts⟩ (mX3_isNode l D k ma mi st rp tp cr cw ik ln lg ce p1 _ ev1) (cwV 1 hts (lw_V q1107 q1109 qs65 q94 q1110) rfl rfl rfl ⟨rfl, hdX3_isNode⟩ ⟨Nat.le_of_ble_eq_true rfl, Nat.le_of_ble_eq_true rfl⟩) hK hP [0, 1, 2, 3, 4, 5, 6, 7, 8, 9] rfl 0 3 rfl rfl rfl hl.1 rfl (Nat.le_of_ble_eq_true rfl) dX3_beside_2 ⟨Nat.le_of_ble_eq_true rfl, Nat.le_of_ble_eq_true rfl⟩ (fun zv1 => ?_)
  refine lv_if_eq (tgt := 18) hx hb dX3_beside_5 (by decide) (fun c3 => ?_) (fun c3 => ?_)
  · have hf := oi_t c3 hf
    refine lv_iconst (v := (-1)) hx hb dX3_beside_18 (by decide) ?_
    exact rd_iret hx hb hr hlk (Option.some.inj hf) dX3_beside_19
  · have hf := oi_f c3 hf
    refine lv_iload_n hx hb dX3_beside_8 rfl (lv_at hl 2 rfl) ?_
    refine lv_i2l hx hb dX3_beside_9 rfl ?_
    refine lv_lconst (v := 0) hx hb dX3_beside_10 (by decide) ?_
    refine lv_lconst (v := 1) hx hb dX3_beside_11 (by decide) ?_
    obtain ⟨v4, ev4, hf⟩ := ob hf
    refine rd_callSZ (As := [.long ((p2).toInt64), .long (0 : Int64), .long (1 : Int64)]) (rest := []) ⟨hx, hb, hml, hown, hts⟩ (mX3_in l D k   ((p2).toInt64) (0 : Int64) (1 : Int64) _ ev4) (va_cwS 3 hts (lw_S q999 q1000 q94 q1001) rfl rfl rfl hdX3_in ⟨Nat.le_of_ble_eq_true rfl, Nat.le_of_ble_eq_true rfl⟩) hK rfl hl.1 rfl (Nat.le_of_ble_eq_true rfl) dX3_beside_12 ⟨Nat.le_of_ble_eq_true rfl, Nat.le_of_ble_eq_true rfl⟩ (fun zv4 => ?_)
    refine lv_if_ne (tgt := 20) hx hb dX3_beside_15 (by decide) (fun c6 => ?_) (fun c6 => ?_)
    · have hf := oi_f c6 hf
      refine lv_iload_n hx hb dX3_beside_20 rfl (lv_at hl 2 rfl) ?_
      have hB29 : ∀ (s0_29 : Int32), fX3_beside_B29 st p1 p2 s0_29 = some r → ∀ ls : Array Slot, lv_has ls 5 [(0, .ref (ma 0)), (1, .int p1)] → gR p l e rmX3_beside s m [.ref (ma 0), .int p1, .int p2] below meth c (vp_Si (fun x => x = r)) 29 ls [.int s0_29] := by
        intro s0_29 hf ls hl
        unfold fX3_beside_B29 at hf
        refine lv_istore_n (lv' := [(3, .int s0_29), (0, .ref (ma 0)), (1, .int p1)]) hx hb dX3_beside_29 rfl hl (by decide) rfl (fun ls hl => ?_)
        refine lv_iload_n hx hb dX3_beside_30 rfl (lv_at hl 2 rfl) ?_
        refine lv_iload_n hx hb dX3_beside_31 rfl (lv_at hl 0 rfl) ?_
        refine lv_iadd hx hb dX3_beside_32 ?_
        obtain ⟨y8, ey8, hf⟩ := ob hf
        refine x_asI ey8 ?_
        refine lv_istore (lv' := [(4, .int y8), (3, .int s0_29), (0, .ref (ma 0)), (1, .int p1)]) hx hb dX3_beside_33 hl (by decide) rfl (fun ls hl => ?_)
        have hL35 : ∀ (nn : Nat) (x3_35 : Int32) (x4_35 : Int32), fX3_beside_L35 st p1 p2 nn x3_35 x4_35 = some r → ∀ ls : Array Slot, lv_has ls 5 [(0, .ref (ma 0)), (1, .int p1), (3, .int x3_35), (4, .int x4_35)] → gR p l e rmX3_beside s m [.ref (ma 0), .int p1, .int p2] below meth c (vp_Si (fun x => x = r)) 35 ls [] := by
          intro nn35
          induction nn35 with
          | zero =>
            intro x3_35 x4_35 hf
            rw [fX3_beside_L35] at hf; cases hf
          | succ nn35 ih35 =>
            intro x3_35 x4_35 hf ls hl
            rw [fX3_beside_L35] at hf
            refine lv_aload_n hx hb dX3_beside_35 rfl (lv_at hl 0 rfl) ?_
            refine lv_iload hx hb dX3_beside_36 (lv_at hl 3 rfl) ?_
            obtain ⟨v9, ev9, hf⟩ := ob hf
            refine rd_callVZ (As := [.int x4_35]) (rest := []) ⟨hx, hb, hml, hown, hts⟩ (mX3_isNode l D k ma mi st rp tp cr cw ik ln lg ce x4_35 _ ev9) (cwV 1 hts (lw_V q1107 q1109 qs65 q94 q1110) rfl rfl rfl ⟨rfl, hdX3_isNode⟩ ⟨Nat.le_of_ble_eq_true rfl, Nat.le_of_ble_eq_true rfl⟩) hK hP [0, 1, 2, 3, 4, 5, 6, 7, 8, 9] rfl 0 3 rfl rfl rfl hl.1 rfl (Nat.le_of_ble_eq_true rfl) dX3_beside_38 ⟨Nat.le_of_ble_eq_true rfl, Nat.le_of_ble_eq_true rfl⟩ (fun zv9 => ?_)
            have hB67 : ∀ (x4_67 : Int32), fX3_beside_B67 st p1 p2 x4_67 = some r → ∀ ls : Array Slot, lv_has ls 5 [(0, .ref (ma 0)), (4, .int x4_67)] → gR p l e rmX3_beside s m [.ref (ma 0), .int p1, .int p2] below meth c (vp_Si (fun x => x = r)) 67 ls [] := by
              intro x4_67 hf ls hl
              unfold fX3_beside_B67 at hf
              refine lv_aload_n hx hb dX3_beside_67 rfl (lv_at hl 0 rfl) ?_
              refine lv_iload hx hb dX3_beside_68 (lv_at hl 1 rfl) ?_
              obtain ⟨v12, ev12, hf⟩ := ob hf
              refine rd_callVZ (As := [.int x4_67]) (rest := []) ⟨hx, hb, hml, hown, hts⟩ (mX3_isNode l D k ma mi st rp tp cr cw ik ln lg ce x4_67 _ ev12) (cwV 1 hts (lw_V q1107 q1109 qs65 q94 q1110) rfl rfl rfl ⟨rfl, hdX3_isNode⟩ ⟨Nat.le_of_ble_eq_true rfl, Nat.le_of_ble_eq_true rfl⟩) hK hP [0, 1, 2, 3, 4, 5, 6, 7, 8, 9] rfl 0 3 rfl rfl rfl hl.1 rfl (Nat.le_of_ble_eq_true rfl) dX3_beside_70 ⟨Nat.le_of_ble_eq_true rfl, Nat.le_of_ble_eq_true rfl⟩ (fun zv12 => ?_)
              refine lv_if_eq (tgt := 81) hx hb dX3_beside_73 (by decide) (fun c14 => ?_) (fun c14 => ?_)
              · have hf := oi_t c14 hf
                refine lv_bipush (v := (-4)) hx hb dX3_beside_81 (by decide) ?_
                exact rd_iret hx hb hr hlk (Option.some.inj hf) dX3_beside_83
              · have hf := oi_f c14 hf
                refine lv_iload hx hb dX3_beside_76 (lv_at hl 1 rfl) ?_
                refine lv_goto (tgt := 83) hx hb dX3_beside_78 (by decide) ?_
                exact rd_iret hx hb hr hlk (Option.some.inj hf) dX3_beside_83
            refine lv_if_eq (tgt := 67) hx hb dX3_beside_41 (by decide) (fun c11 => ?_) (fun c11 => ?_)
            · have hf := oi_t c11 hf
              exact hB67 x4_35 hf ls (lv_sub hl [0, 3] rfl)
            · have hf := oi_f c11 hf
              refine lv_aload_n hx hb dX3_beside_44 rfl (lv_at hl 0 rfl) ?_
              refine lv_iload hx hb dX3_beside_45 (lv_at hl 3 rfl) ?_
              obtain ⟨v15, ev15, hf⟩ := ob hf
              refine rd_callV (As := [.int x4_35]) (rest := []) ⟨hx, hb, hml, hown, hts⟩ (mX3_depthOf l D k ma mi st rp tp cr cw ik ln lg ce x4_35 _ ev15) (cwV 1 hts (lw_V q1123 q1125 qs69 q94 q1126) rfl rfl rfl ⟨rfl, hdX3_depthOf⟩ ⟨Nat.le_of_ble_eq_true rfl, Nat.le_of_ble_eq_true rfl⟩) hK hP [0, 1, 2, 3, 4, 5, 6, 7, 8, 9] rfl 0 3 rfl rfl rfl hl.1 rfl (Nat.le_of_ble_eq_true rfl) dX3_beside_47 ⟨Nat.le_of_ble_eq_true rfl, Nat.le_of_ble_eq_true rfl⟩ ?_
              refine lv_aload_n hx hb dX3_beside_50 rfl (lv_at hl 0 rfl) ?_
              refine lv_iload_n hx hb dX3_beside_51 rfl (lv_at hl 1 rfl) ?_
              obtain ⟨v17, ev17, hf⟩ := ob hf
              refine rd_callV (As := [.int p1]) (rest := [.int v15]) ⟨hx, hb, hml, hown, hts⟩ (mX3_depthOf l D k ma mi st rp tp cr cw ik ln lg ce p1 _ ev17) (cwV 1 hts (lw_V q1123 q1125 qs69 q94 q1126) rfl rfl rfl ⟨rfl, hdX3_depthOf⟩ ⟨Nat.le_of_ble_eq_true rfl, Nat.le_of_ble_eq_true rfl⟩) hK hP [0, 1, 2, 3, 4, 5, 6, 7, 8, 9] rfl 0 3 rfl rfl rfl hl.1 rfl (Nat.le_of_ble_eq_true rfl) dX3_beside_52 ⟨Nat.le_of_ble_eq_true rfl, Nat.le_of_ble_eq_true rfl⟩ ?_
              refine lv_icmp_eq (tgt := 67) hx hb dX3_beside_55 (by decide) (fun c19 => ?_) (fun c19 => ?_)
              · have hf := oi_t c19 hf
                exact hB67 x4_35 hf ls (lv_sub hl [0, 3] rfl)
              · have hf := oi_f c19 hf
                refine lv_iload hx hb dX3_beside_58 (lv_at hl 3 rfl) ?_
                refine lv_iload_n hx hb dX3_beside_60 rfl (lv_at hl 2 rfl) ?_
                refine lv_iadd hx hb dX3_beside_61 ?_
                obtain ⟨y20, ey20, hf⟩ := ob hf
                refine x_asI ey20 ?_
                refine lv_istore (lv' := [(4, .int y20), (0, .ref (ma 0)), (1, .int p1), (3, .int x3_35)]) hx hb dX3_beside_62 hl (by decide) rfl (fun ls hl => ?_)
                refine lv_goto (tgt := 35) hx hb dX3_beside_64 (by decide) ?_
                exact ih35 x3_35 y20 hf ls (lv_sub hl [1, 2, 3, 0] rfl)
        exact hL35 FU s0_29 y8 hf ls (lv_sub hl [2, 3, 1, 0] rfl)
      refine lv_if_ne (tgt := 28) hx hb dX3_beside_21 (by decide) (fun c7 => ?_) (fun c7 => ?_)
      · have hf := oi_f c7 hf
        refine lv_iconst (v := (-1)) hx hb dX3_beside_28 (by decide) ?_
        exact hB29 (-1 : Int32) hf ls (lv_sub hl [0, 1] rfl)
      · have hf := oi_t c7 hf
        refine lv_iconst (v := 1) hx hb dX3_beside_24 (by decide) ?_
        refine lv_goto (tgt := 29) hx hb dX3_beside_25 (by decide) ?_
        exact hB29 (1 : Int32) hf ls (lv_sub hl [0, 1] rfl)
    · have hf := oi_t c6 hf
      refine lv_iconst (v := (-1)) hx hb dX3_beside_18 (by decide) ?_
      exact rd_iret hx hb hr hlk (Option.some.inj hf) dX3_beside_19

abbrev rmX3_deepest : Room := { frames := 3, cells := 0, slots := 0, locals := 68 }
theorem hdX3_deepest : yX3_deepest.cls ≠ "java/lang/invoke/MethodHandle" ∧ yX3_deepest.cls ≠ "java/lang/invoke/VarHandle" ∧ (parseMethodDescriptor yX3_deepest.desc).map (fun d => d.parameters.length) = some 1 := by decide +kernel
set_option maxHeartbeats 4000000 in
theorem mX3_deepest (l : Launch) (D : va_G) (k : Nat → ClassId) (ma : Nat → Nat) (mi : Nat → Int32) (st : Nat → Int32) (rp : Nat → Int32) (tp : Nat → Int32) (cr : Nat → Int32) (cw : Nat → Int32) (ik : Nat → Int32) (ln : Nat → Int32) (lg : Nat → Int32) (ce : Nat → Int64) (p1 : Int32) (r : Int32) (hf : fX3_deepest st p1 = some r) : CtI l yX3_deepest cX3_deepest 2 rmX3_deepest [.ref (ma 0), .int p1] D k (wM k ma mi st rp tp cr cw ik ln lg ce) r := by
  refine rd_start (by decide +kernel) (Nat.le_of_ble_eq_true rfl) ?_
  intro p e s m below meth c ls hx hb hr hlk hml hown hts hP hK hl
  have hl : lv_has ls 2 [(0, .ref (ma 0)), (1, .int p1)] := hl
  have hown : s.vm.findClass RX3 = some m.cls := hown
  unfold fX3_deepest at hf
  refine lv_aload_n hx hb dX3_deepest_0 rfl (lv_at hl 0 rfl) ?_
  refine lv_iload_n hx hb dX3_deepest_1 rfl (lv_at hl 1 rfl) ?_
  obtain ⟨v1, ev1, hf⟩ := ob hf
  refine rd_callVZ (As := [.int p1]) (rest := []) ⟨hx, hb, hml, hown, hts⟩ (mX3_isNode l D k ma mi st rp tp cr cw ik ln lg ce p1 _ ev1) (cwV 1 hts (lw_V q1107 q1109 qs65 q94 q1110) rfl rfl rfl ⟨rfl, hdX3_isNode⟩ ⟨Nat.le_of_ble_eq_true rfl, Nat.le_of_ble_eq_true rfl⟩) hK hP [0, 1, 2, 3, 4, 5, 6, 7, 8, 9] rfl 0 3 rfl rfl rfl hl.1 rfl (Nat.le_of_ble_eq_true rfl) dX3_deepest_2 ⟨Nat.le_of_ble_eq_true rfl, Nat.le_of_ble_eq_true rfl⟩ (fun zv1 => ?_)
  refine lv_if_eq (tgt := 16) hx hb dX3_deepest_5 (by decide) (fun c3 => ?_) (fun c3 => ?_)
  · have hf := oi_t c3 hf
    refine lv_iconst (v := (-1)) hx hb dX3_deepest_16 (by decide) ?_
    exact rd_iret hx hb hr hlk (Option.some.inj hf) dX3_deepest_17
  · have hf := oi_f c3 hf
    refine lv_aload_n hx hb dX3_deepest_8 rfl (lv_at hl 0 rfl) ?_
    refine lv_iload_n hx hb dX3_deepest_9 rfl (lv_at hl 1 rfl) ?_
    obtain ⟨v4, ev4, hf⟩ := ob hf
    refine rd_callV (As := [.int p1]) (rest := []) ⟨hx, hb, hml, hown, hts⟩ (mX3_deepestOf l D k ma mi st rp tp cr cw ik ln lg ce p1 _ ev4) (cwV 1 hts (lw_V q1151 q1153 qs76 q94 q1154) rfl rfl rfl ⟨rfl, hdX3_deepestOf⟩ ⟨Nat.le_of_ble_eq_true rfl, Nat.le_of_ble_eq_true rfl⟩) hK hP [0, 1, 2, 3, 4, 5, 6, 7, 8, 9] rfl 0 3 rfl rfl rfl hl.1 rfl (Nat.le_of_ble_eq_true rfl) dX3_deepest_10 ⟨Nat.le_of_ble_eq_true rfl, Nat.le_of_ble_eq_true rfl⟩ ?_
    refine lv_goto (tgt := 17) hx hb dX3_deepest_13 (by decide) ?_
    exact rd_iret hx hb hr hlk (Option.some.inj hf) dX3_deepest_17

abbrev rmX3_alike : Room := { frames := 2, cells := 0, slots := 0, locals := 46 }
theorem hdX3_alike : yX3_alike.cls ≠ "java/lang/invoke/MethodHandle" ∧ yX3_alike.cls ≠ "java/lang/invoke/VarHandle" ∧ (parseMethodDescriptor yX3_alike.desc).map (fun d => d.parameters.length) = some 2 := by decide +kernel
set_option maxHeartbeats 4000000 in
theorem mX3_alike (l : Launch) (D : va_G) (k : Nat → ClassId) (ma : Nat → Nat) (mi : Nat → Int32) (st : Nat → Int32) (rp : Nat → Int32) (tp : Nat → Int32) (cr : Nat → Int32) (cw : Nat → Int32) (ik : Nat → Int32) (ln : Nat → Int32) (lg : Nat → Int32) (ce : Nat → Int64) (p1 : Int32) (p2 : Int32) (r : Int32) (hf : fX3_alike st p1 p2 = some r) : CtI l yX3_alike cX3_alike 7 rmX3_alike [.ref (ma 0), .int p1, .int p2] D k (wM k ma mi st rp tp cr cw ik ln lg ce) r := by
  refine rd_start (by decide +kernel) (Nat.le_of_ble_eq_true rfl) ?_
  intro p e s m below meth c ls hx hb hr hlk hml hown hts hP hK hl
  have hl : lv_has ls 7 [(0, .ref (ma 0)), (1, .int p1), (2, .int p2)] := hl
  have hown : s.vm.findClass RX3 = some m.cls := hown
  unfold fX3_alike at hf
  refine lv_aload_n hx hb dX3_alike_0 rfl (lv_at hl 0 rfl) ?_
  refine lv_iload_n hx hb dX3_alike_1 rfl (lv_at hl 1 rfl) ?_
  obtain ⟨v1, ev1, hf⟩ := ob hf
  refine rd_callVZ (As := [.int p1]) (rest := []) ⟨hx, hb, hml, hown, hts⟩ (mX3_isNode l D k ma mi st rp tp cr cw ik ln lg ce p1 _ ev1) (cwV 1 hts (lw_V q1107 q1109 qs65 q94 q1110) rfl rfl rfl ⟨rfl, hdX3_isNode⟩ ⟨Nat.le_of_ble_eq_true rfl, Nat.le_of_ble_eq_true rfl⟩) hK hP [0, 1, 2, 3, 4, 5, 6, 7, 8, 9] rfl 0 3 rfl rfl rfl hl.1 rfl (Nat.le_of_ble_eq_true rfl) dX3_alike_2 ⟨Nat.le_of_ble_eq_true rfl, Nat.le_of_ble_eq_true rfl⟩ (fun zv1 => ?_)
  refine lv_if_eq (tgt := 16) hx hb dX3_alike_5 (by decide) (fun c3 => ?_) (fun c3 => ?_)
  · have hf := oi_t c3 hf
    refine lv_iconst (v := (-1)) hx hb dX3_alike_16 (by decide) ?_
    exact rd_iret hx hb hr hlk (Option.some.inj hf) dX3_alike_17
  · have hf := oi_f c3 hf
    refine lv_aload_n hx hb dX3_alike_8 rfl (lv_at hl 0 rfl) ?_
    refine lv_iload_n hx hb dX3_alike_9 rfl (lv_at hl 2 rfl) ?_
    obtain ⟨v4, ev4, hf⟩ := ob hf
    refine rd_callVZ (As := [.int p2]) (rest := []) ⟨hx, hb, hml, hown, hts⟩ (mX3_isNode l D k ma mi st rp tp cr cw ik ln lg ce p2 _ ev4) (cwV 1 hts (lw_V q1107 q1109 qs65 q94 q1110) rfl rfl rfl ⟨rfl, hdX3_isNode⟩ ⟨Nat.le_of_ble_eq_true rfl, Nat.le_of_ble_eq_true rfl⟩) hK hP [0, 1, 2, 3, 4, 5, 6, 7, 8, 9] rfl 0 3 rfl rfl rfl hl.1 rfl (Nat.le_of_ble_eq_true rfl) dX3_alike_10 ⟨Nat.le_of_ble_eq_true rfl, Nat.le_of_ble_eq_true rfl⟩ (fun zv4 => ?_)
    refine lv_if_ne (tgt := 18) hx hb dX3_alike_13 (by decide) (fun c6 => ?_) (fun c6 => ?_)
    · have hf := oi_f c6 hf
      refine lv_aload_n hx hb dX3_alike_18 rfl (lv_at hl 0 rfl) ?_
      refine lv_iload_n hx hb dX3_alike_19 rfl (lv_at hl 1 rfl) ?_
      obtain ⟨v7, ev7, hf⟩ := ob hf
      refine rd_callV (As := [.int p1]) (rest := []) ⟨hx, hb, hml, hown, hts⟩ (mX3_sizeOf l D k ma mi st rp tp cr cw ik ln lg ce p1 _ ev7) (cwV 1 hts (lw_V q1131 q1133 qs71 q94 q1134) rfl rfl rfl ⟨rfl, hdX3_sizeOf⟩ ⟨Nat.le_of_ble_eq_true rfl, Nat.le_of_ble_eq_true rfl⟩) hK hP [0, 1, 2, 3, 4, 5, 6, 7, 8, 9] rfl 0 3 rfl rfl rfl hl.1 rfl (Nat.le_of_ble_eq_true rfl) dX3_alike_20 ⟨Nat.le_of_ble_eq_true rfl, Nat.le_of_ble_eq_true rfl⟩ ?_
      refine lv_aload_n hx hb dX3_alike_23 rfl (lv_at hl 0 rfl) ?_
      refine lv_iload_n hx hb dX3_alike_24 rfl (lv_at hl 2 rfl) ?_
      obtain ⟨v9, ev9, hf⟩ := ob hf
      refine rd_callV (As := [.int p2]) (rest := [.int v7]) ⟨hx, hb, hml, hown, hts⟩ (mX3_sizeOf l D k ma mi st rp tp cr cw ik ln lg ce p2 _ ev9) (cwV 1 hts (lw_V q1131 q1133 qs71 q94 q1134) rfl rfl rfl ⟨rfl, hdX3_sizeOf⟩ ⟨Nat.le_of_ble_eq_true rfl, Nat.le_of_ble_eq_true rfl⟩) hK hP [0, 1, 2, 3, 4, 5, 6, 7, 8, 9] rfl 0 3 rfl rfl rfl hl.1 rfl (Nat.le_of_ble_eq_true rfl) dX3_alike_25 ⟨Nat.le_of_ble_eq_true rfl, Nat.le_of_ble_eq_true rfl⟩ ?_
      have hB36 : ∀ (s0_36 : Int32), fX3_alike_B36 st p1 p2 s0_36 = some r → ∀ ls : Array Slot, lv_has ls 7 [(0, .ref (ma 0)), (1, .int p1), (2, .int p2)] → gR p l e rmX3_alike s m [.ref (ma 0), .int p1, .int p2] below meth c (vp_Si (fun x => x = r)) 36 ls [.int s0_36] := by
        intro s0_36 hf ls hl
        unfold fX3_alike_B36 at hf
        refine lv_istore_n (lv' := [(3, .int s0_36), (0, .ref (ma 0)), (1, .int p1), (2, .int p2)]) hx hb dX3_alike_36 rfl hl (by decide) rfl (fun ls hl => ?_)
        refine lv_aload_n hx hb dX3_alike_37 rfl (lv_at hl 1 rfl) ?_
        refine lv_iload_n hx hb dX3_alike_38 rfl (lv_at hl 2 rfl) ?_
        obtain ⟨v12, ev12, hf⟩ := ob hf
        refine rd_callV (As := [.int p1]) (rest := []) ⟨hx, hb, hml, hown, hts⟩ (mX3_openOf l D k ma mi st rp tp cr cw ik ln lg ce p1 _ ev12) (cwV 1 hts (lw_V q1115 q1117 qs67 q94 q1118) rfl rfl rfl ⟨rfl, hdX3_openOf⟩ ⟨Nat.le_of_ble_eq_true rfl, Nat.le_of_ble_eq_true rfl⟩) hK hP [0, 1, 2, 3, 4, 5, 6, 7, 8, 9] rfl 0 3 rfl rfl rfl hl.1 rfl (Nat.le_of_ble_eq_true rfl) dX3_alike_39 ⟨Nat.le_of_ble_eq_true rfl, Nat.le_of_ble_eq_true rfl⟩ ?_
        refine lv_istore (lv' := [(4, .int v12), (3, .int s0_36), (0, .ref (ma 0)), (1, .int p1), (2, .int p2)]) hx hb dX3_alike_42 hl (by decide) rfl (fun ls hl => ?_)
        refine lv_aload_n hx hb dX3_alike_44 rfl (lv_at hl 2 rfl) ?_
        refine lv_iload_n hx hb dX3_alike_45 rfl (lv_at hl 4 rfl) ?_
        obtain ⟨v14, ev14, hf⟩ := ob hf
        refine rd_callV (As := [.int p2]) (rest := []) ⟨hx, hb, hml, hown, hts⟩ (mX3_openOf l D k ma mi st rp tp cr cw ik ln lg ce p2 _ ev14) (cwV 1 hts (lw_V q1115 q1117 qs67 q94 q1118) rfl rfl rfl ⟨rfl, hdX3_openOf⟩ ⟨Nat.le_of_ble_eq_true rfl, Nat.le_of_ble_eq_true rfl⟩) hK hP [0, 1, 2, 3, 4, 5, 6, 7, 8, 9] rfl 0 3 rfl rfl rfl hl.1 rfl (Nat.le_of_ble_eq_true rfl) dX3_alike_46 ⟨Nat.le_of_ble_eq_true rfl, Nat.le_of_ble_eq_true rfl⟩ ?_
        refine lv_istore (lv' := [(5, .int v14), (4, .int v12), (3, .int s0_36), (0, .ref (ma 0)), (1, .int p1), (2, .int p2)]) hx hb dX3_alike_49 hl (by decide) rfl (fun ls hl => ?_)
        refine lv_iconst (v := 0) hx hb dX3_alike_51 (by decide) ?_
        refine lv_istore (lv' := [(6, .int (0 : Int32)), (5, .int v14), (4, .int v12), (3, .int s0_36), (0, .ref (ma 0)), (1, .int p1), (2, .int p2)]) hx hb dX3_alike_52 hl (by decide) rfl (fun ls hl => ?_)
        have hL54 : ∀ (nn : Nat) (x3_54 : Int32) (x4_54 : Int32) (x5_54 : Int32) (x6_54 : Int32), fX3_alike_L54 st p1 p2 nn x3_54 x4_54 x5_54 x6_54 = some r → ∀ ls : Array Slot, lv_has ls 7 [(0, .ref (ma 0)), (1, .int p1), (3, .int x3_54), (4, .int x4_54), (5, .int x5_54), (6, .int x6_54)] → gR p l e rmX3_alike s m [.ref (ma 0), .int p1, .int p2] below meth c (vp_Si (fun x => x = r)) 54 ls [] := by
          intro nn54
          induction nn54 with
          | zero =>
            intro x3_54 x4_54 x5_54 x6_54 hf
            rw [fX3_alike_L54] at hf; cases hf
          | succ nn54 ih54 =>
            intro x3_54 x4_54 x5_54 x6_54 hf ls hl
            rw [fX3_alike_L54] at hf
            refine lv_iload_n hx hb dX3_alike_54 rfl (lv_at hl 2 rfl) ?_
            have hB105 : ∀ (x3_105 : Int32), fX3_alike_B105 st p1 p2 x3_105 = some r → ∀ ls : Array Slot, lv_has ls 7 [(3, .int x3_105)] → gR p l e rmX3_alike s m [.ref (ma 0), .int p1, .int p2] below meth c (vp_Si (fun x => x = r)) 105 ls [] := by
              intro x3_105 hf ls hl
              unfold fX3_alike_B105 at hf
              refine lv_iload_n hx hb dX3_alike_105 rfl (lv_at hl 0 rfl) ?_
              refine lv_if_eq (tgt := 113) hx hb dX3_alike_106 (by decide) (fun c17 => ?_) (fun c17 => ?_)
              · have hf := oi_t c17 hf
                refine lv_iconst (v := 0) hx hb dX3_alike_113 (by decide) ?_
                exact rd_iret hx hb hr hlk (Option.some.inj hf) dX3_alike_114
              · have hf := oi_f c17 hf
                refine lv_iconst (v := 1) hx hb dX3_alike_109 (by decide) ?_
                refine lv_goto (tgt := 114) hx hb dX3_alike_110 (by decide) ?_
                exact rd_iret hx hb hr hlk (Option.some.inj hf) dX3_alike_114
            refine lv_if_eq (tgt := 105) hx hb dX3_alike_55 (by decide) (fun c16 => ?_) (fun c16 => ?_)
            · have hf := oi_t c16 hf
              exact hB105 x3_54 hf ls (lv_sub hl [2] rfl)
            · have hf := oi_f c16 hf
              refine lv_iload hx hb dX3_alike_58 (lv_at hl 5 rfl) ?_
              refine lv_iconst (v := 2) hx hb dX3_alike_60 (by decide) ?_
              refine lv_aload_n hx hb dX3_alike_61 rfl (lv_at hl 0 rfl) ?_
              refine lv_iload_n hx hb dX3_alike_62 rfl (lv_at hl 1 rfl) ?_
              obtain ⟨v18, ev18, hf⟩ := ob hf
              refine rd_callV (As := [.int p1]) (rest := [.int (2 : Int32), .int x6_54]) ⟨hx, hb, hml, hown, hts⟩ (mX3_sizeOf l D k ma mi st rp tp cr cw ik ln lg ce p1 _ ev18) (cwV 1 hts (lw_V q1131 q1133 qs71 q94 q1134) rfl rfl rfl ⟨rfl, hdX3_sizeOf⟩ ⟨Nat.le_of_ble_eq_true rfl, Nat.le_of_ble_eq_true rfl⟩) hK hP [0, 1, 2, 3, 4, 5, 6, 7, 8, 9] rfl 0 3 rfl rfl rfl hl.1 rfl (Nat.le_of_ble_eq_true rfl) dX3_alike_63 ⟨Nat.le_of_ble_eq_true rfl, Nat.le_of_ble_eq_true rfl⟩ ?_
              refine lv_imul hx hb dX3_alike_66 ?_
              refine lv_icmp_ge (tgt := 105) hx hb dX3_alike_67 (by decide) (fun c20 => ?_) (fun c20 => ?_)
              · have hf := oi_t c20 hf
                exact hB105 x3_54 hf ls (lv_sub hl [2] rfl)
              · have hf := oi_f c20 hf
                refine lv_aload_n hx hb dX3_alike_70 rfl (lv_at hl 0 rfl) ?_
                refine va_get (D := D) (cl := vwCl) (ci := 3) (v := .ref (ma 1)) (C := RX3) (T := TX3) (N := 18) hx hb hts in_X3 hown hK.1 hP 0 rfl rfl 0 (by decide) (hts _ q938) (fun _ h9 => h9) rfl dX3_alike_71 ?_
                refine lv_iload hx hb dX3_alike_74 (lv_at hl 3 rfl) ?_
                refine lv_iload hx hb dX3_alike_76 (lv_at hl 5 rfl) ?_
                refine lv_iadd hx hb dX3_alike_78 ?_
                obtain ⟨v21, ev21, hf⟩ := ob hf
                refine x_iald hx hb hK hP 1 1 ev21 rfl rfl dX3_alike_79 ?_
                refine lv_aload_n hx hb dX3_alike_80 rfl (lv_at hl 0 rfl) ?_
                refine va_get (D := D) (cl := vwCl) (ci := 3) (v := .ref (ma 1)) (C := RX3) (T := TX3) (N := 18) hx hb hts in_X3 hown hK.1 hP 0 rfl rfl 0 (by decide) (hts _ q938) (fun _ h9 => h9) rfl dX3_alike_81 ?_
                refine lv_iload hx hb dX3_alike_84 (lv_at hl 4 rfl) ?_
                refine lv_iload hx hb dX3_alike_86 (lv_at hl 5 rfl) ?_
                refine lv_iadd hx hb dX3_alike_88 ?_
                obtain ⟨v22, ev22, hf⟩ := ob hf
                refine x_iald hx hb hK hP 1 1 ev22 rfl rfl dX3_alike_89 ?_
                have hB98 : ∀ (x4_98 : Int32) (x5_98 : Int32) (x6_98 : Int32) (s0_98 : Int32), fX3_alike_B98 st p1 p2 (fX3_alike_L54 st p1 p2 nn54) x4_98 x5_98 x6_98 s0_98 = some r → ∀ ls : Array Slot, lv_has ls 7 [(0, .ref (ma 0)), (1, .int p1), (4, .int x4_98), (5, .int x5_98), (6, .int x6_98)] → gR p l e rmX3_alike s m [.ref (ma 0), .int p1, .int p2] below meth c (vp_Si (fun x => x = r)) 98 ls [.int s0_98] := by
                  intro x4_98 x5_98 x6_98 s0_98 hf ls hl
                  unfold fX3_alike_B98 at hf
                  refine lv_istore_n (lv' := [(3, .int s0_98), (0, .ref (ma 0)), (1, .int p1), (4, .int x4_98), (5, .int x5_98), (6, .int x6_98)]) hx hb dX3_alike_98 rfl hl (by decide) rfl (fun ls hl => ?_)
                  refine lv_iinc (v := (x6_98 + 1)) (lv' := [(6, .int (x6_98 + 1)), (3, .int s0_98), (0, .ref (ma 0)), (1, .int p1), (4, .int x4_98), (5, .int x5_98)]) hx hb dX3_alike_99 hl (k := 5) rfl rfl (by decide) rfl (fun ls hl => ?_)
                  refine lv_goto (tgt := 54) hx hb dX3_alike_102 (by decide) ?_
                  exact ih54 s0_98 x4_98 x5_98 (x6_98 + 1) hf ls (lv_sub hl [2, 3, 1, 4, 5, 0] rfl)
                refine lv_icmp_ne (tgt := 97) hx hb dX3_alike_90 (by decide) (fun c23 => ?_) (fun c23 => ?_)
                · have hf := oi_f c23 hf
                  refine lv_iconst (v := 0) hx hb dX3_alike_97 (by decide) ?_
                  exact hB98 x4_54 x5_54 x6_54 (0 : Int32) hf ls (lv_sub hl [0, 1, 3, 4, 5] rfl)
                · have hf := oi_t c23 hf
                  refine lv_iconst (v := 1) hx hb dX3_alike_93 (by decide) ?_
                  refine lv_goto (tgt := 98) hx hb dX3_alike_94 (by decide) ?_
                  exact hB98 x4_54 x5_54 x6_54 (1 : Int32) hf ls (lv_sub hl [0, 1, 3, 4, 5] rfl)
        exact hL54 FU s0_36 v12 v14 (0 : Int32) hf ls (lv_sub hl [4, 5, 3, 2, 1, 0] rfl)
      refine lv_icmp_ne (tgt := 35) hx hb dX3_alike_28 (by decide) (fun c11 => ?_) (fun c11 => ?_)
      · have hf := oi_f c11 hf
        refine lv_iconst (v := 0) hx hb dX3_alike_35 (by decide) ?_
        exact hB36 (0 : Int32) hf ls (lv_sub hl [0, 1, 2] rfl)
      · have hf := oi_t c11 hf
        refine lv_iconst (v := 1) hx hb dX3_alike_31 (by decide) ?_
        refine lv_goto (tgt := 36) hx hb dX3_alike_32 (by decide) ?_
        exact hB36 (1 : Int32) hf ls (lv_sub hl [0, 1, 2] rfl)
    · have hf := oi_t c6 hf
      refine lv_iconst (v := (-1)) hx hb dX3_alike_16 (by decide) ?_
      exact rd_iret hx hb hr hlk (Option.some.inj hf) dX3_alike_17

abbrev rmX3_weight : Room := { frames := 2, cells := 0, slots := 0, locals := 46 }
theorem hdX3_weight : yX3_weight.cls ≠ "java/lang/invoke/MethodHandle" ∧ yX3_weight.cls ≠ "java/lang/invoke/VarHandle" ∧ (parseMethodDescriptor yX3_weight.desc).map (fun d => d.parameters.length) = some 1 := by decide +kernel
set_option maxHeartbeats 4000000 in
theorem mX3_weight (l : Launch) (D : va_G) (k : Nat → ClassId) (ma : Nat → Nat) (mi : Nat → Int32) (st : Nat → Int32) (rp : Nat → Int32) (tp : Nat → Int32) (cr : Nat → Int32) (cw : Nat → Int32) (ik : Nat → Int32) (ln : Nat → Int32) (lg : Nat → Int32) (ce : Nat → Int64) (p1 : Int32) (r : Int32) (hf : fX3_weight st p1 = some r) : CtI l yX3_weight cX3_weight 2 rmX3_weight [.ref (ma 0), .int p1] D k (wM k ma mi st rp tp cr cw ik ln lg ce) r := by
  refine rd_start (by decide +kernel) (Nat.le_of_ble_eq_true rfl) ?_
  intro p e s m below meth c ls hx hb hr hlk hml hown hts hP hK hl
  have hl : lv_has ls 2 [(0, .ref (ma 0)), (1, .int p1)] := hl
  have hown : s.vm.findClass RX3 = some m.cls := hown
  unfold fX3_weight at hf
  refine lv_aload_n hx hb dX3_weight_0 rfl (lv_at hl 0 rfl) ?_
  refine lv_iload_n hx hb dX3_weight_1 rfl (lv_at hl 1 rfl) ?_
  obtain ⟨v1, ev1, hf⟩ := ob hf
  refine rd_callVZ (As := [.int p1]) (rest := []) ⟨hx, hb, hml, hown, hts⟩ (mX3_isNode l D k ma mi st rp tp cr cw ik ln lg ce p1 _ ev1) (cwV 1 hts (lw_V q1107 q1109 qs65 q94 q1110) rfl rfl rfl ⟨rfl, hdX3_isNode⟩ ⟨Nat.le_of_ble_eq_true rfl, Nat.le_of_ble_eq_true rfl⟩) hK hP [0, 1, 2, 3, 4, 5, 6, 7, 8, 9] rfl 0 3 rfl rfl rfl hl.1 rfl (Nat.le_of_ble_eq_true rfl) dX3_weight_2 ⟨Nat.le_of_ble_eq_true rfl, Nat.le_of_ble_eq_true rfl⟩ (fun zv1 => ?_)
  refine lv_if_eq (tgt := 21) hx hb dX3_weight_5 (by decide) (fun c3 => ?_) (fun c3 => ?_)
  · have hf := oi_t c3 hf
    refine lv_iconst (v := (-1)) hx hb dX3_weight_21 (by decide) ?_
    exact rd_iret hx hb hr hlk (Option.some.inj hf) dX3_weight_22
  · have hf := oi_f c3 hf
    refine lv_aload_n hx hb dX3_weight_8 rfl (lv_at hl 0 rfl) ?_
    refine va_get (D := D) (cl := vwCl) (ci := 3) (v := .ref (ma 1)) (C := RX3) (T := TX3) (N := 18) hx hb hts in_X3 hown hK.1 hP 0 rfl rfl 0 (by decide) (hts _ q938) (fun _ h9 => h9) rfl dX3_weight_9 ?_
    refine lv_sipush (v := 128) hx hb dX3_weight_12 (by decide) ?_
    refine lv_iload_n hx hb dX3_weight_15 rfl (lv_at hl 1 rfl) ?_
    refine lv_iadd hx hb dX3_weight_16 ?_
    obtain ⟨v4, ev4, hf⟩ := ob hf
    refine x_iald hx hb hK hP 1 1 ev4 rfl rfl dX3_weight_17 ?_
    refine lv_goto (tgt := 22) hx hb dX3_weight_18 (by decide) ?_
    exact rd_iret hx hb hr hlk (Option.some.inj hf) dX3_weight_22

abbrev rmX3_set : Room := { frames := 2, cells := 0, slots := 0, locals := 46 }
theorem hdX3_set : yX3_set.cls ≠ "java/lang/invoke/MethodHandle" ∧ yX3_set.cls ≠ "java/lang/invoke/VarHandle" ∧ (parseMethodDescriptor yX3_set.desc).map (fun d => d.parameters.length) = some 2 := by decide +kernel
abbrev qcX3_set (D : va_G) (k : Nat → ClassId) (ma : Nat → Nat) (mi : Nat → Int32) (st : Nat → Int32) (rp : Nat → Int32) (tp : Nat → Int32) (cr : Nat → Int32) (cw : Nat → Int32) (ik : Nat → Int32) (ln : Nat → Int32) (lg : Nat → Int32) (ce : Nat → Int64) (r : Int32) (A : Nat → Prop) : Array Value → State → Outcome → State → Prop := va_Qi (fun x (_ : Unit) => x = r) (fun _ t => va_P D vwCl (wM k ma mi st rp tp cr cw ik ln lg ce) t.heap) A
set_option maxHeartbeats 4000000 in
theorem mX3_set (l : Launch) (D : va_G) (k : Nat → ClassId) (ma : Nat → Nat) (mi : Nat → Int32) (st : Nat → Int32) (rp : Nat → Int32) (tp : Nat → Int32) (cr : Nat → Int32) (cw : Nat → Int32) (ik : Nat → Int32) (ln : Nat → Int32) (lg : Nat → Int32) (ce : Nat → Int64) (p1 : Int32) (p2 : Int32) (sz : Nat) (r : Int32) (st_o : Nat → Int32) (hf : fX3_set st p1 p2 = some (r, st_o)) : Met l yX3_set (ws_ yX3_set cX3_set 4 (some .int)) rmX3_set (wrP D k (wM k ma mi st rp tp cr cw ik ln lg ce) sz [.ref (ma 0), .int p1, .int p2]) (qcX3_set D k ma mi st_o rp tp cr cw ik ln lg ce r (va_A (wM k ma mi st rp tp cr cw ik ln lg ce) sz)) 0 0 (va_A (wM k ma mi st rp tp cr cw ik ln lg ce) sz) := by
  refine wr_start (Qc := fun A => qcX3_set D k ma mi st_o rp tp cr cw ik ln lg ce r A) (by decide +kernel) (Nat.le_of_ble_eq_true rfl) ?_
  intro p e s m below meth c ls A hA hx hb hr hlk hml hown hts hP hK hD hl
  have hl : lv_has ls 4 [(0, .ref (ma 0)), (1, .int p1), (2, .int p2)] := hl
  have hown : s.vm.findClass RX3 = some m.cls := hown
  have hS : va_S A s.heap s.heap [] := va_S.rf
  suffices hw : ∀ (H : Heap) (locs : List Loc), va_P D vwCl (wM k ma mi st rp tp cr cw ik ln lg ce) H → va_S A s.heap H locs → gW p l e rmX3_set s m [.ref (ma 0), .int p1, .int p2] below meth c (qcX3_set D k ma mi st_o rp tp cr cw ik ln lg ce r A) A 0 0 H locs 0 ls [] from hw s.heap [] hP hS
  clear hP hS
  intro H locs hP hS
  unfold fX3_set at hf
  refine lv_aload_n hx hb dX3_set_0 rfl (lv_at hl 0 rfl) ?_
  refine lv_iload_n hx hb dX3_set_1 rfl (lv_at hl 1 rfl) ?_
  obtain ⟨v1, ev1, hf⟩ := ob hf
  refine rd_callVZ (As := [.int p1]) (rest := []) ⟨hx, hb, hml, hown, hts⟩ (mX3_isNode l D k ma mi st rp tp cr cw ik ln lg ce p1 _ ev1) (cwV 1 hts (lw_V q1107 q1109 qs65 q94 q1110) rfl rfl rfl ⟨rfl, hdX3_isNode⟩ ⟨Nat.le_of_ble_eq_true rfl, Nat.le_of_ble_eq_true rfl⟩) hK hP [0, 1, 2, 3, 4, 5, 6, 7, 8, 9] rfl 0 3 rfl rfl rfl hl.1 rfl (Nat.le_of_ble_eq_true rfl) dX3_set_2 ⟨Nat.le_of_ble_eq_true rfl, Nat.le_of_ble_eq_true rfl⟩ (fun zv1 => ?_)
  refine lv_if_eq (tgt := 12) hx hb dX3_set_5 (by decide) (fun c3 => ?_) (fun c3 => ?_)
  · have hf := oi_t c3 hf
    refine lv_iconst (v := (-1)) hx hb dX3_set_12 (by decide) ?_
    obtain ⟨he1, he2⟩ := prod2 hf
    rw [he2] at hP
    exact wr_iret hx hb hr hlk he1 hP hS dX3_set_13
  · have hf := oi_f c3 hf
    refine lv_iload_n hx hb dX3_set_8 rfl (lv_at hl 2 rfl) ?_
    refine lv_if_ge (tgt := 14) hx hb dX3_set_9 (by decide) (fun c4 => ?_) (fun c4 => ?_)
    · have hf := oi_t c4 hf
      refine lv_aload_n hx hb dX3_set_14 rfl (lv_at hl 0 rfl) ?_
      refine va_get (D := D) (cl := vwCl) (ci := 3) (v := .ref (ma 1)) (C := RX3) (T := TX3) (N := 18) hx hb hts in_X3 hown hK.1 hP 0 rfl rfl 0 (by decide) (hts _ q938) (fun _ h9 => h9) rfl dX3_set_15 ?_
      refine lv_sipush (v := 128) hx hb dX3_set_18 (by decide) ?_
      refine lv_iload_n hx hb dX3_set_21 rfl (lv_at hl 1 rfl) ?_
      refine lv_iadd hx hb dX3_set_22 ?_
      obtain ⟨v5, ev5, hf⟩ := ob hf
      refine x_iald hx hb hK hP 1 1 ev5 rfl rfl dX3_set_23 ?_
      refine lv_istore_n (lv' := [(3, .int v5), (0, .ref (ma 0)), (1, .int p1), (2, .int p2)]) hx hb dX3_set_24 rfl hl (by decide) rfl (fun ls hl => ?_)
      refine lv_aload_n hx hb dX3_set_25 rfl (lv_at hl 1 rfl) ?_
      refine va_get (D := D) (cl := vwCl) (ci := 3) (v := .ref (ma 1)) (C := RX3) (T := TX3) (N := 18) hx hb hts in_X3 hown hK.1 hP 0 rfl rfl 0 (by decide) (hts _ q938) (fun _ h9 => h9) rfl dX3_set_26 ?_
      refine lv_sipush (v := 128) hx hb dX3_set_29 (by decide) ?_
      refine lv_iload_n hx hb dX3_set_32 rfl (lv_at hl 2 rfl) ?_
      refine lv_iadd hx hb dX3_set_33 ?_
      refine lv_iload_n hx hb dX3_set_34 rfl (lv_at hl 3 rfl) ?_
      obtain ⟨u6, eu6, hf⟩ := ob hf
      refine x_iast hx hb hK hP hD hS 1 1 eu6 rfl rfl (wM k ma mi u6 rp tp cr cw ik ln lg ce) rfl dX3_set_35 (fun H locs hP hD hS => ?_)
      refine lv_iload_n hx hb dX3_set_36 rfl (lv_at hl 0 rfl) ?_
      obtain ⟨he1, he2⟩ := prod2 hf
      rw [he2] at hP
      exact wr_iret hx hb hr hlk he1 hP hS dX3_set_37
    · have hf := oi_f c4 hf
      refine lv_iconst (v := (-1)) hx hb dX3_set_12 (by decide) ?_
      obtain ⟨he1, he2⟩ := prod2 hf
      rw [he2] at hP
      exact wr_iret hx hb hr hlk he1 hP hS dX3_set_13

abbrev rmX3_sum : Room := { frames := 3, cells := 0, slots := 0, locals := 67 }
theorem hdX3_sum : yX3_sum.cls ≠ "java/lang/invoke/MethodHandle" ∧ yX3_sum.cls ≠ "java/lang/invoke/VarHandle" ∧ (parseMethodDescriptor yX3_sum.desc).map (fun d => d.parameters.length) = some 2 := by decide +kernel
set_option maxHeartbeats 4000000 in
theorem mX3_sum (l : Launch) (D : va_G) (k : Nat → ClassId) (ma : Nat → Nat) (mi : Nat → Int32) (st : Nat → Int32) (rp : Nat → Int32) (tp : Nat → Int32) (cr : Nat → Int32) (cw : Nat → Int32) (ik : Nat → Int32) (ln : Nat → Int32) (lg : Nat → Int32) (ce : Nat → Int64) (p1 : Int32) (p2 : Int32) (r : Int32) (hf : fX3_sum st p1 p2 = some r) : CtI l yX3_sum cX3_sum 7 rmX3_sum [.ref (ma 0), .int p1, .int p2] D k (wM k ma mi st rp tp cr cw ik ln lg ce) r := by
  refine rd_start (by decide +kernel) (Nat.le_of_ble_eq_true rfl) ?_
  intro p e s m below meth c ls hx hb hr hlk hml hown hts hP hK hl
  have hl : lv_has ls 7 [(0, .ref (ma 0)), (1, .int p1), (2, .int p2)] := hl
  have hown : s.vm.findClass RX3 = some m.cls := hown
  unfold fX3_sum at hf
  refine lv_aload_n hx hb dX3_sum_0 rfl (lv_at hl 0 rfl) ?_
  refine lv_iload_n hx hb dX3_sum_1 rfl (lv_at hl 1 rfl) ?_
  obtain ⟨v1, ev1, hf⟩ := ob hf
  refine rd_callVZ (As := [.int p1]) (rest := []) ⟨hx, hb, hml, hown, hts⟩ (mX3_isNode l D k ma mi st rp tp cr cw ik ln lg ce p1 _ ev1) (cwV 1 hts (lw_V q1107 q1109 qs65 q94 q1110) rfl rfl rfl ⟨rfl, hdX3_isNode⟩ ⟨Nat.le_of_ble_eq_true rfl, Nat.le_of_ble_eq_true rfl⟩) hK hP [0, 1, 2, 3, 4, 5, 6, 7, 8, 9] rfl 0 3 rfl rfl rfl hl.1 rfl (Nat.le_of_ble_eq_true rfl) dX3_sum_2 ⟨Nat.le_of_ble_eq_true rfl, Nat.le_of_ble_eq_true rfl⟩ (fun zv1 => ?_)
  refine lv_if_eq (tgt := 18) hx hb dX3_sum_5 (by decide) (fun c3 => ?_) (fun c3 => ?_)
  · have hf := oi_t c3 hf
    refine lv_iconst (v := (-1)) hx hb dX3_sum_18 (by decide) ?_
    exact rd_iret hx hb hr hlk (Option.some.inj hf) dX3_sum_19
  · have hf := oi_f c3 hf
    refine lv_iload_n hx hb dX3_sum_8 rfl (lv_at hl 2 rfl) ?_
    refine lv_i2l hx hb dX3_sum_9 rfl ?_
    refine lv_lconst (v := 0) hx hb dX3_sum_10 (by decide) ?_
    refine lv_lconst (v := 1) hx hb dX3_sum_11 (by decide) ?_
    obtain ⟨v4, ev4, hf⟩ := ob hf
    refine rd_callSZ (As := [.long ((p2).toInt64), .long (0 : Int64), .long (1 : Int64)]) (rest := []) ⟨hx, hb, hml, hown, hts⟩ (mX3_in l D k   ((p2).toInt64) (0 : Int64) (1 : Int64) _ ev4) (va_cwS 3 hts (lw_S q999 q1000 q94 q1001) rfl rfl rfl hdX3_in ⟨Nat.le_of_ble_eq_true rfl, Nat.le_of_ble_eq_true rfl⟩) hK rfl hl.1 rfl (Nat.le_of_ble_eq_true rfl) dX3_sum_12 ⟨Nat.le_of_ble_eq_true rfl, Nat.le_of_ble_eq_true rfl⟩ (fun zv4 => ?_)
    refine lv_if_ne (tgt := 20) hx hb dX3_sum_15 (by decide) (fun c6 => ?_) (fun c6 => ?_)
    · have hf := oi_f c6 hf
      refine lv_lconst (v := 0) hx hb dX3_sum_20 (by decide) ?_
      refine lv_lstore_n (lv' := [(3, .long (0 : Int64)), (0, .ref (ma 0)), (1, .int p1), (2, .int p2)]) hx hb dX3_sum_21 rfl hl (by decide) rfl (fun ls hl => ?_)
      refine lv_iconst (v := 0) hx hb dX3_sum_22 (by decide) ?_
      refine lv_istore (lv' := [(5, .int (0 : Int32)), (3, .long (0 : Int64)), (0, .ref (ma 0)), (1, .int p1), (2, .int p2)]) hx hb dX3_sum_23 hl (by decide) rfl (fun ls hl => ?_)
      have hL25 : ∀ (nn : Nat) (x3_25 : Int64) (x5_25 : Int32), fX3_sum_L25 st p1 p2 nn x3_25 x5_25 = some r → ∀ ls : Array Slot, lv_has ls 7 [(0, .ref (ma 0)), (1, .int p1), (2, .int p2), (3, .long x3_25), (5, .int x5_25)] → gR p l e rmX3_sum s m [.ref (ma 0), .int p1, .int p2] below meth c (vp_Si (fun x => x = r)) 25 ls [] := by
        intro nn25
        induction nn25 with
        | zero =>
          intro x3_25 x5_25 hf
          rw [fX3_sum_L25] at hf; cases hf
        | succ nn25 ih25 =>
          intro x3_25 x5_25 hf ls hl
          rw [fX3_sum_L25] at hf
          refine lv_iload hx hb dX3_sum_25 (lv_at hl 4 rfl) ?_
          refine lv_aload_n hx hb dX3_sum_27 rfl (lv_at hl 0 rfl) ?_
          obtain ⟨v7, ev7, hf⟩ := ob hf
          refine rd_callV (As := []) (rest := [.int x5_25]) ⟨hx, hb, hml, hown, hts⟩ (mX3_many l D k ma mi st rp tp cr cw ik ln lg ce  _ ev7) (cwV 0 hts (lw_V q1048 q1050 qs61 q94 q1051) rfl rfl rfl ⟨rfl, hdX3_many⟩ ⟨Nat.le_of_ble_eq_true rfl, Nat.le_of_ble_eq_true rfl⟩) hK hP [0, 1, 2, 3, 4, 5, 6, 7, 8, 9] rfl 0 3 rfl rfl rfl hl.1 rfl (Nat.le_of_ble_eq_true rfl) dX3_sum_28 ⟨Nat.le_of_ble_eq_true rfl, Nat.le_of_ble_eq_true rfl⟩ ?_
          refine lv_icmp_ge (tgt := 87) hx hb dX3_sum_31 (by decide) (fun c9 => ?_) (fun c9 => ?_)
          · have hf := oi_t c9 hf
            refine lv_lload_n hx hb dX3_sum_87 rfl (lv_at hl 3 rfl) ?_
            refine lv_ldc2 hx hb hown (hts _ q1219) dX3_sum_88 ?_
            refine W.lcmp hx hb dX3_sum_91 ?_
            refine lv_if_le (tgt := 100) hx hb dX3_sum_92 (by decide) (fun c10 => ?_) (fun c10 => ?_)
            · have hf := oi_t c10 hf
              refine lv_lload_n hx hb dX3_sum_100 rfl (lv_at hl 3 rfl) ?_
              refine lv_l2i hx hb dX3_sum_101 rfl ?_
              exact rd_iret hx hb hr hlk (Option.some.inj hf) dX3_sum_102
            · have hf := oi_f c10 hf
              refine lv_bipush (v := (-5)) hx hb dX3_sum_95 (by decide) ?_
              refine lv_goto (tgt := 102) hx hb dX3_sum_97 (by decide) ?_
              exact rd_iret hx hb hr hlk (Option.some.inj hf) dX3_sum_102
          · have hf := oi_f c9 hf
            refine lv_iload_n hx hb dX3_sum_34 rfl (lv_at hl 2 rfl) ?_
            have hB55 : ∀ (x3_55 : Int64) (x5_55 : Int32) (s0_55 : Int32), fX3_sum_B55 st p1 p2 (fX3_sum_L25 st p1 p2 nn25) x3_55 x5_55 s0_55 = some r → ∀ ls : Array Slot, lv_has ls 7 [(0, .ref (ma 0)), (1, .int p1), (2, .int p2), (3, .long x3_55), (5, .int x5_55)] → gR p l e rmX3_sum s m [.ref (ma 0), .int p1, .int p2] below meth c (vp_Si (fun x => x = r)) 55 ls [.int s0_55] := by
              intro x3_55 x5_55 s0_55 hf ls hl
              unfold fX3_sum_B55 at hf
              refine lv_istore (lv' := [(6, .int s0_55), (0, .ref (ma 0)), (1, .int p1), (2, .int p2), (3, .long x3_55), (5, .int x5_55)]) hx hb dX3_sum_55 hl (by decide) rfl (fun ls hl => ?_)
              refine lv_lload_n hx hb dX3_sum_57 rfl (lv_at hl 4 rfl) ?_
              refine lv_iload hx hb dX3_sum_58 (lv_at hl 0 rfl) ?_
              have hB79 : ∀ (x5_79 : Int32) (s0_79 : Int64) (s1_79 : Int64), fX3_sum_B79 st p1 p2 (fX3_sum_L25 st p1 p2 nn25) x5_79 s0_79 s1_79 = some r → ∀ ls : Array Slot, lv_has ls 7 [(0, .ref (ma 0)), (1, .int p1), (2, .int p2), (5, .int x5_79)] → gR p l e rmX3_sum s m [.ref (ma 0), .int p1, .int p2] below meth c (vp_Si (fun x => x = r)) 79 ls [.long s0_79, .long s1_79] := by
                intro x5_79 s0_79 s1_79 hf ls hl
                unfold fX3_sum_B79 at hf
                refine lv_ladd hx hb dX3_sum_79 ?_
                obtain ⟨y13, ey13, hf⟩ := ob hf
                refine x_asL ey13 ?_
                refine lv_lstore_n (lv' := [(3, .long y13), (0, .ref (ma 0)), (1, .int p1), (2, .int p2), (5, .int x5_79)]) hx hb dX3_sum_80 rfl hl (by decide) rfl (fun ls hl => ?_)
                refine lv_iinc (v := (x5_79 + 1)) (lv' := [(5, .int (x5_79 + 1)), (3, .long y13), (0, .ref (ma 0)), (1, .int p1), (2, .int p2)]) hx hb dX3_sum_81 hl (k := 4) rfl rfl (by decide) rfl (fun ls hl => ?_)
                refine lv_goto (tgt := 25) hx hb dX3_sum_84 (by decide) ?_
                exact ih25 y13 (x5_79 + 1) hf ls (lv_sub hl [2, 3, 4, 1, 0] rfl)
              refine lv_if_eq (tgt := 78) hx hb dX3_sum_60 (by decide) (fun c12 => ?_) (fun c12 => ?_)
              · have hf := oi_t c12 hf
                refine lv_lconst (v := 0) hx hb dX3_sum_78 (by decide) ?_
                exact hB79 x5_55 (0 : Int64) x3_55 hf ls (lv_sub hl [1, 2, 3, 5] rfl)
              · have hf := oi_f c12 hf
                refine lv_aload_n hx hb dX3_sum_63 rfl (lv_at hl 1 rfl) ?_
                refine va_get (D := D) (cl := vwCl) (ci := 3) (v := .ref (ma 1)) (C := RX3) (T := TX3) (N := 18) hx hb hts in_X3 hown hK.1 hP 0 rfl rfl 0 (by decide) (hts _ q938) (fun _ h9 => h9) rfl dX3_sum_64 ?_
                refine lv_sipush (v := 128) hx hb dX3_sum_67 (by decide) ?_
                refine lv_iload hx hb dX3_sum_70 (lv_at hl 5 rfl) ?_
                refine lv_iadd hx hb dX3_sum_72 ?_
                obtain ⟨v14, ev14, hf⟩ := ob hf
                refine x_iald hx hb hK hP 1 1 ev14 rfl rfl dX3_sum_73 ?_
                refine lv_i2l hx hb dX3_sum_74 rfl ?_
                refine lv_goto (tgt := 79) hx hb dX3_sum_75 (by decide) ?_
                exact hB79 x5_55 ((v14).toInt64) x3_55 hf ls (lv_sub hl [1, 2, 3, 5] rfl)
            refine lv_if_ne (tgt := 48) hx hb dX3_sum_35 (by decide) (fun c11 => ?_) (fun c11 => ?_)
            · have hf := oi_f c11 hf
              refine lv_aload_n hx hb dX3_sum_48 rfl (lv_at hl 0 rfl) ?_
              refine lv_iload hx hb dX3_sum_49 (lv_at hl 4 rfl) ?_
              refine lv_iload_n hx hb dX3_sum_51 rfl (lv_at hl 1 rfl) ?_
              obtain ⟨v15, ev15, hf⟩ := ob hf
              refine rd_callVZ (As := [.int x5_25, .int p1]) (rest := []) ⟨hx, hb, hml, hown, hts⟩ (mX3_isAbove l D k ma mi st rp tp cr cw ik ln lg ce x5_25 p1 _ ev15) (cwV 2 hts (lw_V q1183 q1185 qs80 q94 q1186) rfl rfl rfl ⟨rfl, hdX3_isAbove⟩ ⟨Nat.le_of_ble_eq_true rfl, Nat.le_of_ble_eq_true rfl⟩) hK hP [0, 1, 2, 3, 4, 5, 6, 7, 8, 9] rfl 0 3 rfl rfl rfl hl.1 rfl (Nat.le_of_ble_eq_true rfl) dX3_sum_52 ⟨Nat.le_of_ble_eq_true rfl, Nat.le_of_ble_eq_true rfl⟩ (fun zv15 => ?_)
              exact hB55 x3_25 x5_25 v15 hf ls (lv_sub hl [0, 1, 2, 3, 4] rfl)
            · have hf := oi_t c11 hf
              refine lv_aload_n hx hb dX3_sum_38 rfl (lv_at hl 0 rfl) ?_
              refine lv_iload_n hx hb dX3_sum_39 rfl (lv_at hl 1 rfl) ?_
              refine lv_iload hx hb dX3_sum_40 (lv_at hl 4 rfl) ?_
              obtain ⟨v17, ev17, hf⟩ := ob hf
              refine rd_callVZ (As := [.int p1, .int x5_25]) (rest := []) ⟨hx, hb, hml, hown, hts⟩ (mX3_isAbove l D k ma mi st rp tp cr cw ik ln lg ce p1 x5_25 _ ev17) (cwV 2 hts (lw_V q1183 q1185 qs80 q94 q1186) rfl rfl rfl ⟨rfl, hdX3_isAbove⟩ ⟨Nat.le_of_ble_eq_true rfl, Nat.le_of_ble_eq_true rfl⟩) hK hP [0, 1, 2, 3, 4, 5, 6, 7, 8, 9] rfl 0 3 rfl rfl rfl hl.1 rfl (Nat.le_of_ble_eq_true rfl) dX3_sum_42 ⟨Nat.le_of_ble_eq_true rfl, Nat.le_of_ble_eq_true rfl⟩ (fun zv17 => ?_)
              refine lv_goto (tgt := 55) hx hb dX3_sum_45 (by decide) ?_
              exact hB55 x3_25 x5_25 v17 hf ls (lv_sub hl [0, 1, 2, 3, 4] rfl)
      exact hL25 FU (0 : Int64) (0 : Int32) hf ls (lv_sub hl [2, 3, 4, 1, 0] rfl)
    · have hf := oi_t c6 hf
      refine lv_iconst (v := (-1)) hx hb dX3_sum_18 (by decide) ?_
      exact rd_iret hx hb hr hlk (Option.some.inj hf) dX3_sum_19

abbrev rmX3_heaviest : Room := { frames := 2, cells := 0, slots := 0, locals := 46 }
theorem hdX3_heaviest : yX3_heaviest.cls ≠ "java/lang/invoke/MethodHandle" ∧ yX3_heaviest.cls ≠ "java/lang/invoke/VarHandle" ∧ (parseMethodDescriptor yX3_heaviest.desc).map (fun d => d.parameters.length) = some 1 := by decide +kernel
set_option maxHeartbeats 4000000 in
theorem mX3_heaviest (l : Launch) (D : va_G) (k : Nat → ClassId) (ma : Nat → Nat) (mi : Nat → Int32) (st : Nat → Int32) (rp : Nat → Int32) (tp : Nat → Int32) (cr : Nat → Int32) (cw : Nat → Int32) (ik : Nat → Int32) (ln : Nat → Int32) (lg : Nat → Int32) (ce : Nat → Int64) (p1 : Int32) (r : Int32) (hf : fX3_heaviest st p1 = some r) : CtI l yX3_heaviest cX3_heaviest 4 rmX3_heaviest [.ref (ma 0), .int p1] D k (wM k ma mi st rp tp cr cw ik ln lg ce) r := by
  refine rd_start (by decide +kernel) (Nat.le_of_ble_eq_true rfl) ?_
  intro p e s m below meth c ls hx hb hr hlk hml hown hts hP hK hl
  have hl : lv_has ls 4 [(0, .ref (ma 0)), (1, .int p1)] := hl
  have hown : s.vm.findClass RX3 = some m.cls := hown
  unfold fX3_heaviest at hf
  refine lv_aload_n hx hb dX3_heaviest_0 rfl (lv_at hl 0 rfl) ?_
  refine lv_iload_n hx hb dX3_heaviest_1 rfl (lv_at hl 1 rfl) ?_
  obtain ⟨v1, ev1, hf⟩ := ob hf
  refine rd_callVZ (As := [.int p1]) (rest := []) ⟨hx, hb, hml, hown, hts⟩ (mX3_isNode l D k ma mi st rp tp cr cw ik ln lg ce p1 _ ev1) (cwV 1 hts (lw_V q1107 q1109 qs65 q94 q1110) rfl rfl rfl ⟨rfl, hdX3_isNode⟩ ⟨Nat.le_of_ble_eq_true rfl, Nat.le_of_ble_eq_true rfl⟩) hK hP [0, 1, 2, 3, 4, 5, 6, 7, 8, 9] rfl 0 3 rfl rfl rfl hl.1 rfl (Nat.le_of_ble_eq_true rfl) dX3_heaviest_2 ⟨Nat.le_of_ble_eq_true rfl, Nat.le_of_ble_eq_true rfl⟩ (fun zv1 => ?_)
  refine lv_if_ne (tgt := 10) hx hb dX3_heaviest_5 (by decide) (fun c3 => ?_) (fun c3 => ?_)
  · have hf := oi_f c3 hf
    refine lv_iload_n hx hb dX3_heaviest_10 rfl (lv_at hl 1 rfl) ?_
    refine lv_istore_n (lv' := [(2, .int p1), (0, .ref (ma 0)), (1, .int p1)]) hx hb dX3_heaviest_11 rfl hl (by decide) rfl (fun ls hl => ?_)
    refine lv_iload_n hx hb dX3_heaviest_12 rfl (lv_at hl 2 rfl) ?_
    refine lv_istore_n (lv' := [(3, .int p1), (2, .int p1), (0, .ref (ma 0)), (1, .int p1)]) hx hb dX3_heaviest_13 rfl hl (by decide) rfl (fun ls hl => ?_)
    have hL14 : ∀ (nn : Nat) (x2_14 : Int32) (x3_14 : Int32), fX3_heaviest_L14 st p1 nn x2_14 x3_14 = some r → ∀ ls : Array Slot, lv_has ls 4 [(0, .ref (ma 0)), (1, .int p1), (2, .int x2_14), (3, .int x3_14)] → gR p l e rmX3_heaviest s m [.ref (ma 0), .int p1] below meth c (vp_Si (fun x => x = r)) 14 ls [] := by
      intro nn14
      induction nn14 with
      | zero =>
        intro x2_14 x3_14 hf
        rw [fX3_heaviest_L14] at hf; cases hf
      | succ nn14 ih14 =>
        intro x2_14 x3_14 hf ls hl
        rw [fX3_heaviest_L14] at hf
        refine lv_iload_n hx hb dX3_heaviest_14 rfl (lv_at hl 3 rfl) ?_
        refine lv_iload_n hx hb dX3_heaviest_15 rfl (lv_at hl 1 rfl) ?_
        refine lv_aload_n hx hb dX3_heaviest_16 rfl (lv_at hl 0 rfl) ?_
        refine lv_iload_n hx hb dX3_heaviest_17 rfl (lv_at hl 1 rfl) ?_
        obtain ⟨v4, ev4, hf⟩ := ob hf
        refine rd_callV (As := [.int p1]) (rest := [.int p1, .int x3_14]) ⟨hx, hb, hml, hown, hts⟩ (mX3_sizeOf l D k ma mi st rp tp cr cw ik ln lg ce p1 _ ev4) (cwV 1 hts (lw_V q1131 q1133 qs71 q94 q1134) rfl rfl rfl ⟨rfl, hdX3_sizeOf⟩ ⟨Nat.le_of_ble_eq_true rfl, Nat.le_of_ble_eq_true rfl⟩) hK hP [0, 1, 2, 3, 4, 5, 6, 7, 8, 9] rfl 0 3 rfl rfl rfl hl.1 rfl (Nat.le_of_ble_eq_true rfl) dX3_heaviest_18 ⟨Nat.le_of_ble_eq_true rfl, Nat.le_of_ble_eq_true rfl⟩ ?_
        refine lv_iadd hx hb dX3_heaviest_21 ?_
        refine lv_icmp_ge (tgt := 60) hx hb dX3_heaviest_22 (by decide) (fun c6 => ?_) (fun c6 => ?_)
        · have hf := oi_t c6 hf
          refine lv_iload_n hx hb dX3_heaviest_60 rfl (lv_at hl 2 rfl) ?_
          exact rd_iret hx hb hr hlk (Option.some.inj hf) dX3_heaviest_61
        · have hf := oi_f c6 hf
          refine lv_aload_n hx hb dX3_heaviest_25 rfl (lv_at hl 0 rfl) ?_
          refine va_get (D := D) (cl := vwCl) (ci := 3) (v := .ref (ma 1)) (C := RX3) (T := TX3) (N := 18) hx hb hts in_X3 hown hK.1 hP 0 rfl rfl 0 (by decide) (hts _ q938) (fun _ h9 => h9) rfl dX3_heaviest_26 ?_
          refine lv_sipush (v := 128) hx hb dX3_heaviest_29 (by decide) ?_
          refine lv_iload_n hx hb dX3_heaviest_32 rfl (lv_at hl 3 rfl) ?_
          refine lv_iadd hx hb dX3_heaviest_33 ?_
          obtain ⟨v7, ev7, hf⟩ := ob hf
          refine x_iald hx hb hK hP 1 1 ev7 rfl rfl dX3_heaviest_34 ?_
          refine lv_aload_n hx hb dX3_heaviest_35 rfl (lv_at hl 0 rfl) ?_
          refine va_get (D := D) (cl := vwCl) (ci := 3) (v := .ref (ma 1)) (C := RX3) (T := TX3) (N := 18) hx hb hts in_X3 hown hK.1 hP 0 rfl rfl 0 (by decide) (hts _ q938) (fun _ h9 => h9) rfl dX3_heaviest_36 ?_
          refine lv_sipush (v := 128) hx hb dX3_heaviest_39 (by decide) ?_
          refine lv_iload_n hx hb dX3_heaviest_42 rfl (lv_at hl 2 rfl) ?_
          refine lv_iadd hx hb dX3_heaviest_43 ?_
          obtain ⟨v8, ev8, hf⟩ := ob hf
          refine x_iald hx hb hK hP 1 1 ev8 rfl rfl dX3_heaviest_44 ?_
          have hB53 : ∀ (x3_53 : Int32) (s0_53 : Int32), fX3_heaviest_B53 st p1 (fX3_heaviest_L14 st p1 nn14) x3_53 s0_53 = some r → ∀ ls : Array Slot, lv_has ls 4 [(0, .ref (ma 0)), (1, .int p1), (3, .int x3_53)] → gR p l e rmX3_heaviest s m [.ref (ma 0), .int p1] below meth c (vp_Si (fun x => x = r)) 53 ls [.int s0_53] := by
            intro x3_53 s0_53 hf ls hl
            unfold fX3_heaviest_B53 at hf
            refine lv_istore_n (lv' := [(2, .int s0_53), (0, .ref (ma 0)), (1, .int p1), (3, .int x3_53)]) hx hb dX3_heaviest_53 rfl hl (by decide) rfl (fun ls hl => ?_)
            refine lv_iinc (v := (x3_53 + 1)) (lv' := [(3, .int (x3_53 + 1)), (2, .int s0_53), (0, .ref (ma 0)), (1, .int p1)]) hx hb dX3_heaviest_54 hl (k := 3) rfl rfl (by decide) rfl (fun ls hl => ?_)
            refine lv_goto (tgt := 14) hx hb dX3_heaviest_57 (by decide) ?_
            exact ih14 s0_53 (x3_53 + 1) hf ls (lv_sub hl [2, 3, 1, 0] rfl)
          refine lv_icmp_le (tgt := 52) hx hb dX3_heaviest_45 (by decide) (fun c9 => ?_) (fun c9 => ?_)
          · have hf := oi_t c9 hf
            refine lv_iload_n hx hb dX3_heaviest_52 rfl (lv_at hl 2 rfl) ?_
            exact hB53 x3_14 x2_14 hf ls (lv_sub hl [0, 1, 3] rfl)
          · have hf := oi_f c9 hf
            refine lv_iload_n hx hb dX3_heaviest_48 rfl (lv_at hl 3 rfl) ?_
            refine lv_goto (tgt := 53) hx hb dX3_heaviest_49 (by decide) ?_
            exact hB53 x3_14 x3_14 hf ls (lv_sub hl [0, 1, 3] rfl)
    exact hL14 FU p1 p1 hf ls (lv_sub hl [2, 3, 1, 0] rfl)
  · have hf := oi_t c3 hf
    refine lv_iconst (v := (-1)) hx hb dX3_heaviest_8 (by decide) ?_
    exact rd_iret hx hb hr hlk (Option.some.inj hf) dX3_heaviest_9

abbrev rmX3_opensPlace : Room := { frames := 0, cells := 0, slots := 0, locals := 0 }
theorem hdX3_opensPlace : yX3_opensPlace.cls ≠ "java/lang/invoke/MethodHandle" ∧ yX3_opensPlace.cls ≠ "java/lang/invoke/VarHandle" ∧ (parseMethodDescriptor yX3_opensPlace.desc).map (fun d => d.parameters.length) = some 2 := by decide +kernel
abbrev qcX3_opensPlace (D : va_G) (k : Nat → ClassId) (ma : Nat → Nat) (mi : Nat → Int32) (st : Nat → Int32) (rp : Nat → Int32) (tp : Nat → Int32) (cr : Nat → Int32) (cw : Nat → Int32) (ik : Nat → Int32) (ln : Nat → Int32) (lg : Nat → Int32) (ce : Nat → Int64) (A : Nat → Prop) : Array Value → State → Outcome → State → Prop := va_Qv (fun (_ : Unit) => True) (fun _ t => va_P D vwCl (wM k ma mi st rp tp cr cw ik ln lg ce) t.heap) A
set_option maxHeartbeats 4000000 in
theorem mX3_opensPlace (l : Launch) (D : va_G) (k : Nat → ClassId) (ma : Nat → Nat) (mi : Nat → Int32) (st : Nat → Int32) (rp : Nat → Int32) (tp : Nat → Int32) (cr : Nat → Int32) (cw : Nat → Int32) (ik : Nat → Int32) (ln : Nat → Int32) (lg : Nat → Int32) (ce : Nat → Int64) (p1 : Int32) (p2 : Int32) (sz : Nat) (st_o : Nat → Int32) (hf : fX3_opensPlace st p1 p2 = some st_o) : Met l yX3_opensPlace (ws_ yX3_opensPlace cX3_opensPlace 4 none) rmX3_opensPlace (wrP D k (wM k ma mi st rp tp cr cw ik ln lg ce) sz [.ref (ma 0), .int p1, .int p2]) (qcX3_opensPlace D k ma mi st_o rp tp cr cw ik ln lg ce (va_A (wM k ma mi st rp tp cr cw ik ln lg ce) sz)) 0 0 (va_A (wM k ma mi st rp tp cr cw ik ln lg ce) sz) := by
  refine wr_start (Qc := fun A => qcX3_opensPlace D k ma mi st_o rp tp cr cw ik ln lg ce A) (by decide +kernel) (Nat.le_of_ble_eq_true rfl) ?_
  intro p e s m below meth c ls A hA hx hb hr hlk hml hown hts hP hK hD hl
  have hl : lv_has ls 4 [(0, .ref (ma 0)), (1, .int p1), (2, .int p2)] := hl
  have hown : s.vm.findClass RX3 = some m.cls := hown
  have hS : va_S A s.heap s.heap [] := va_S.rf
  suffices hw : ∀ (H : Heap) (locs : List Loc), va_P D vwCl (wM k ma mi st rp tp cr cw ik ln lg ce) H → va_S A s.heap H locs → gW p l e rmX3_opensPlace s m [.ref (ma 0), .int p1, .int p2] below meth c (qcX3_opensPlace D k ma mi st_o rp tp cr cw ik ln lg ce A) A 0 0 H locs 0 ls [] from hw s.heap [] hP hS
  clear hP hS
  intro H locs hP hS
  unfold fX3_opensPlace at hf
  refine lv_bipush (v := 127) hx hb dX3_opensPlace_0 (by decide) ?_
  refine lv_istore_n (lv' := [(3, .int (127 : Int32)), (0, .ref (ma 0)), (1, .int p1), (2, .int p2)]) hx hb dX3_opensPlace_2 rfl hl (by decide) rfl (fun ls hl => ?_)
  have hL3 : ∀ (nn : Nat) (st_3 : Nat → Int32) (x3_3 : Int32), ∀ (H : Heap) (locs : List Loc), va_P D vwCl (wM k ma mi st_3 rp tp cr cw ik ln lg ce) H → va_D A (wM k ma mi st_3 rp tp cr cw ik ln lg ce) → va_S A s.heap H locs → fX3_opensPlace_L3 p1 p2 nn st_3 x3_3 = some st_o → ∀ ls : Array Slot, lv_has ls 4 [(0, .ref (ma 0)), (1, .int p1), (2, .int p2), (3, .int x3_3)] → gW p l e rmX3_opensPlace s m [.ref (ma 0), .int p1, .int p2] below meth c (qcX3_opensPlace D k ma mi st_o rp tp cr cw ik ln lg ce A) A 0 0 H locs 3 ls [] := by
    intro nn3
    induction nn3 with
    | zero =>
      intro st_3 x3_3 H locs hP hD hS hf
      rw [fX3_opensPlace_L3] at hf; cases hf
    | succ nn3 ih3 =>
      intro st_3 x3_3 H locs hP hD hS hf ls hl
      rw [fX3_opensPlace_L3] at hf
      refine lv_iload_n hx hb dX3_opensPlace_3 rfl (lv_at hl 3 rfl) ?_
      refine lv_iload_n hx hb dX3_opensPlace_4 rfl (lv_at hl 1 rfl) ?_
      refine lv_icmp_le (tgt := 28) hx hb dX3_opensPlace_5 (by decide) (fun c1 => ?_) (fun c1 => ?_)
      · have hf := oi_t c1 hf
        refine lv_aload_n hx hb dX3_opensPlace_28 rfl (lv_at hl 0 rfl) ?_
        refine va_get (D := D) (cl := vwCl) (ci := 3) (v := .ref (ma 1)) (C := RX3) (T := TX3) (N := 18) hx hb hts in_X3 hown hK.1 hP 0 rfl rfl 0 (by decide) (hts _ q938) (fun _ h9 => h9) rfl dX3_opensPlace_29 ?_
        refine lv_iload_n hx hb dX3_opensPlace_32 rfl (lv_at hl 1 rfl) ?_
        refine lv_iload_n hx hb dX3_opensPlace_33 rfl (lv_at hl 2 rfl) ?_
        obtain ⟨u2, eu2, hf⟩ := ob hf
        refine x_iast hx hb hK hP hD hS 1 1 eu2 rfl rfl (wM k ma mi u2 rp tp cr cw ik ln lg ce) rfl dX3_opensPlace_34 (fun H locs hP hD hS => ?_)
        have he1 := Option.some.inj hf
        rw [he1] at hP
        exact wr_vret hx hb hr hlk hP hS dX3_opensPlace_35
      · have hf := oi_f c1 hf
        refine lv_aload_n hx hb dX3_opensPlace_8 rfl (lv_at hl 0 rfl) ?_
        refine va_get (D := D) (cl := vwCl) (ci := 3) (v := .ref (ma 1)) (C := RX3) (T := TX3) (N := 18) hx hb hts in_X3 hown hK.1 hP 0 rfl rfl 0 (by decide) (hts _ q938) (fun _ h9 => h9) rfl dX3_opensPlace_9 ?_
        refine lv_iload_n hx hb dX3_opensPlace_12 rfl (lv_at hl 3 rfl) ?_
        refine lv_aload_n hx hb dX3_opensPlace_13 rfl (lv_at hl 0 rfl) ?_
        refine va_get (D := D) (cl := vwCl) (ci := 3) (v := .ref (ma 1)) (C := RX3) (T := TX3) (N := 18) hx hb hts in_X3 hown hK.1 hP 0 rfl rfl 0 (by decide) (hts _ q938) (fun _ h9 => h9) rfl dX3_opensPlace_14 ?_
        refine lv_iload_n hx hb dX3_opensPlace_17 rfl (lv_at hl 3 rfl) ?_
        refine lv_iconst (v := 1) hx hb dX3_opensPlace_18 (by decide) ?_
        refine lv_isub hx hb dX3_opensPlace_19 ?_
        obtain ⟨v3, ev3, hf⟩ := ob hf
        refine x_iald hx hb hK hP 1 1 ev3 rfl rfl dX3_opensPlace_20 ?_
        obtain ⟨u4, eu4, hf⟩ := ob hf
        refine x_iast hx hb hK hP hD hS 1 1 eu4 rfl rfl (wM k ma mi u4 rp tp cr cw ik ln lg ce) rfl dX3_opensPlace_21 (fun H locs hP hD hS => ?_)
        refine lv_iinc (v := (x3_3 + (-1))) (lv' := [(3, .int (x3_3 + (-1))), (0, .ref (ma 0)), (1, .int p1), (2, .int p2)]) hx hb dX3_opensPlace_22 hl (k := 3) rfl rfl (by decide) rfl (fun ls hl => ?_)
        refine lv_goto (tgt := 3) hx hb dX3_opensPlace_25 (by decide) ?_
        exact ih3 u4 (x3_3 + (-1)) H locs hP hD hS hf ls (lv_sub hl [1, 2, 3, 0] rfl)
  exact hL3 FU st (127 : Int32) H locs hP hD hS hf ls (lv_sub hl [1, 2, 3, 0] rfl)

abbrev rmX3_shutsPlace : Room := { frames := 0, cells := 0, slots := 0, locals := 0 }
theorem hdX3_shutsPlace : yX3_shutsPlace.cls ≠ "java/lang/invoke/MethodHandle" ∧ yX3_shutsPlace.cls ≠ "java/lang/invoke/VarHandle" ∧ (parseMethodDescriptor yX3_shutsPlace.desc).map (fun d => d.parameters.length) = some 1 := by decide +kernel
abbrev qcX3_shutsPlace (D : va_G) (k : Nat → ClassId) (ma : Nat → Nat) (mi : Nat → Int32) (st : Nat → Int32) (rp : Nat → Int32) (tp : Nat → Int32) (cr : Nat → Int32) (cw : Nat → Int32) (ik : Nat → Int32) (ln : Nat → Int32) (lg : Nat → Int32) (ce : Nat → Int64) (A : Nat → Prop) : Array Value → State → Outcome → State → Prop := va_Qv (fun (_ : Unit) => True) (fun _ t => va_P D vwCl (wM k ma mi st rp tp cr cw ik ln lg ce) t.heap) A
set_option maxHeartbeats 4000000 in
theorem mX3_shutsPlace (l : Launch) (D : va_G) (k : Nat → ClassId) (ma : Nat → Nat) (mi : Nat → Int32) (st : Nat → Int32) (rp : Nat → Int32) (tp : Nat → Int32) (cr : Nat → Int32) (cw : Nat → Int32) (ik : Nat → Int32) (ln : Nat → Int32) (lg : Nat → Int32) (ce : Nat → Int64) (p1 : Int32) (sz : Nat) (st_o : Nat → Int32) (hf : fX3_shutsPlace st p1 = some st_o) : Met l yX3_shutsPlace (ws_ yX3_shutsPlace cX3_shutsPlace 3 none) rmX3_shutsPlace (wrP D k (wM k ma mi st rp tp cr cw ik ln lg ce) sz [.ref (ma 0), .int p1]) (qcX3_shutsPlace D k ma mi st_o rp tp cr cw ik ln lg ce (va_A (wM k ma mi st rp tp cr cw ik ln lg ce) sz)) 0 0 (va_A (wM k ma mi st rp tp cr cw ik ln lg ce) sz) := by
  refine wr_start (Qc := fun A => qcX3_shutsPlace D k ma mi st_o rp tp cr cw ik ln lg ce A) (by decide +kernel) (Nat.le_of_ble_eq_true rfl) ?_
  intro p e s m below meth c ls A hA hx hb hr hlk hml hown hts hP hK hD hl
  have hl : lv_has ls 3 [(0, .ref (ma 0)), (1, .int p1)] := hl
  have hown : s.vm.findClass RX3 = some m.cls := hown
  have hS : va_S A s.heap s.heap [] := va_S.rf
  suffices hw : ∀ (H : Heap) (locs : List Loc), va_P D vwCl (wM k ma mi st rp tp cr cw ik ln lg ce) H → va_S A s.heap H locs → gW p l e rmX3_shutsPlace s m [.ref (ma 0), .int p1] below meth c (qcX3_shutsPlace D k ma mi st_o rp tp cr cw ik ln lg ce A) A 0 0 H locs 0 ls [] from hw s.heap [] hP hS
  clear hP hS
  intro H locs hP hS
  unfold fX3_shutsPlace at hf
  refine lv_iload_n hx hb dX3_shutsPlace_0 rfl (lv_at hl 1 rfl) ?_
  refine lv_istore_n (lv' := [(2, .int p1), (0, .ref (ma 0)), (1, .int p1)]) hx hb dX3_shutsPlace_1 rfl hl (by decide) rfl (fun ls hl => ?_)
  have hL2 : ∀ (nn : Nat) (st_2 : Nat → Int32) (x2_2 : Int32), ∀ (H : Heap) (locs : List Loc), va_P D vwCl (wM k ma mi st_2 rp tp cr cw ik ln lg ce) H → va_D A (wM k ma mi st_2 rp tp cr cw ik ln lg ce) → va_S A s.heap H locs → fX3_shutsPlace_L2 p1 nn st_2 x2_2 = some st_o → ∀ ls : Array Slot, lv_has ls 3 [(0, .ref (ma 0)), (2, .int x2_2)] → gW p l e rmX3_shutsPlace s m [.ref (ma 0), .int p1] below meth c (qcX3_shutsPlace D k ma mi st_o rp tp cr cw ik ln lg ce A) A 0 0 H locs 2 ls [] := by
    intro nn2
    induction nn2 with
    | zero =>
      intro st_2 x2_2 H locs hP hD hS hf
      rw [fX3_shutsPlace_L2] at hf; cases hf
    | succ nn2 ih2 =>
      intro st_2 x2_2 H locs hP hD hS hf ls hl
      rw [fX3_shutsPlace_L2] at hf
      refine lv_iload_n hx hb dX3_shutsPlace_2 rfl (lv_at hl 1 rfl) ?_
      refine lv_iconst (v := 1) hx hb dX3_shutsPlace_3 (by decide) ?_
      refine lv_iadd hx hb dX3_shutsPlace_4 ?_
      refine lv_sipush (v := 128) hx hb dX3_shutsPlace_5 (by decide) ?_
      refine lv_icmp_ge (tgt := 31) hx hb dX3_shutsPlace_8 (by decide) (fun c1 => ?_) (fun c1 => ?_)
      · have hf := oi_t c1 hf
        have he1 := Option.some.inj hf
        rw [he1] at hP
        exact wr_vret hx hb hr hlk hP hS dX3_shutsPlace_31
      · have hf := oi_f c1 hf
        refine lv_aload_n hx hb dX3_shutsPlace_11 rfl (lv_at hl 0 rfl) ?_
        refine va_get (D := D) (cl := vwCl) (ci := 3) (v := .ref (ma 1)) (C := RX3) (T := TX3) (N := 18) hx hb hts in_X3 hown hK.1 hP 0 rfl rfl 0 (by decide) (hts _ q938) (fun _ h9 => h9) rfl dX3_shutsPlace_12 ?_
        refine lv_iload_n hx hb dX3_shutsPlace_15 rfl (lv_at hl 1 rfl) ?_
        refine lv_aload_n hx hb dX3_shutsPlace_16 rfl (lv_at hl 0 rfl) ?_
        refine va_get (D := D) (cl := vwCl) (ci := 3) (v := .ref (ma 1)) (C := RX3) (T := TX3) (N := 18) hx hb hts in_X3 hown hK.1 hP 0 rfl rfl 0 (by decide) (hts _ q938) (fun _ h9 => h9) rfl dX3_shutsPlace_17 ?_
        refine lv_iload_n hx hb dX3_shutsPlace_20 rfl (lv_at hl 1 rfl) ?_
        refine lv_iconst (v := 1) hx hb dX3_shutsPlace_21 (by decide) ?_
        refine lv_iadd hx hb dX3_shutsPlace_22 ?_
        obtain ⟨v2, ev2, hf⟩ := ob hf
        refine x_iald hx hb hK hP 1 1 ev2 rfl rfl dX3_shutsPlace_23 ?_
        obtain ⟨u3, eu3, hf⟩ := ob hf
        refine x_iast hx hb hK hP hD hS 1 1 eu3 rfl rfl (wM k ma mi u3 rp tp cr cw ik ln lg ce) rfl dX3_shutsPlace_24 (fun H locs hP hD hS => ?_)
        refine lv_iinc (v := (x2_2 + 1)) (lv' := [(2, .int (x2_2 + 1)), (0, .ref (ma 0))]) hx hb dX3_shutsPlace_25 hl (k := 1) rfl rfl (by decide) rfl (fun ls hl => ?_)
        refine lv_goto (tgt := 2) hx hb dX3_shutsPlace_28 (by decide) ?_
        exact ih2 u3 (x2_2 + 1) H locs hP hD hS hf ls (lv_sub hl [1, 0] rfl)
  exact hL2 FU st p1 H locs hP hD hS hf ls (lv_sub hl [1, 0] rfl)

abbrev rmX3_comesIn : Room := { frames := 2, cells := 0, slots := 0, locals := 44 }
theorem hdX3_comesIn : yX3_comesIn.cls ≠ "java/lang/invoke/MethodHandle" ∧ yX3_comesIn.cls ≠ "java/lang/invoke/VarHandle" ∧ (parseMethodDescriptor yX3_comesIn.desc).map (fun d => d.parameters.length) = some 3 := by decide +kernel
abbrev qcX3_comesIn (D : va_G) (k : Nat → ClassId) (ma : Nat → Nat) (mi : Nat → Int32) (st : Nat → Int32) (rp : Nat → Int32) (tp : Nat → Int32) (cr : Nat → Int32) (cw : Nat → Int32) (ik : Nat → Int32) (ln : Nat → Int32) (lg : Nat → Int32) (ce : Nat → Int64) (A : Nat → Prop) : Array Value → State → Outcome → State → Prop := va_Qv (fun (_ : Unit) => True) (fun _ t => va_P D vwCl (wM k ma mi st rp tp cr cw ik ln lg ce) t.heap) A
set_option maxHeartbeats 4000000 in
theorem mX3_comesIn (l : Launch) (D : va_G) (k : Nat → ClassId) (ma : Nat → Nat) (mi : Nat → Int32) (st : Nat → Int32) (rp : Nat → Int32) (tp : Nat → Int32) (cr : Nat → Int32) (cw : Nat → Int32) (ik : Nat → Int32) (ln : Nat → Int32) (lg : Nat → Int32) (ce : Nat → Int64) (p1 : Int32) (p2 : Int32) (p3 : Int32) (sz : Nat) (st_o : Nat → Int32) (hf : fX3_comesIn st p1 p2 p3 = some st_o) : Met l yX3_comesIn (ws_ yX3_comesIn cX3_comesIn 6 none) rmX3_comesIn (wrP D k (wM k ma mi st rp tp cr cw ik ln lg ce) sz [.ref (ma 0), .int p1, .int p2, .int p3]) (qcX3_comesIn D k ma mi st_o rp tp cr cw ik ln lg ce (va_A (wM k ma mi st rp tp cr cw ik ln lg ce) sz)) 0 0 (va_A (wM k ma mi st rp tp cr cw ik ln lg ce) sz) := by
  refine wr_start (Qc := fun A => qcX3_comesIn D k ma mi st_o rp tp cr cw ik ln lg ce A) (by decide +kernel) (Nat.le_of_ble_eq_true rfl) ?_
  intro p e s m below meth c ls A hA hx hb hr hlk hml hown hts hP hK hD hl
  have hl : lv_has ls 6 [(0, .ref (ma 0)), (1, .int p1), (2, .int p2), (3, .int p3)] := hl
  have hown : s.vm.findClass RX3 = some m.cls := hown
  have hS : va_S A s.heap s.heap [] := va_S.rf
  suffices hw : ∀ (H : Heap) (locs : List Loc), va_P D vwCl (wM k ma mi st rp tp cr cw ik ln lg ce) H → va_S A s.heap H locs → gW p l e rmX3_comesIn s m [.ref (ma 0), .int p1, .int p2, .int p3] below meth c (qcX3_comesIn D k ma mi st_o rp tp cr cw ik ln lg ce A) A 0 0 H locs 0 ls [] from hw s.heap [] hP hS
  clear hP hS
  intro H locs hP hS
  unfold fX3_comesIn at hf
  refine lv_aload_n hx hb dX3_comesIn_0 rfl (lv_at hl 0 rfl) ?_
  refine lv_iload_n hx hb dX3_comesIn_1 rfl (lv_at hl 1 rfl) ?_
  obtain ⟨v1, ev1, hf⟩ := ob hf
  refine rd_callV (As := [.int p1]) (rest := []) ⟨hx, hb, hml, hown, hts⟩ (mX3_opensAt l D k ma mi st rp tp cr cw ik ln lg ce p1 _ ev1) (cwV 1 hts (lw_V q1159 q1161 qs78 q94 q1162) rfl rfl rfl ⟨rfl, hdX3_opensAt⟩ ⟨Nat.le_of_ble_eq_true rfl, Nat.le_of_ble_eq_true rfl⟩) hK hP [0, 1, 2, 3, 4, 5, 6, 7, 8, 9] rfl 0 3 rfl rfl rfl hl.1 rfl (Nat.le_of_ble_eq_true rfl) dX3_comesIn_2 ⟨Nat.le_of_ble_eq_true rfl, Nat.le_of_ble_eq_true rfl⟩ ?_
  refine lv_istore (lv' := [(4, .int v1), (0, .ref (ma 0)), (1, .int p1), (2, .int p2), (3, .int p3)]) hx hb dX3_comesIn_5 hl (by decide) rfl (fun ls hl => ?_)
  refine lv_aload_n hx hb dX3_comesIn_7 rfl (lv_at hl 1 rfl) ?_
  refine lv_iload_n hx hb dX3_comesIn_8 rfl (lv_at hl 3 rfl) ?_
  refine lv_iconst (v := 0) hx hb dX3_comesIn_9 (by decide) ?_
  obtain ⟨g3, et4, hf⟩ := ob hf
  refine wr_callVv (As := [.int p2, .int (0 : Int32)]) (rest := []) ⟨hx, hb, hml, hown, hts⟩ (mX3_opensPlace l D k ma mi st rp tp cr cw ik ln lg ce p2 (0 : Int32) _ _ et4) (cwV 2 hts (lw_V q1244 q1246 qs84 q94 q1247) rfl rfl rfl ⟨rfl, hdX3_opensPlace⟩ ⟨Nat.le_of_ble_eq_true rfl, Nat.le_of_ble_eq_true rfl⟩) hK hP hD hS hA [0, 1, 2, 3, 4, 5, 6, 7, 8, 9] [] (wM k ma mi g3 rp tp cr cw ik ln lg ce) rfl rfl fm_n 10 rfl (by decide) (by decide) [(ma 0), (ma 1), (ma 2), (ma 3), (ma 4), (ma 5), (ma 6), (ma 7), (ma 8), (ma 9)] rfl rfl 0 3 rfl rfl rfl hl.1 rfl (Nat.le_of_ble_eq_true rfl) dX3_comesIn_10 ⟨Nat.le_of_ble_eq_true rfl, Nat.le_of_ble_eq_true rfl⟩ (fun H locs hP hD hS => ?_)
  refine lv_aload_n hx hb dX3_comesIn_13 rfl (lv_at hl 1 rfl) ?_
  refine lv_iload_n hx hb dX3_comesIn_14 rfl (lv_at hl 2 rfl) ?_
  refine lv_iconst (v := 1) hx hb dX3_comesIn_15 (by decide) ?_
  obtain ⟨g5, et6, hf⟩ := ob hf
  refine wr_callVv (As := [.int p1, .int (1 : Int32)]) (rest := []) ⟨hx, hb, hml, hown, hts⟩ (mX3_opensPlace l D k ma mi g3 rp tp cr cw ik ln lg ce p1 (1 : Int32) _ _ et6) (cwV 2 hts (lw_V q1244 q1246 qs84 q94 q1247) rfl rfl rfl ⟨rfl, hdX3_opensPlace⟩ ⟨Nat.le_of_ble_eq_true rfl, Nat.le_of_ble_eq_true rfl⟩) hK hP hD hS hA [0, 1, 2, 3, 4, 5, 6, 7, 8, 9] [] (wM k ma mi g5 rp tp cr cw ik ln lg ce) rfl rfl fm_n 10 rfl (by decide) (by decide) [(ma 0), (ma 1), (ma 2), (ma 3), (ma 4), (ma 5), (ma 6), (ma 7), (ma 8), (ma 9)] rfl rfl 0 3 rfl rfl rfl hl.1 rfl (Nat.le_of_ble_eq_true rfl) dX3_comesIn_16 ⟨Nat.le_of_ble_eq_true rfl, Nat.le_of_ble_eq_true rfl⟩ (fun H locs hP hD hS => ?_)
  refine lv_bipush (v := 63) hx hb dX3_comesIn_19 (by decide) ?_
  refine lv_istore (lv' := [(5, .int (63 : Int32)), (4, .int v1), (0, .ref (ma 0)), (1, .int p1), (2, .int p2), (3, .int p3)]) hx hb dX3_comesIn_21 hl (by decide) rfl (fun ls hl => ?_)
  have hL23 : ∀ (nn : Nat) (st_23 : Nat → Int32) (x4_23 : Int32) (x5_23 : Int32), ∀ (H : Heap) (locs : List Loc), va_P D vwCl (wM k ma mi st_23 rp tp cr cw ik ln lg ce) H → va_D A (wM k ma mi st_23 rp tp cr cw ik ln lg ce) → va_S A s.heap H locs → fX3_comesIn_L23 p1 p2 p3 nn st_23 x4_23 x5_23 = some st_o → ∀ ls : Array Slot, lv_has ls 6 [(0, .ref (ma 0)), (3, .int p3), (4, .int x4_23), (5, .int x5_23)] → gW p l e rmX3_comesIn s m [.ref (ma 0), .int p1, .int p2, .int p3] below meth c (qcX3_comesIn D k ma mi st_o rp tp cr cw ik ln lg ce A) A 0 0 H locs 23 ls [] := by
    intro nn23
    induction nn23 with
    | zero =>
      intro st_23 x4_23 x5_23 H locs hP hD hS hf
      rw [fX3_comesIn_L23] at hf; cases hf
    | succ nn23 ih23 =>
      intro st_23 x4_23 x5_23 H locs hP hD hS hf ls hl
      rw [fX3_comesIn_L23] at hf
      refine lv_iload hx hb dX3_comesIn_23 (lv_at hl 3 rfl) ?_
      refine lv_iload hx hb dX3_comesIn_25 (lv_at hl 2 rfl) ?_
      refine lv_icmp_le (tgt := 60) hx hb dX3_comesIn_27 (by decide) (fun c7 => ?_) (fun c7 => ?_)
      · have hf := oi_t c7 hf
        refine lv_aload_n hx hb dX3_comesIn_60 rfl (lv_at hl 0 rfl) ?_
        refine va_get (D := D) (cl := vwCl) (ci := 3) (v := .ref (ma 1)) (C := RX3) (T := TX3) (N := 18) hx hb hts in_X3 hown hK.1 hP 0 rfl rfl 0 (by decide) (hts _ q938) (fun _ h9 => h9) rfl dX3_comesIn_61 ?_
        refine lv_sipush (v := 128) hx hb dX3_comesIn_64 (by decide) ?_
        refine lv_iload hx hb dX3_comesIn_67 (lv_at hl 2 rfl) ?_
        refine lv_iadd hx hb dX3_comesIn_69 ?_
        refine lv_iload_n hx hb dX3_comesIn_70 rfl (lv_at hl 1 rfl) ?_
        obtain ⟨u8, eu8, hf⟩ := ob hf
        refine x_iast hx hb hK hP hD hS 1 1 eu8 rfl rfl (wM k ma mi u8 rp tp cr cw ik ln lg ce) rfl dX3_comesIn_71 (fun H locs hP hD hS => ?_)
        refine lv_aload_n hx hb dX3_comesIn_72 rfl (lv_at hl 0 rfl) ?_
        refine va_get (D := D) (cl := vwCl) (ci := 3) (v := .ref (ma 1)) (C := RX3) (T := TX3) (N := 18) hx hb hts in_X3 hown hK.1 hP 0 rfl rfl 0 (by decide) (hts _ q938) (fun _ h9 => h9) rfl dX3_comesIn_73 ?_
        refine lv_sipush (v := 192) hx hb dX3_comesIn_76 (by decide) ?_
        refine lv_dup2_11 hx hb dX3_comesIn_79 rfl rfl ?_
        obtain ⟨v9, ev9, hf⟩ := ob hf
        refine x_iald hx hb hK hP 1 1 ev9 rfl rfl dX3_comesIn_80 ?_
        refine lv_iconst (v := 1) hx hb dX3_comesIn_81 (by decide) ?_
        refine lv_iadd hx hb dX3_comesIn_82 ?_
        obtain ⟨u10, eu10, hf⟩ := ob hf
        refine x_iast hx hb hK hP hD hS 1 1 eu10 rfl rfl (wM k ma mi u10 rp tp cr cw ik ln lg ce) rfl dX3_comesIn_83 (fun H locs hP hD hS => ?_)
        have he1 := Option.some.inj hf
        rw [he1] at hP
        exact wr_vret hx hb hr hlk hP hS dX3_comesIn_84
      · have hf := oi_f c7 hf
        refine lv_aload_n hx hb dX3_comesIn_30 rfl (lv_at hl 0 rfl) ?_
        refine va_get (D := D) (cl := vwCl) (ci := 3) (v := .ref (ma 1)) (C := RX3) (T := TX3) (N := 18) hx hb hts in_X3 hown hK.1 hP 0 rfl rfl 0 (by decide) (hts _ q938) (fun _ h9 => h9) rfl dX3_comesIn_31 ?_
        refine lv_sipush (v := 128) hx hb dX3_comesIn_34 (by decide) ?_
        refine lv_iload hx hb dX3_comesIn_37 (lv_at hl 3 rfl) ?_
        refine lv_iadd hx hb dX3_comesIn_39 ?_
        refine lv_aload_n hx hb dX3_comesIn_40 rfl (lv_at hl 0 rfl) ?_
        refine va_get (D := D) (cl := vwCl) (ci := 3) (v := .ref (ma 1)) (C := RX3) (T := TX3) (N := 18) hx hb hts in_X3 hown hK.1 hP 0 rfl rfl 0 (by decide) (hts _ q938) (fun _ h9 => h9) rfl dX3_comesIn_41 ?_
        refine lv_sipush (v := 128) hx hb dX3_comesIn_44 (by decide) ?_
        refine lv_iload hx hb dX3_comesIn_47 (lv_at hl 3 rfl) ?_
        refine lv_iadd hx hb dX3_comesIn_49 ?_
        refine lv_iconst (v := 1) hx hb dX3_comesIn_50 (by decide) ?_
        refine lv_isub hx hb dX3_comesIn_51 ?_
        obtain ⟨v11, ev11, hf⟩ := ob hf
        refine x_iald hx hb hK hP 1 1 ev11 rfl rfl dX3_comesIn_52 ?_
        obtain ⟨u12, eu12, hf⟩ := ob hf
        refine x_iast hx hb hK hP hD hS 1 1 eu12 rfl rfl (wM k ma mi u12 rp tp cr cw ik ln lg ce) rfl dX3_comesIn_53 (fun H locs hP hD hS => ?_)
        refine lv_iinc (v := (x5_23 + (-1))) (lv' := [(5, .int (x5_23 + (-1))), (0, .ref (ma 0)), (3, .int p3), (4, .int x4_23)]) hx hb dX3_comesIn_54 hl (k := 3) rfl rfl (by decide) rfl (fun ls hl => ?_)
        refine lv_goto (tgt := 23) hx hb dX3_comesIn_57 (by decide) ?_
        exact ih23 u12 x4_23 (x5_23 + (-1)) H locs hP hD hS hf ls (lv_sub hl [1, 2, 3, 0] rfl)
  exact hL23 FU g5 v1 (63 : Int32) H locs hP hD hS hf ls (lv_sub hl [2, 5, 1, 0] rfl)

abbrev rmX3_goesOut : Room := { frames := 1, cells := 0, slots := 0, locals := 23 }
theorem hdX3_goesOut : yX3_goesOut.cls ≠ "java/lang/invoke/MethodHandle" ∧ yX3_goesOut.cls ≠ "java/lang/invoke/VarHandle" ∧ (parseMethodDescriptor yX3_goesOut.desc).map (fun d => d.parameters.length) = some 1 := by decide +kernel
abbrev qcX3_goesOut (D : va_G) (k : Nat → ClassId) (ma : Nat → Nat) (mi : Nat → Int32) (st : Nat → Int32) (rp : Nat → Int32) (tp : Nat → Int32) (cr : Nat → Int32) (cw : Nat → Int32) (ik : Nat → Int32) (ln : Nat → Int32) (lg : Nat → Int32) (ce : Nat → Int64) (A : Nat → Prop) : Array Value → State → Outcome → State → Prop := va_Qv (fun (_ : Unit) => True) (fun _ t => va_P D vwCl (wM k ma mi st rp tp cr cw ik ln lg ce) t.heap) A
set_option maxHeartbeats 4000000 in
theorem mX3_goesOut (l : Launch) (D : va_G) (k : Nat → ClassId) (ma : Nat → Nat) (mi : Nat → Int32) (st : Nat → Int32) (rp : Nat → Int32) (tp : Nat → Int32) (cr : Nat → Int32) (cw : Nat → Int32) (ik : Nat → Int32) (ln : Nat → Int32) (lg : Nat → Int32) (ce : Nat → Int64) (p1 : Int32) (sz : Nat) (st_o : Nat → Int32) (hf : fX3_goesOut st p1 = some st_o) : Met l yX3_goesOut (ws_ yX3_goesOut cX3_goesOut 4 none) rmX3_goesOut (wrP D k (wM k ma mi st rp tp cr cw ik ln lg ce) sz [.ref (ma 0), .int p1]) (qcX3_goesOut D k ma mi st_o rp tp cr cw ik ln lg ce (va_A (wM k ma mi st rp tp cr cw ik ln lg ce) sz)) 0 0 (va_A (wM k ma mi st rp tp cr cw ik ln lg ce) sz) := by
  refine wr_start (Qc := fun A => qcX3_goesOut D k ma mi st_o rp tp cr cw ik ln lg ce A) (by decide +kernel) (Nat.le_of_ble_eq_true rfl) ?_
  intro p e s m below meth c ls A hA hx hb hr hlk hml hown hts hP hK hD hl
  have hl : lv_has ls 4 [(0, .ref (ma 0)), (1, .int p1)] := hl
  have hown : s.vm.findClass RX3 = some m.cls := hown
  have hS : va_S A s.heap s.heap [] := va_S.rf
  suffices hw : ∀ (H : Heap) (locs : List Loc), va_P D vwCl (wM k ma mi st rp tp cr cw ik ln lg ce) H → va_S A s.heap H locs → gW p l e rmX3_goesOut s m [.ref (ma 0), .int p1] below meth c (qcX3_goesOut D k ma mi st_o rp tp cr cw ik ln lg ce A) A 0 0 H locs 0 ls [] from hw s.heap [] hP hS
  clear hP hS
  intro H locs hP hS
  unfold fX3_goesOut at hf
  refine lv_aload_n hx hb dX3_goesOut_0 rfl (lv_at hl 0 rfl) ?_
  refine lv_iload_n hx hb dX3_goesOut_1 rfl (lv_at hl 1 rfl) ?_
  obtain ⟨v1, ev1, hf⟩ := ob hf
  refine rd_callV (As := [.int p1]) (rest := []) ⟨hx, hb, hml, hown, hts⟩ (mX3_openOf l D k ma mi st rp tp cr cw ik ln lg ce p1 _ ev1) (cwV 1 hts (lw_V q1115 q1117 qs67 q94 q1118) rfl rfl rfl ⟨rfl, hdX3_openOf⟩ ⟨Nat.le_of_ble_eq_true rfl, Nat.le_of_ble_eq_true rfl⟩) hK hP [0, 1, 2, 3, 4, 5, 6, 7, 8, 9] rfl 0 3 rfl rfl rfl hl.1 rfl (Nat.le_of_ble_eq_true rfl) dX3_goesOut_2 ⟨Nat.le_of_ble_eq_true rfl, Nat.le_of_ble_eq_true rfl⟩ ?_
  refine lv_istore_n (lv' := [(2, .int v1), (0, .ref (ma 0)), (1, .int p1)]) hx hb dX3_goesOut_5 rfl hl (by decide) rfl (fun ls hl => ?_)
  refine lv_aload_n hx hb dX3_goesOut_6 rfl (lv_at hl 1 rfl) ?_
  refine lv_aload_n hx hb dX3_goesOut_7 rfl (lv_at hl 1 rfl) ?_
  refine lv_iload_n hx hb dX3_goesOut_8 rfl (lv_at hl 0 rfl) ?_
  obtain ⟨v3, ev3, hf⟩ := ob hf
  refine rd_callV (As := [.int v1]) (rest := [.ref (ma 0)]) ⟨hx, hb, hml, hown, hts⟩ (mX3_shutOf l D k ma mi st rp tp cr cw ik ln lg ce v1 _ ev3) (cwV 1 hts (lw_V q1089 q1091 qs64 q94 q1092) rfl rfl rfl ⟨rfl, hdX3_shutOf⟩ ⟨Nat.le_of_ble_eq_true rfl, Nat.le_of_ble_eq_true rfl⟩) hK hP [0, 1, 2, 3, 4, 5, 6, 7, 8, 9] rfl 0 3 rfl rfl rfl hl.1 rfl (Nat.le_of_ble_eq_true rfl) dX3_goesOut_9 ⟨Nat.le_of_ble_eq_true rfl, Nat.le_of_ble_eq_true rfl⟩ ?_
  obtain ⟨g5, et6, hf⟩ := ob hf
  refine wr_callVv (As := [.int v3]) (rest := []) ⟨hx, hb, hml, hown, hts⟩ (mX3_shutsPlace l D k ma mi st rp tp cr cw ik ln lg ce v3 _ _ et6) (cwV 1 hts (lw_V q1256 q1258 qs86 q94 q1259) rfl rfl rfl ⟨rfl, hdX3_shutsPlace⟩ ⟨Nat.le_of_ble_eq_true rfl, Nat.le_of_ble_eq_true rfl⟩) hK hP hD hS hA [0, 1, 2, 3, 4, 5, 6, 7, 8, 9] [] (wM k ma mi g5 rp tp cr cw ik ln lg ce) rfl rfl fm_n 10 rfl (by decide) (by decide) [(ma 0), (ma 1), (ma 2), (ma 3), (ma 4), (ma 5), (ma 6), (ma 7), (ma 8), (ma 9)] rfl rfl 0 3 rfl rfl rfl hl.1 rfl (Nat.le_of_ble_eq_true rfl) dX3_goesOut_12 ⟨Nat.le_of_ble_eq_true rfl, Nat.le_of_ble_eq_true rfl⟩ (fun H locs hP hD hS => ?_)
  refine lv_aload_n hx hb dX3_goesOut_15 rfl (lv_at hl 1 rfl) ?_
  refine lv_iload_n hx hb dX3_goesOut_16 rfl (lv_at hl 0 rfl) ?_
  obtain ⟨g7, et8, hf⟩ := ob hf
  refine wr_callVv (As := [.int v1]) (rest := []) ⟨hx, hb, hml, hown, hts⟩ (mX3_shutsPlace l D k ma mi g5 rp tp cr cw ik ln lg ce v1 _ _ et8) (cwV 1 hts (lw_V q1256 q1258 qs86 q94 q1259) rfl rfl rfl ⟨rfl, hdX3_shutsPlace⟩ ⟨Nat.le_of_ble_eq_true rfl, Nat.le_of_ble_eq_true rfl⟩) hK hP hD hS hA [0, 1, 2, 3, 4, 5, 6, 7, 8, 9] [] (wM k ma mi g7 rp tp cr cw ik ln lg ce) rfl rfl fm_n 10 rfl (by decide) (by decide) [(ma 0), (ma 1), (ma 2), (ma 3), (ma 4), (ma 5), (ma 6), (ma 7), (ma 8), (ma 9)] rfl rfl 0 3 rfl rfl rfl hl.1 rfl (Nat.le_of_ble_eq_true rfl) dX3_goesOut_17 ⟨Nat.le_of_ble_eq_true rfl, Nat.le_of_ble_eq_true rfl⟩ (fun H locs hP hD hS => ?_)
  refine lv_iload_n hx hb dX3_goesOut_20 rfl (lv_at hl 2 rfl) ?_
  refine lv_istore_n (lv' := [(3, .int p1), (2, .int v1), (0, .ref (ma 0)), (1, .int p1)]) hx hb dX3_goesOut_21 rfl hl (by decide) rfl (fun ls hl => ?_)
  have hL22 : ∀ (nn : Nat) (st_22 : Nat → Int32) (x3_22 : Int32), ∀ (H : Heap) (locs : List Loc), va_P D vwCl (wM k ma mi st_22 rp tp cr cw ik ln lg ce) H → va_D A (wM k ma mi st_22 rp tp cr cw ik ln lg ce) → va_S A s.heap H locs → fX3_goesOut_L22 p1 nn st_22 x3_22 = some st_o → ∀ ls : Array Slot, lv_has ls 4 [(0, .ref (ma 0)), (3, .int x3_22)] → gW p l e rmX3_goesOut s m [.ref (ma 0), .int p1] below meth c (qcX3_goesOut D k ma mi st_o rp tp cr cw ik ln lg ce A) A 0 0 H locs 22 ls [] := by
    intro nn22
    induction nn22 with
    | zero =>
      intro st_22 x3_22 H locs hP hD hS hf
      rw [fX3_goesOut_L22] at hf; cases hf
    | succ nn22 ih22 =>
      intro st_22 x3_22 H locs hP hD hS hf ls hl
      rw [fX3_goesOut_L22] at hf
      refine lv_iload_n hx hb dX3_goesOut_22 rfl (lv_at hl 1 rfl) ?_
      refine lv_iconst (v := 1) hx hb dX3_goesOut_23 (by decide) ?_
      refine lv_iadd hx hb dX3_goesOut_24 ?_
      refine lv_bipush (v := 64) hx hb dX3_goesOut_25 (by decide) ?_
      refine lv_icmp_ge (tgt := 58) hx hb dX3_goesOut_27 (by decide) (fun c9 => ?_) (fun c9 => ?_)
      · have hf := oi_t c9 hf
        refine lv_aload_n hx hb dX3_goesOut_58 rfl (lv_at hl 0 rfl) ?_
        refine va_get (D := D) (cl := vwCl) (ci := 3) (v := .ref (ma 1)) (C := RX3) (T := TX3) (N := 18) hx hb hts in_X3 hown hK.1 hP 0 rfl rfl 0 (by decide) (hts _ q938) (fun _ h9 => h9) rfl dX3_goesOut_59 ?_
        refine lv_sipush (v := 192) hx hb dX3_goesOut_62 (by decide) ?_
        refine lv_dup2_11 hx hb dX3_goesOut_65 rfl rfl ?_
        obtain ⟨v10, ev10, hf⟩ := ob hf
        refine x_iald hx hb hK hP 1 1 ev10 rfl rfl dX3_goesOut_66 ?_
        refine lv_iconst (v := 1) hx hb dX3_goesOut_67 (by decide) ?_
        refine lv_isub hx hb dX3_goesOut_68 ?_
        obtain ⟨u11, eu11, hf⟩ := ob hf
        refine x_iast hx hb hK hP hD hS 1 1 eu11 rfl rfl (wM k ma mi u11 rp tp cr cw ik ln lg ce) rfl dX3_goesOut_69 (fun H locs hP hD hS => ?_)
        have he1 := Option.some.inj hf
        rw [he1] at hP
        exact wr_vret hx hb hr hlk hP hS dX3_goesOut_70
      · have hf := oi_f c9 hf
        refine lv_aload_n hx hb dX3_goesOut_30 rfl (lv_at hl 0 rfl) ?_
        refine va_get (D := D) (cl := vwCl) (ci := 3) (v := .ref (ma 1)) (C := RX3) (T := TX3) (N := 18) hx hb hts in_X3 hown hK.1 hP 0 rfl rfl 0 (by decide) (hts _ q938) (fun _ h9 => h9) rfl dX3_goesOut_31 ?_
        refine lv_sipush (v := 128) hx hb dX3_goesOut_34 (by decide) ?_
        refine lv_iload_n hx hb dX3_goesOut_37 rfl (lv_at hl 1 rfl) ?_
        refine lv_iadd hx hb dX3_goesOut_38 ?_
        refine lv_aload_n hx hb dX3_goesOut_39 rfl (lv_at hl 0 rfl) ?_
        refine va_get (D := D) (cl := vwCl) (ci := 3) (v := .ref (ma 1)) (C := RX3) (T := TX3) (N := 18) hx hb hts in_X3 hown hK.1 hP 0 rfl rfl 0 (by decide) (hts _ q938) (fun _ h9 => h9) rfl dX3_goesOut_40 ?_
        refine lv_sipush (v := 128) hx hb dX3_goesOut_43 (by decide) ?_
        refine lv_iload_n hx hb dX3_goesOut_46 rfl (lv_at hl 1 rfl) ?_
        refine lv_iadd hx hb dX3_goesOut_47 ?_
        refine lv_iconst (v := 1) hx hb dX3_goesOut_48 (by decide) ?_
        refine lv_iadd hx hb dX3_goesOut_49 ?_
        obtain ⟨v12, ev12, hf⟩ := ob hf
        refine x_iald hx hb hK hP 1 1 ev12 rfl rfl dX3_goesOut_50 ?_
        obtain ⟨u13, eu13, hf⟩ := ob hf
        refine x_iast hx hb hK hP hD hS 1 1 eu13 rfl rfl (wM k ma mi u13 rp tp cr cw ik ln lg ce) rfl dX3_goesOut_51 (fun H locs hP hD hS => ?_)
        refine lv_iinc (v := (x3_22 + 1)) (lv' := [(3, .int (x3_22 + 1)), (0, .ref (ma 0))]) hx hb dX3_goesOut_52 hl (k := 1) rfl rfl (by decide) rfl (fun ls hl => ?_)
        refine lv_goto (tgt := 22) hx hb dX3_goesOut_55 (by decide) ?_
        exact ih22 u13 (x3_22 + 1) H locs hP hD hS hf ls (lv_sub hl [1, 0] rfl)
  exact hL22 FU g7 p1 H locs hP hD hS hf ls (lv_sub hl [2, 0] rfl)

abbrev rmX3_edgeOf : Room := { frames := 3, cells := 0, slots := 0, locals := 69 }
theorem hdX3_edgeOf : yX3_edgeOf.cls ≠ "java/lang/invoke/MethodHandle" ∧ yX3_edgeOf.cls ≠ "java/lang/invoke/VarHandle" ∧ (parseMethodDescriptor yX3_edgeOf.desc).map (fun d => d.parameters.length) = some 2 := by decide +kernel
set_option maxHeartbeats 4000000 in
theorem mX3_edgeOf (l : Launch) (D : va_G) (k : Nat → ClassId) (ma : Nat → Nat) (mi : Nat → Int32) (st : Nat → Int32) (rp : Nat → Int32) (tp : Nat → Int32) (cr : Nat → Int32) (cw : Nat → Int32) (ik : Nat → Int32) (ln : Nat → Int32) (lg : Nat → Int32) (ce : Nat → Int64) (p1 : Int32) (p2 : Int32) (r : Int32) (hf : fX3_edgeOf st p1 p2 = some r) : CtI l yX3_edgeOf cX3_edgeOf 4 rmX3_edgeOf [.ref (ma 0), .int p1, .int p2] D k (wM k ma mi st rp tp cr cw ik ln lg ce) r := by
  refine rd_start (by decide +kernel) (Nat.le_of_ble_eq_true rfl) ?_
  intro p e s m below meth c ls hx hb hr hlk hml hown hts hP hK hl
  have hl : lv_has ls 4 [(0, .ref (ma 0)), (1, .int p1), (2, .int p2)] := hl
  have hown : s.vm.findClass RX3 = some m.cls := hown
  unfold fX3_edgeOf at hf
  refine lv_aload_n hx hb dX3_edgeOf_0 rfl (lv_at hl 0 rfl) ?_
  refine lv_iload_n hx hb dX3_edgeOf_1 rfl (lv_at hl 1 rfl) ?_
  refine lv_iload_n hx hb dX3_edgeOf_2 rfl (lv_at hl 2 rfl) ?_
  obtain ⟨v1, ev1, hf⟩ := ob hf
  refine rd_callV (As := [.int p1, .int p2]) (rest := []) ⟨hx, hb, hml, hown, hts⟩ (mX3_childOf l D k ma mi st rp tp cr cw ik ln lg ce p1 p2 _ ev1) (cwV 2 hts (lw_V q1127 q1129 qs70 q94 q1130) rfl rfl rfl ⟨rfl, hdX3_childOf⟩ ⟨Nat.le_of_ble_eq_true rfl, Nat.le_of_ble_eq_true rfl⟩) hK hP [0, 1, 2, 3, 4, 5, 6, 7, 8, 9] rfl 0 3 rfl rfl rfl hl.1 rfl (Nat.le_of_ble_eq_true rfl) dX3_edgeOf_3 ⟨Nat.le_of_ble_eq_true rfl, Nat.le_of_ble_eq_true rfl⟩ ?_
  refine lv_istore_n (lv' := [(3, .int v1), (0, .ref (ma 0)), (1, .int p1), (2, .int p2)]) hx hb dX3_edgeOf_6 rfl hl (by decide) rfl (fun ls hl => ?_)
  refine lv_iload_n hx hb dX3_edgeOf_7 rfl (lv_at hl 0 rfl) ?_
  refine lv_bipush (v := (-4)) hx hb dX3_edgeOf_8 (by decide) ?_
  refine lv_icmp_ne (tgt := 25) hx hb dX3_edgeOf_10 (by decide) (fun c3 => ?_) (fun c3 => ?_)
  · have hf := oi_f c3 hf
    refine lv_aload_n hx hb dX3_edgeOf_25 rfl (lv_at hl 1 rfl) ?_
    refine lv_iload_n hx hb dX3_edgeOf_26 rfl (lv_at hl 0 rfl) ?_
    obtain ⟨v4, ev4, hf⟩ := ob hf
    refine rd_callV (As := [.int v1]) (rest := []) ⟨hx, hb, hml, hown, hts⟩ (mX3_openOf l D k ma mi st rp tp cr cw ik ln lg ce v1 _ ev4) (cwV 1 hts (lw_V q1115 q1117 qs67 q94 q1118) rfl rfl rfl ⟨rfl, hdX3_openOf⟩ ⟨Nat.le_of_ble_eq_true rfl, Nat.le_of_ble_eq_true rfl⟩) hK hP [0, 1, 2, 3, 4, 5, 6, 7, 8, 9] rfl 0 3 rfl rfl rfl hl.1 rfl (Nat.le_of_ble_eq_true rfl) dX3_edgeOf_27 ⟨Nat.le_of_ble_eq_true rfl, Nat.le_of_ble_eq_true rfl⟩ ?_
    exact rd_iret hx hb hr hlk (Option.some.inj hf) dX3_edgeOf_30
  · have hf := oi_t c3 hf
    refine lv_aload_n hx hb dX3_edgeOf_13 rfl (lv_at hl 1 rfl) ?_
    refine lv_aload_n hx hb dX3_edgeOf_14 rfl (lv_at hl 1 rfl) ?_
    refine lv_iload_n hx hb dX3_edgeOf_15 rfl (lv_at hl 2 rfl) ?_
    obtain ⟨v6, ev6, hf⟩ := ob hf
    refine rd_callV (As := [.int p1]) (rest := [.ref (ma 0)]) ⟨hx, hb, hml, hown, hts⟩ (mX3_openOf l D k ma mi st rp tp cr cw ik ln lg ce p1 _ ev6) (cwV 1 hts (lw_V q1115 q1117 qs67 q94 q1118) rfl rfl rfl ⟨rfl, hdX3_openOf⟩ ⟨Nat.le_of_ble_eq_true rfl, Nat.le_of_ble_eq_true rfl⟩) hK hP [0, 1, 2, 3, 4, 5, 6, 7, 8, 9] rfl 0 3 rfl rfl rfl hl.1 rfl (Nat.le_of_ble_eq_true rfl) dX3_edgeOf_16 ⟨Nat.le_of_ble_eq_true rfl, Nat.le_of_ble_eq_true rfl⟩ ?_
    obtain ⟨v8, ev8, hf⟩ := ob hf
    refine rd_callV (As := [.int v6]) (rest := []) ⟨hx, hb, hml, hown, hts⟩ (mX3_shutOf l D k ma mi st rp tp cr cw ik ln lg ce v6 _ ev8) (cwV 1 hts (lw_V q1089 q1091 qs64 q94 q1092) rfl rfl rfl ⟨rfl, hdX3_shutOf⟩ ⟨Nat.le_of_ble_eq_true rfl, Nat.le_of_ble_eq_true rfl⟩) hK hP [0, 1, 2, 3, 4, 5, 6, 7, 8, 9] rfl 0 3 rfl rfl rfl hl.1 rfl (Nat.le_of_ble_eq_true rfl) dX3_edgeOf_19 ⟨Nat.le_of_ble_eq_true rfl, Nat.le_of_ble_eq_true rfl⟩ ?_
    refine lv_goto (tgt := 30) hx hb dX3_edgeOf_22 (by decide) ?_
    exact rd_iret hx hb hr hlk (Option.some.inj hf) dX3_edgeOf_30

abbrev rmX3_plant : Room := { frames := 1, cells := 0, slots := 0, locals := 20 }
theorem hdX3_plant : yX3_plant.cls ≠ "java/lang/invoke/MethodHandle" ∧ yX3_plant.cls ≠ "java/lang/invoke/VarHandle" ∧ (parseMethodDescriptor yX3_plant.desc).map (fun d => d.parameters.length) = some 1 := by decide +kernel
abbrev qcX3_plant (D : va_G) (k : Nat → ClassId) (ma : Nat → Nat) (mi : Nat → Int32) (st : Nat → Int32) (rp : Nat → Int32) (tp : Nat → Int32) (cr : Nat → Int32) (cw : Nat → Int32) (ik : Nat → Int32) (ln : Nat → Int32) (lg : Nat → Int32) (ce : Nat → Int64) (r : Int32) (A : Nat → Prop) : Array Value → State → Outcome → State → Prop := va_Qi (fun x (_ : Unit) => x = r) (fun _ t => va_P D vwCl (wM k ma mi st rp tp cr cw ik ln lg ce) t.heap) A
set_option maxHeartbeats 4000000 in
theorem mX3_plant (l : Launch) (D : va_G) (k : Nat → ClassId) (ma : Nat → Nat) (mi : Nat → Int32) (st : Nat → Int32) (rp : Nat → Int32) (tp : Nat → Int32) (cr : Nat → Int32) (cw : Nat → Int32) (ik : Nat → Int32) (ln : Nat → Int32) (lg : Nat → Int32) (ce : Nat → Int64) (p1 : Int32) (sz : Nat) (r : Int32) (st_o : Nat → Int32) (hf : fX3_plant st p1 = some (r, st_o)) : Met l yX3_plant (ws_ yX3_plant cX3_plant 2 (some .int)) rmX3_plant (wrP D k (wM k ma mi st rp tp cr cw ik ln lg ce) sz [.ref (ma 0), .int p1]) (qcX3_plant D k ma mi st_o rp tp cr cw ik ln lg ce r (va_A (wM k ma mi st rp tp cr cw ik ln lg ce) sz)) 0 0 (va_A (wM k ma mi st rp tp cr cw ik ln lg ce) sz) := by
  refine wr_start (Qc := fun A => qcX3_plant D k ma mi st_o rp tp cr cw ik ln lg ce r A) (by decide +kernel) (Nat.le_of_ble_eq_true rfl) ?_
  intro p e s m below meth c ls A hA hx hb hr hlk hml hown hts hP hK hD hl
  have hl : lv_has ls 2 [(0, .ref (ma 0)), (1, .int p1)] := hl
  have hown : s.vm.findClass RX3 = some m.cls := hown
  have hS : va_S A s.heap s.heap [] := va_S.rf
  suffices hw : ∀ (H : Heap) (locs : List Loc), va_P D vwCl (wM k ma mi st rp tp cr cw ik ln lg ce) H → va_S A s.heap H locs → gW p l e rmX3_plant s m [.ref (ma 0), .int p1] below meth c (qcX3_plant D k ma mi st_o rp tp cr cw ik ln lg ce r A) A 0 0 H locs 0 ls [] from hw s.heap [] hP hS
  clear hP hS
  intro H locs hP hS
  unfold fX3_plant at hf
  refine lv_iload_n hx hb dX3_plant_0 rfl (lv_at hl 1 rfl) ?_
  refine lv_if_ge (tgt := 6) hx hb dX3_plant_1 (by decide) (fun c1 => ?_) (fun c1 => ?_)
  · have hf := oi_t c1 hf
    refine lv_aload_n hx hb dX3_plant_6 rfl (lv_at hl 0 rfl) ?_
    obtain ⟨v2, ev2, hf⟩ := ob hf
    refine rd_callV (As := []) (rest := []) ⟨hx, hb, hml, hown, hts⟩ (mX3_many l D k ma mi st rp tp cr cw ik ln lg ce  _ ev2) (cwV 0 hts (lw_V q1048 q1050 qs61 q94 q1051) rfl rfl rfl ⟨rfl, hdX3_many⟩ ⟨Nat.le_of_ble_eq_true rfl, Nat.le_of_ble_eq_true rfl⟩) hK hP [0, 1, 2, 3, 4, 5, 6, 7, 8, 9] rfl 0 3 rfl rfl rfl hl.1 rfl (Nat.le_of_ble_eq_true rfl) dX3_plant_7 ⟨Nat.le_of_ble_eq_true rfl, Nat.le_of_ble_eq_true rfl⟩ ?_
    refine lv_if_le (tgt := 16) hx hb dX3_plant_10 (by decide) (fun c4 => ?_) (fun c4 => ?_)
    · have hf := oi_t c4 hf
      refine lv_aload_n hx hb dX3_plant_16 rfl (lv_at hl 0 rfl) ?_
      refine va_get (D := D) (cl := vwCl) (ci := 3) (v := .ref (ma 1)) (C := RX3) (T := TX3) (N := 18) hx hb hts in_X3 hown hK.1 hP 0 rfl rfl 0 (by decide) (hts _ q938) (fun _ h9 => h9) rfl dX3_plant_17 ?_
      refine lv_iconst (v := 0) hx hb dX3_plant_20 (by decide) ?_
      refine lv_iconst (v := 1) hx hb dX3_plant_21 (by decide) ?_
      obtain ⟨u5, eu5, hf⟩ := ob hf
      refine x_iast hx hb hK hP hD hS 1 1 eu5 rfl rfl (wM k ma mi u5 rp tp cr cw ik ln lg ce) rfl dX3_plant_22 (fun H locs hP hD hS => ?_)
      refine lv_aload_n hx hb dX3_plant_23 rfl (lv_at hl 0 rfl) ?_
      refine va_get (D := D) (cl := vwCl) (ci := 3) (v := .ref (ma 1)) (C := RX3) (T := TX3) (N := 18) hx hb hts in_X3 hown hK.1 hP 0 rfl rfl 0 (by decide) (hts _ q938) (fun _ h9 => h9) rfl dX3_plant_24 ?_
      refine lv_iconst (v := 1) hx hb dX3_plant_27 (by decide) ?_
      refine lv_iconst (v := 0) hx hb dX3_plant_28 (by decide) ?_
      obtain ⟨u6, eu6, hf⟩ := ob hf
      refine x_iast hx hb hK hP hD hS 1 1 eu6 rfl rfl (wM k ma mi u6 rp tp cr cw ik ln lg ce) rfl dX3_plant_29 (fun H locs hP hD hS => ?_)
      refine lv_aload_n hx hb dX3_plant_30 rfl (lv_at hl 0 rfl) ?_
      refine va_get (D := D) (cl := vwCl) (ci := 3) (v := .ref (ma 1)) (C := RX3) (T := TX3) (N := 18) hx hb hts in_X3 hown hK.1 hP 0 rfl rfl 0 (by decide) (hts _ q938) (fun _ h9 => h9) rfl dX3_plant_31 ?_
      refine lv_sipush (v := 128) hx hb dX3_plant_34 (by decide) ?_
      refine lv_iload_n hx hb dX3_plant_37 rfl (lv_at hl 1 rfl) ?_
      obtain ⟨u7, eu7, hf⟩ := ob hf
      refine x_iast hx hb hK hP hD hS 1 1 eu7 rfl rfl (wM k ma mi u7 rp tp cr cw ik ln lg ce) rfl dX3_plant_38 (fun H locs hP hD hS => ?_)
      refine lv_aload_n hx hb dX3_plant_39 rfl (lv_at hl 0 rfl) ?_
      refine va_get (D := D) (cl := vwCl) (ci := 3) (v := .ref (ma 1)) (C := RX3) (T := TX3) (N := 18) hx hb hts in_X3 hown hK.1 hP 0 rfl rfl 0 (by decide) (hts _ q938) (fun _ h9 => h9) rfl dX3_plant_40 ?_
      refine lv_sipush (v := 192) hx hb dX3_plant_43 (by decide) ?_
      refine lv_iconst (v := 1) hx hb dX3_plant_46 (by decide) ?_
      obtain ⟨u8, eu8, hf⟩ := ob hf
      refine x_iast hx hb hK hP hD hS 1 1 eu8 rfl rfl (wM k ma mi u8 rp tp cr cw ik ln lg ce) rfl dX3_plant_47 (fun H locs hP hD hS => ?_)
      refine lv_iconst (v := 0) hx hb dX3_plant_48 (by decide) ?_
      obtain ⟨he1, he2⟩ := prod2 hf
      rw [he2] at hP
      exact wr_iret hx hb hr hlk he1 hP hS dX3_plant_49
    · have hf := oi_f c4 hf
      refine lv_bipush (v := (-2)) hx hb dX3_plant_13 (by decide) ?_
      obtain ⟨he1, he2⟩ := prod2 hf
      rw [he2] at hP
      exact wr_iret hx hb hr hlk he1 hP hS dX3_plant_15
  · have hf := oi_f c1 hf
    refine lv_iconst (v := (-1)) hx hb dX3_plant_4 (by decide) ?_
    obtain ⟨he1, he2⟩ := prod2 hf
    rw [he2] at hP
    exact wr_iret hx hb hr hlk he1 hP hS dX3_plant_5

abbrev rmX3_leafs : Room := { frames := 4, cells := 0, slots := 0, locals := 92 }
theorem hdX3_leafs : yX3_leafs.cls ≠ "java/lang/invoke/MethodHandle" ∧ yX3_leafs.cls ≠ "java/lang/invoke/VarHandle" ∧ (parseMethodDescriptor yX3_leafs.desc).map (fun d => d.parameters.length) = some 3 := by decide +kernel
abbrev qcX3_leafs (D : va_G) (k : Nat → ClassId) (ma : Nat → Nat) (mi : Nat → Int32) (st : Nat → Int32) (rp : Nat → Int32) (tp : Nat → Int32) (cr : Nat → Int32) (cw : Nat → Int32) (ik : Nat → Int32) (ln : Nat → Int32) (lg : Nat → Int32) (ce : Nat → Int64) (r : Int32) (A : Nat → Prop) : Array Value → State → Outcome → State → Prop := va_Qi (fun x (_ : Unit) => x = r) (fun _ t => va_P D vwCl (wM k ma mi st rp tp cr cw ik ln lg ce) t.heap) A
set_option maxHeartbeats 4000000 in
theorem mX3_leafs (l : Launch) (D : va_G) (k : Nat → ClassId) (ma : Nat → Nat) (mi : Nat → Int32) (st : Nat → Int32) (rp : Nat → Int32) (tp : Nat → Int32) (cr : Nat → Int32) (cw : Nat → Int32) (ik : Nat → Int32) (ln : Nat → Int32) (lg : Nat → Int32) (ce : Nat → Int64) (p1 : Int32) (p2 : Int32) (p3 : Int32) (sz : Nat) (r : Int32) (st_o : Nat → Int32) (hf : fX3_leafs st p1 p2 p3 = some (r, st_o)) : Met l yX3_leafs (ws_ yX3_leafs cX3_leafs 5 (some .int)) rmX3_leafs (wrP D k (wM k ma mi st rp tp cr cw ik ln lg ce) sz [.ref (ma 0), .int p1, .int p2, .int p3]) (qcX3_leafs D k ma mi st_o rp tp cr cw ik ln lg ce r (va_A (wM k ma mi st rp tp cr cw ik ln lg ce) sz)) 0 0 (va_A (wM k ma mi st rp tp cr cw ik ln lg ce) sz) := by
  refine wr_start (Qc := fun A => qcX3_leafs D k ma mi st_o rp tp cr cw ik ln lg ce r A) (by decide +kernel) (Nat.le_of_ble_eq_true rfl) ?_
  intro p e s m below meth c ls A hA hx hb hr hlk hml hown hts hP hK hD hl
  have hl : lv_has ls 5 [(0, .ref (ma 0)), (1, .int p1), (2, .int p2), (3, .int p3)] := hl
  have hown : s.vm.findClass RX3 = some m.cls := hown
  have hS : va_S A s.heap s.heap [] := va_S.rf
  suffices hw : ∀ (H : Heap) (locs : List Loc), va_P D vwCl (wM k ma mi st rp tp cr cw ik ln lg ce) H → va_S A s.heap H locs → gW p l e rmX3_leafs s m [.ref (ma 0), .int p1, .int p2, .int p3] below meth c (qcX3_leafs D k ma mi st_o rp tp cr cw ik ln lg ce r A) A 0 0 H locs 0 ls [] from hw s.heap [] hP hS
  clear hP hS
  intro H locs hP hS
  unfold fX3_leafs at hf
  refine lv_aload_n hx hb dX3_leafs_0 rfl (lv_at hl 0 rfl) ?_
  refine lv_iload_n hx hb dX3_leafs_1 rfl (lv_at hl 1 rfl) ?_
  refine lv_iload_n hx hb dX3_leafs_2 rfl (lv_at hl 2 rfl) ?_
  obtain ⟨v1, ev1, hf⟩ := ob hf
  refine rd_callV (As := [.int p1, .int p2]) (rest := []) ⟨hx, hb, hml, hown, hts⟩ (mX3_edgeOf l D k ma mi st rp tp cr cw ik ln lg ce p1 p2 _ ev1) (cwV 2 hts (lw_V q1236 q1238 qs82 q94 q1239) rfl rfl rfl ⟨rfl, hdX3_edgeOf⟩ ⟨Nat.le_of_ble_eq_true rfl, Nat.le_of_ble_eq_true rfl⟩) hK hP [0, 1, 2, 3, 4, 5, 6, 7, 8, 9] rfl 0 3 rfl rfl rfl hl.1 rfl (Nat.le_of_ble_eq_true rfl) dX3_leafs_3 ⟨Nat.le_of_ble_eq_true rfl, Nat.le_of_ble_eq_true rfl⟩ ?_
  refine lv_istore (lv' := [(4, .int v1), (0, .ref (ma 0)), (1, .int p1), (2, .int p2), (3, .int p3)]) hx hb dX3_leafs_6 hl (by decide) rfl (fun ls hl => ?_)
  refine lv_aload_n hx hb dX3_leafs_8 rfl (lv_at hl 1 rfl) ?_
  refine lv_iload hx hb dX3_leafs_9 (lv_at hl 0 rfl) ?_
  refine lv_iload hx hb dX3_leafs_11 (lv_at hl 0 rfl) ?_
  refine lv_iload_n hx hb dX3_leafs_13 rfl (lv_at hl 4 rfl) ?_
  obtain ⟨g3, et4, hf⟩ := ob hf
  refine wr_callVv (As := [.int v1, .int v1, .int p3]) (rest := []) ⟨hx, hb, hml, hown, hts⟩ (mX3_comesIn l D k ma mi st rp tp cr cw ik ln lg ce v1 v1 p3 _ _ et4) (cwV 3 hts (lw_V q1240 q1242 qs83 q94 q1243) rfl rfl rfl ⟨rfl, hdX3_comesIn⟩ ⟨Nat.le_of_ble_eq_true rfl, Nat.le_of_ble_eq_true rfl⟩) hK hP hD hS hA [0, 1, 2, 3, 4, 5, 6, 7, 8, 9] [] (wM k ma mi g3 rp tp cr cw ik ln lg ce) rfl rfl fm_n 10 rfl (by decide) (by decide) [(ma 0), (ma 1), (ma 2), (ma 3), (ma 4), (ma 5), (ma 6), (ma 7), (ma 8), (ma 9)] rfl rfl 0 3 rfl rfl rfl hl.1 rfl (Nat.le_of_ble_eq_true rfl) dX3_leafs_14 ⟨Nat.le_of_ble_eq_true rfl, Nat.le_of_ble_eq_true rfl⟩ (fun H locs hP hD hS => ?_)
  refine lv_aload_n hx hb dX3_leafs_17 rfl (lv_at hl 1 rfl) ?_
  refine lv_iload hx hb dX3_leafs_18 (lv_at hl 0 rfl) ?_
  obtain ⟨v5, ev5, hf⟩ := ob hf
  refine rd_callV (As := [.int v1]) (rest := []) ⟨hx, hb, hml, hown, hts⟩ (mX3_opensAt l D k ma mi g3 rp tp cr cw ik ln lg ce v1 _ ev5) (cwV 1 hts (lw_V q1159 q1161 qs78 q94 q1162) rfl rfl rfl ⟨rfl, hdX3_opensAt⟩ ⟨Nat.le_of_ble_eq_true rfl, Nat.le_of_ble_eq_true rfl⟩) hK hP [0, 1, 2, 3, 4, 5, 6, 7, 8, 9] rfl 0 3 rfl rfl rfl hl.1 rfl (Nat.le_of_ble_eq_true rfl) dX3_leafs_20 ⟨Nat.le_of_ble_eq_true rfl, Nat.le_of_ble_eq_true rfl⟩ ?_
  obtain ⟨he1, he2⟩ := prod2 hf
  rw [he2] at hP
  exact wr_iret hx hb hr hlk he1 hP hS dX3_leafs_23

abbrev rmX3_leaf : Room := { frames := 5, cells := 0, slots := 0, locals := 116 }
theorem hdX3_leaf : yX3_leaf.cls ≠ "java/lang/invoke/MethodHandle" ∧ yX3_leaf.cls ≠ "java/lang/invoke/VarHandle" ∧ (parseMethodDescriptor yX3_leaf.desc).map (fun d => d.parameters.length) = some 3 := by decide +kernel
abbrev qcX3_leaf (D : va_G) (k : Nat → ClassId) (ma : Nat → Nat) (mi : Nat → Int32) (st : Nat → Int32) (rp : Nat → Int32) (tp : Nat → Int32) (cr : Nat → Int32) (cw : Nat → Int32) (ik : Nat → Int32) (ln : Nat → Int32) (lg : Nat → Int32) (ce : Nat → Int64) (r : Int32) (A : Nat → Prop) : Array Value → State → Outcome → State → Prop := va_Qi (fun x (_ : Unit) => x = r) (fun _ t => va_P D vwCl (wM k ma mi st rp tp cr cw ik ln lg ce) t.heap) A
set_option maxHeartbeats 4000000 in
theorem mX3_leaf (l : Launch) (D : va_G) (k : Nat → ClassId) (ma : Nat → Nat) (mi : Nat → Int32) (st : Nat → Int32) (rp : Nat → Int32) (tp : Nat → Int32) (cr : Nat → Int32) (cw : Nat → Int32) (ik : Nat → Int32) (ln : Nat → Int32) (lg : Nat → Int32) (ce : Nat → Int64) (p1 : Int32) (p2 : Int32) (p3 : Int32) (sz : Nat) (r : Int32) (st_o : Nat → Int32) (hf : fX3_leaf st p1 p2 p3 = some (r, st_o)) : Met l yX3_leaf (ws_ yX3_leaf cX3_leaf 4 (some .int)) rmX3_leaf (wrP D k (wM k ma mi st rp tp cr cw ik ln lg ce) sz [.ref (ma 0), .int p1, .int p2, .int p3]) (qcX3_leaf D k ma mi st_o rp tp cr cw ik ln lg ce r (va_A (wM k ma mi st rp tp cr cw ik ln lg ce) sz)) 0 0 (va_A (wM k ma mi st rp tp cr cw ik ln lg ce) sz) := by
  refine wr_start (Qc := fun A => qcX3_leaf D k ma mi st_o rp tp cr cw ik ln lg ce r A) (by decide +kernel) (Nat.le_of_ble_eq_true rfl) ?_
  intro p e s m below meth c ls A hA hx hb hr hlk hml hown hts hP hK hD hl
  have hl : lv_has ls 4 [(0, .ref (ma 0)), (1, .int p1), (2, .int p2), (3, .int p3)] := hl
  have hown : s.vm.findClass RX3 = some m.cls := hown
  have hS : va_S A s.heap s.heap [] := va_S.rf
  suffices hw : ∀ (H : Heap) (locs : List Loc), va_P D vwCl (wM k ma mi st rp tp cr cw ik ln lg ce) H → va_S A s.heap H locs → gW p l e rmX3_leaf s m [.ref (ma 0), .int p1, .int p2, .int p3] below meth c (qcX3_leaf D k ma mi st_o rp tp cr cw ik ln lg ce r A) A 0 0 H locs 0 ls [] from hw s.heap [] hP hS
  clear hP hS
  intro H locs hP hS
  unfold fX3_leaf at hf
  refine lv_aload_n hx hb dX3_leaf_0 rfl (lv_at hl 0 rfl) ?_
  refine lv_iload_n hx hb dX3_leaf_1 rfl (lv_at hl 1 rfl) ?_
  obtain ⟨v1, ev1, hf⟩ := ob hf
  refine rd_callVZ (As := [.int p1]) (rest := []) ⟨hx, hb, hml, hown, hts⟩ (mX3_isNode l D k ma mi st rp tp cr cw ik ln lg ce p1 _ ev1) (cwV 1 hts (lw_V q1107 q1109 qs65 q94 q1110) rfl rfl rfl ⟨rfl, hdX3_isNode⟩ ⟨Nat.le_of_ble_eq_true rfl, Nat.le_of_ble_eq_true rfl⟩) hK hP [0, 1, 2, 3, 4, 5, 6, 7, 8, 9] rfl 0 3 rfl rfl rfl hl.1 rfl (Nat.le_of_ble_eq_true rfl) dX3_leaf_2 ⟨Nat.le_of_ble_eq_true rfl, Nat.le_of_ble_eq_true rfl⟩ (fun zv1 => ?_)
  refine lv_if_eq (tgt := 27) hx hb dX3_leaf_5 (by decide) (fun c3 => ?_) (fun c3 => ?_)
  · have hf := oi_t c3 hf
    refine lv_iconst (v := (-1)) hx hb dX3_leaf_27 (by decide) ?_
    obtain ⟨he1, he2⟩ := prod2 hf
    rw [he2] at hP
    exact wr_iret hx hb hr hlk he1 hP hS dX3_leaf_28
  · have hf := oi_f c3 hf
    refine lv_iload_n hx hb dX3_leaf_8 rfl (lv_at hl 2 rfl) ?_
    refine lv_i2l hx hb dX3_leaf_9 rfl ?_
    refine lv_lconst (v := 0) hx hb dX3_leaf_10 (by decide) ?_
    refine lv_aload_n hx hb dX3_leaf_11 rfl (lv_at hl 0 rfl) ?_
    refine lv_iload_n hx hb dX3_leaf_12 rfl (lv_at hl 1 rfl) ?_
    obtain ⟨v4, ev4, hf⟩ := ob hf
    refine rd_callV (As := [.int p1]) (rest := [.long (0 : Int64), .long ((p2).toInt64)]) ⟨hx, hb, hml, hown, hts⟩ (mX3_childrenOf l D k ma mi st rp tp cr cw ik ln lg ce p1 _ ev4) (cwV 1 hts (lw_V q1135 q1137 qs72 q94 q1138) rfl rfl rfl ⟨rfl, hdX3_childrenOf⟩ ⟨Nat.le_of_ble_eq_true rfl, Nat.le_of_ble_eq_true rfl⟩) hK hP [0, 1, 2, 3, 4, 5, 6, 7, 8, 9] rfl 0 3 rfl rfl rfl hl.1 rfl (Nat.le_of_ble_eq_true rfl) dX3_leaf_13 ⟨Nat.le_of_ble_eq_true rfl, Nat.le_of_ble_eq_true rfl⟩ ?_
    refine lv_i2l hx hb dX3_leaf_16 rfl ?_
    obtain ⟨v6, ev6, hf⟩ := ob hf
    refine rd_callSZ (As := [.long ((p2).toInt64), .long (0 : Int64), .long ((v4).toInt64)]) (rest := []) ⟨hx, hb, hml, hown, hts⟩ (mX3_in l D k   ((p2).toInt64) (0 : Int64) ((v4).toInt64) _ ev6) (va_cwS 3 hts (lw_S q999 q1000 q94 q1001) rfl rfl rfl hdX3_in ⟨Nat.le_of_ble_eq_true rfl, Nat.le_of_ble_eq_true rfl⟩) hK rfl hl.1 rfl (Nat.le_of_ble_eq_true rfl) dX3_leaf_17 ⟨Nat.le_of_ble_eq_true rfl, Nat.le_of_ble_eq_true rfl⟩ (fun zv6 => ?_)
    refine lv_if_eq (tgt := 27) hx hb dX3_leaf_20 (by decide) (fun c8 => ?_) (fun c8 => ?_)
    · have hf := oi_t c8 hf
      refine lv_iconst (v := (-1)) hx hb dX3_leaf_27 (by decide) ?_
      obtain ⟨he1, he2⟩ := prod2 hf
      rw [he2] at hP
      exact wr_iret hx hb hr hlk he1 hP hS dX3_leaf_28
    · have hf := oi_f c8 hf
      refine lv_iload_n hx hb dX3_leaf_23 rfl (lv_at hl 3 rfl) ?_
      refine lv_if_ge (tgt := 29) hx hb dX3_leaf_24 (by decide) (fun c9 => ?_) (fun c9 => ?_)
      · have hf := oi_t c9 hf
        refine lv_aload_n hx hb dX3_leaf_29 rfl (lv_at hl 0 rfl) ?_
        obtain ⟨v10, ev10, hf⟩ := ob hf
        refine rd_callV (As := []) (rest := []) ⟨hx, hb, hml, hown, hts⟩ (mX3_many l D k ma mi st rp tp cr cw ik ln lg ce  _ ev10) (cwV 0 hts (lw_V q1048 q1050 qs61 q94 q1051) rfl rfl rfl ⟨rfl, hdX3_many⟩ ⟨Nat.le_of_ble_eq_true rfl, Nat.le_of_ble_eq_true rfl⟩) hK hP [0, 1, 2, 3, 4, 5, 6, 7, 8, 9] rfl 0 3 rfl rfl rfl hl.1 rfl (Nat.le_of_ble_eq_true rfl) dX3_leaf_30 ⟨Nat.le_of_ble_eq_true rfl, Nat.le_of_ble_eq_true rfl⟩ ?_
        refine lv_bipush (v := 64) hx hb dX3_leaf_33 (by decide) ?_
        refine lv_icmp_ne (tgt := 43) hx hb dX3_leaf_35 (by decide) (fun c12 => ?_) (fun c12 => ?_)
        · have hf := oi_f c12 hf
          refine lv_aload_n hx hb dX3_leaf_43 rfl (lv_at hl 0 rfl) ?_
          refine lv_iload_n hx hb dX3_leaf_44 rfl (lv_at hl 1 rfl) ?_
          refine lv_iload_n hx hb dX3_leaf_45 rfl (lv_at hl 2 rfl) ?_
          refine lv_iload_n hx hb dX3_leaf_46 rfl (lv_at hl 3 rfl) ?_
          obtain ⟨⟨v13, g14⟩, et15, hf⟩ := ob hf
          refine wr_callV (As := [.int p1, .int p2, .int p3]) (rest := []) ⟨hx, hb, hml, hown, hts⟩ (mX3_leafs l D k ma mi st rp tp cr cw ik ln lg ce p1 p2 p3 _ _ _ et15) (cwV 3 hts (lw_V q1232 q1234 qs81 q94 q1235) rfl rfl rfl ⟨rfl, hdX3_leafs⟩ ⟨Nat.le_of_ble_eq_true rfl, Nat.le_of_ble_eq_true rfl⟩) hK hP hD hS hA [0, 1, 2, 3, 4, 5, 6, 7, 8, 9] [] (wM k ma mi g14 rp tp cr cw ik ln lg ce) rfl rfl fm_n 10 rfl (by decide) (by decide) [(ma 0), (ma 1), (ma 2), (ma 3), (ma 4), (ma 5), (ma 6), (ma 7), (ma 8), (ma 9)] rfl rfl 0 3 rfl rfl rfl hl.1 rfl (Nat.le_of_ble_eq_true rfl) dX3_leaf_47 ⟨Nat.le_of_ble_eq_true rfl, Nat.le_of_ble_eq_true rfl⟩ (fun H locs hP hD hS => ?_)
          obtain ⟨he1, he2⟩ := prod2 hf
          rw [he2] at hP
          exact wr_iret hx hb hr hlk he1 hP hS dX3_leaf_50
        · have hf := oi_t c12 hf
          refine lv_bipush (v := (-3)) hx hb dX3_leaf_38 (by decide) ?_
          refine lv_goto (tgt := 50) hx hb dX3_leaf_40 (by decide) ?_
          obtain ⟨he1, he2⟩ := prod2 hf
          rw [he2] at hP
          exact wr_iret hx hb hr hlk he1 hP hS dX3_leaf_50
      · have hf := oi_f c9 hf
        refine lv_iconst (v := (-1)) hx hb dX3_leaf_27 (by decide) ?_
        obtain ⟨he1, he2⟩ := prod2 hf
        rw [he2] at hP
        exact wr_iret hx hb hr hlk he1 hP hS dX3_leaf_28

abbrev rmX3_prune : Room := { frames := 2, cells := 0, slots := 0, locals := 46 }
theorem hdX3_prune : yX3_prune.cls ≠ "java/lang/invoke/MethodHandle" ∧ yX3_prune.cls ≠ "java/lang/invoke/VarHandle" ∧ (parseMethodDescriptor yX3_prune.desc).map (fun d => d.parameters.length) = some 1 := by decide +kernel
abbrev qcX3_prune (D : va_G) (k : Nat → ClassId) (ma : Nat → Nat) (mi : Nat → Int32) (st : Nat → Int32) (rp : Nat → Int32) (tp : Nat → Int32) (cr : Nat → Int32) (cw : Nat → Int32) (ik : Nat → Int32) (ln : Nat → Int32) (lg : Nat → Int32) (ce : Nat → Int64) (r : Int32) (A : Nat → Prop) : Array Value → State → Outcome → State → Prop := va_Qi (fun x (_ : Unit) => x = r) (fun _ t => va_P D vwCl (wM k ma mi st rp tp cr cw ik ln lg ce) t.heap) A
set_option maxHeartbeats 4000000 in
theorem mX3_prune (l : Launch) (D : va_G) (k : Nat → ClassId) (ma : Nat → Nat) (mi : Nat → Int32) (st : Nat → Int32) (rp : Nat → Int32) (tp : Nat → Int32) (cr : Nat → Int32) (cw : Nat → Int32) (ik : Nat → Int32) (ln : Nat → Int32) (lg : Nat → Int32) (ce : Nat → Int64) (p1 : Int32) (sz : Nat) (r : Int32) (st_o : Nat → Int32) (hf : fX3_prune st p1 = some (r, st_o)) : Met l yX3_prune (ws_ yX3_prune cX3_prune 2 (some .int)) rmX3_prune (wrP D k (wM k ma mi st rp tp cr cw ik ln lg ce) sz [.ref (ma 0), .int p1]) (qcX3_prune D k ma mi st_o rp tp cr cw ik ln lg ce r (va_A (wM k ma mi st rp tp cr cw ik ln lg ce) sz)) 0 0 (va_A (wM k ma mi st rp tp cr cw ik ln lg ce) sz) := by
  refine wr_start (Qc := fun A => qcX3_prune D k ma mi st_o rp tp cr cw ik ln lg ce r A) (by decide +kernel) (Nat.le_of_ble_eq_true rfl) ?_
  intro p e s m below meth c ls A hA hx hb hr hlk hml hown hts hP hK hD hl
  have hl : lv_has ls 2 [(0, .ref (ma 0)), (1, .int p1)] := hl
  have hown : s.vm.findClass RX3 = some m.cls := hown
  have hS : va_S A s.heap s.heap [] := va_S.rf
  suffices hw : ∀ (H : Heap) (locs : List Loc), va_P D vwCl (wM k ma mi st rp tp cr cw ik ln lg ce) H → va_S A s.heap H locs → gW p l e rmX3_prune s m [.ref (ma 0), .int p1] below meth c (qcX3_prune D k ma mi st_o rp tp cr cw ik ln lg ce r A) A 0 0 H locs 0 ls [] from hw s.heap [] hP hS
  clear hP hS
  intro H locs hP hS
  unfold fX3_prune at hf
  refine lv_aload_n hx hb dX3_prune_0 rfl (lv_at hl 0 rfl) ?_
  refine lv_iload_n hx hb dX3_prune_1 rfl (lv_at hl 1 rfl) ?_
  obtain ⟨v1, ev1, hf⟩ := ob hf
  refine rd_callVZ (As := [.int p1]) (rest := []) ⟨hx, hb, hml, hown, hts⟩ (mX3_isNode l D k ma mi st rp tp cr cw ik ln lg ce p1 _ ev1) (cwV 1 hts (lw_V q1107 q1109 qs65 q94 q1110) rfl rfl rfl ⟨rfl, hdX3_isNode⟩ ⟨Nat.le_of_ble_eq_true rfl, Nat.le_of_ble_eq_true rfl⟩) hK hP [0, 1, 2, 3, 4, 5, 6, 7, 8, 9] rfl 0 3 rfl rfl rfl hl.1 rfl (Nat.le_of_ble_eq_true rfl) dX3_prune_2 ⟨Nat.le_of_ble_eq_true rfl, Nat.le_of_ble_eq_true rfl⟩ (fun zv1 => ?_)
  refine lv_if_ne (tgt := 10) hx hb dX3_prune_5 (by decide) (fun c3 => ?_) (fun c3 => ?_)
  · have hf := oi_f c3 hf
    refine lv_aload_n hx hb dX3_prune_10 rfl (lv_at hl 0 rfl) ?_
    refine lv_iload_n hx hb dX3_prune_11 rfl (lv_at hl 1 rfl) ?_
    obtain ⟨v4, ev4, hf⟩ := ob hf
    refine rd_callV (As := [.int p1]) (rest := []) ⟨hx, hb, hml, hown, hts⟩ (mX3_sizeOf l D k ma mi st rp tp cr cw ik ln lg ce p1 _ ev4) (cwV 1 hts (lw_V q1131 q1133 qs71 q94 q1134) rfl rfl rfl ⟨rfl, hdX3_sizeOf⟩ ⟨Nat.le_of_ble_eq_true rfl, Nat.le_of_ble_eq_true rfl⟩) hK hP [0, 1, 2, 3, 4, 5, 6, 7, 8, 9] rfl 0 3 rfl rfl rfl hl.1 rfl (Nat.le_of_ble_eq_true rfl) dX3_prune_12 ⟨Nat.le_of_ble_eq_true rfl, Nat.le_of_ble_eq_true rfl⟩ ?_
    refine lv_iconst (v := 1) hx hb dX3_prune_15 (by decide) ?_
    refine lv_icmp_le (tgt := 22) hx hb dX3_prune_16 (by decide) (fun c6 => ?_) (fun c6 => ?_)
    · have hf := oi_t c6 hf
      refine lv_aload_n hx hb dX3_prune_22 rfl (lv_at hl 0 rfl) ?_
      refine lv_iload_n hx hb dX3_prune_23 rfl (lv_at hl 1 rfl) ?_
      obtain ⟨g7, et8, hf⟩ := ob hf
      refine wr_callVv (As := [.int p1]) (rest := []) ⟨hx, hb, hml, hown, hts⟩ (mX3_goesOut l D k ma mi st rp tp cr cw ik ln lg ce p1 _ _ et8) (cwV 1 hts (lw_V q1252 q1254 qs85 q94 q1255) rfl rfl rfl ⟨rfl, hdX3_goesOut⟩ ⟨Nat.le_of_ble_eq_true rfl, Nat.le_of_ble_eq_true rfl⟩) hK hP hD hS hA [0, 1, 2, 3, 4, 5, 6, 7, 8, 9] [] (wM k ma mi g7 rp tp cr cw ik ln lg ce) rfl rfl fm_n 10 rfl (by decide) (by decide) [(ma 0), (ma 1), (ma 2), (ma 3), (ma 4), (ma 5), (ma 6), (ma 7), (ma 8), (ma 9)] rfl rfl 0 3 rfl rfl rfl hl.1 rfl (Nat.le_of_ble_eq_true rfl) dX3_prune_24 ⟨Nat.le_of_ble_eq_true rfl, Nat.le_of_ble_eq_true rfl⟩ (fun H locs hP hD hS => ?_)
      refine lv_aload_n hx hb dX3_prune_27 rfl (lv_at hl 0 rfl) ?_
      obtain ⟨v9, ev9, hf⟩ := ob hf
      refine rd_callV (As := []) (rest := []) ⟨hx, hb, hml, hown, hts⟩ (mX3_many l D k ma mi g7 rp tp cr cw ik ln lg ce  _ ev9) (cwV 0 hts (lw_V q1048 q1050 qs61 q94 q1051) rfl rfl rfl ⟨rfl, hdX3_many⟩ ⟨Nat.le_of_ble_eq_true rfl, Nat.le_of_ble_eq_true rfl⟩) hK hP [0, 1, 2, 3, 4, 5, 6, 7, 8, 9] rfl 0 3 rfl rfl rfl hl.1 rfl (Nat.le_of_ble_eq_true rfl) dX3_prune_28 ⟨Nat.le_of_ble_eq_true rfl, Nat.le_of_ble_eq_true rfl⟩ ?_
      obtain ⟨he1, he2⟩ := prod2 hf
      rw [he2] at hP
      exact wr_iret hx hb hr hlk he1 hP hS dX3_prune_31
    · have hf := oi_f c6 hf
      refine lv_bipush (v := (-2)) hx hb dX3_prune_19 (by decide) ?_
      obtain ⟨he1, he2⟩ := prod2 hf
      rw [he2] at hP
      exact wr_iret hx hb hr hlk he1 hP hS dX3_prune_21
  · have hf := oi_t c3 hf
    refine lv_iconst (v := (-1)) hx hb dX3_prune_8 (by decide) ?_
    obtain ⟨he1, he2⟩ := prod2 hf
    rw [he2] at hP
    exact wr_iret hx hb hr hlk he1 hP hS dX3_prune_9

abbrev rmX3_fell : Room := { frames := 2, cells := 0, slots := 0, locals := 46 }
theorem hdX3_fell : yX3_fell.cls ≠ "java/lang/invoke/MethodHandle" ∧ yX3_fell.cls ≠ "java/lang/invoke/VarHandle" ∧ (parseMethodDescriptor yX3_fell.desc).map (fun d => d.parameters.length) = some 1 := by decide +kernel
abbrev qcX3_fell (D : va_G) (k : Nat → ClassId) (ma : Nat → Nat) (mi : Nat → Int32) (st : Nat → Int32) (rp : Nat → Int32) (tp : Nat → Int32) (cr : Nat → Int32) (cw : Nat → Int32) (ik : Nat → Int32) (ln : Nat → Int32) (lg : Nat → Int32) (ce : Nat → Int64) (r : Int32) (A : Nat → Prop) : Array Value → State → Outcome → State → Prop := va_Qi (fun x (_ : Unit) => x = r) (fun _ t => va_P D vwCl (wM k ma mi st rp tp cr cw ik ln lg ce) t.heap) A
set_option maxHeartbeats 4000000 in
theorem mX3_fell (l : Launch) (D : va_G) (k : Nat → ClassId) (ma : Nat → Nat) (mi : Nat → Int32) (st : Nat → Int32) (rp : Nat → Int32) (tp : Nat → Int32) (cr : Nat → Int32) (cw : Nat → Int32) (ik : Nat → Int32) (ln : Nat → Int32) (lg : Nat → Int32) (ce : Nat → Int64) (p1 : Int32) (sz : Nat) (r : Int32) (st_o : Nat → Int32) (hf : fX3_fell st p1 = some (r, st_o)) : Met l yX3_fell (ws_ yX3_fell cX3_fell 4 (some .int)) rmX3_fell (wrP D k (wM k ma mi st rp tp cr cw ik ln lg ce) sz [.ref (ma 0), .int p1]) (qcX3_fell D k ma mi st_o rp tp cr cw ik ln lg ce r (va_A (wM k ma mi st rp tp cr cw ik ln lg ce) sz)) 0 0 (va_A (wM k ma mi st rp tp cr cw ik ln lg ce) sz) := by
  refine wr_start (Qc := fun A => qcX3_fell D k ma mi st_o rp tp cr cw ik ln lg ce r A) (by decide +kernel) (Nat.le_of_ble_eq_true rfl) ?_
  intro p e s m below meth c ls A hA hx hb hr hlk hml hown hts hP hK hD hl
  have hl : lv_has ls 4 [(0, .ref (ma 0)), (1, .int p1)] := hl
  have hown : s.vm.findClass RX3 = some m.cls := hown
  have hS : va_S A s.heap s.heap [] := va_S.rf
  suffices hw : ∀ (H : Heap) (locs : List Loc), va_P D vwCl (wM k ma mi st rp tp cr cw ik ln lg ce) H → va_S A s.heap H locs → gW p l e rmX3_fell s m [.ref (ma 0), .int p1] below meth c (qcX3_fell D k ma mi st_o rp tp cr cw ik ln lg ce r A) A 0 0 H locs 0 ls [] from hw s.heap [] hP hS
  clear hP hS
  intro H locs hP hS
  unfold fX3_fell at hf
  refine lv_aload_n hx hb dX3_fell_0 rfl (lv_at hl 0 rfl) ?_
  refine lv_iload_n hx hb dX3_fell_1 rfl (lv_at hl 1 rfl) ?_
  obtain ⟨v1, ev1, hf⟩ := ob hf
  refine rd_callVZ (As := [.int p1]) (rest := []) ⟨hx, hb, hml, hown, hts⟩ (mX3_isNode l D k ma mi st rp tp cr cw ik ln lg ce p1 _ ev1) (cwV 1 hts (lw_V q1107 q1109 qs65 q94 q1110) rfl rfl rfl ⟨rfl, hdX3_isNode⟩ ⟨Nat.le_of_ble_eq_true rfl, Nat.le_of_ble_eq_true rfl⟩) hK hP [0, 1, 2, 3, 4, 5, 6, 7, 8, 9] rfl 0 3 rfl rfl rfl hl.1 rfl (Nat.le_of_ble_eq_true rfl) dX3_fell_2 ⟨Nat.le_of_ble_eq_true rfl, Nat.le_of_ble_eq_true rfl⟩ (fun zv1 => ?_)
  refine lv_if_ne (tgt := 10) hx hb dX3_fell_5 (by decide) (fun c3 => ?_) (fun c3 => ?_)
  · have hf := oi_f c3 hf
    refine lv_aload_n hx hb dX3_fell_10 rfl (lv_at hl 0 rfl) ?_
    refine lv_iload_n hx hb dX3_fell_11 rfl (lv_at hl 1 rfl) ?_
    obtain ⟨v4, ev4, hf⟩ := ob hf
    refine rd_callV (As := [.int p1]) (rest := []) ⟨hx, hb, hml, hown, hts⟩ (mX3_sizeOf l D k ma mi st rp tp cr cw ik ln lg ce p1 _ ev4) (cwV 1 hts (lw_V q1131 q1133 qs71 q94 q1134) rfl rfl rfl ⟨rfl, hdX3_sizeOf⟩ ⟨Nat.le_of_ble_eq_true rfl, Nat.le_of_ble_eq_true rfl⟩) hK hP [0, 1, 2, 3, 4, 5, 6, 7, 8, 9] rfl 0 3 rfl rfl rfl hl.1 rfl (Nat.le_of_ble_eq_true rfl) dX3_fell_12 ⟨Nat.le_of_ble_eq_true rfl, Nat.le_of_ble_eq_true rfl⟩ ?_
    refine lv_istore_n (lv' := [(2, .int v4), (0, .ref (ma 0)), (1, .int p1)]) hx hb dX3_fell_15 rfl hl (by decide) rfl (fun ls hl => ?_)
    refine lv_iload_n hx hb dX3_fell_16 rfl (lv_at hl 0 rfl) ?_
    refine lv_iconst (v := 1) hx hb dX3_fell_17 (by decide) ?_
    refine lv_isub hx hb dX3_fell_18 ?_
    obtain ⟨y6, ey6, hf⟩ := ob hf
    refine x_asI ey6 ?_
    refine lv_istore_n (lv' := [(3, .int y6), (2, .int v4), (0, .ref (ma 0)), (1, .int p1)]) hx hb dX3_fell_19 rfl hl (by decide) rfl (fun ls hl => ?_)
    have hL20 : ∀ (nn : Nat) (st_20 : Nat → Int32) (x2_20 : Int32) (x3_20 : Int32), ∀ (H : Heap) (locs : List Loc), va_P D vwCl (wM k ma mi st_20 rp tp cr cw ik ln lg ce) H → va_D A (wM k ma mi st_20 rp tp cr cw ik ln lg ce) → va_S A s.heap H locs → fX3_fell_L20 p1 nn st_20 x2_20 x3_20 = some (r, st_o) → ∀ ls : Array Slot, lv_has ls 4 [(0, .ref (ma 0)), (1, .int p1), (2, .int x2_20), (3, .int x3_20)] → gW p l e rmX3_fell s m [.ref (ma 0), .int p1] below meth c (qcX3_fell D k ma mi st_o rp tp cr cw ik ln lg ce r A) A 0 0 H locs 20 ls [] := by
      intro nn20
      induction nn20 with
      | zero =>
        intro st_20 x2_20 x3_20 H locs hP hD hS hf
        rw [fX3_fell_L20] at hf; cases hf
      | succ nn20 ih20 =>
        intro st_20 x2_20 x3_20 H locs hP hD hS hf ls hl
        rw [fX3_fell_L20] at hf
        refine lv_iload_n hx hb dX3_fell_20 rfl (lv_at hl 3 rfl) ?_
        refine lv_if_lt (tgt := 37) hx hb dX3_fell_21 (by decide) (fun c7 => ?_) (fun c7 => ?_)
        · have hf := oi_t c7 hf
          refine lv_iload_n hx hb dX3_fell_37 rfl (lv_at hl 2 rfl) ?_
          obtain ⟨he1, he2⟩ := prod2 hf
          rw [he2] at hP
          exact wr_iret hx hb hr hlk he1 hP hS dX3_fell_38
        · have hf := oi_f c7 hf
          refine lv_aload_n hx hb dX3_fell_24 rfl (lv_at hl 0 rfl) ?_
          refine lv_iload_n hx hb dX3_fell_25 rfl (lv_at hl 1 rfl) ?_
          refine lv_iload_n hx hb dX3_fell_26 rfl (lv_at hl 3 rfl) ?_
          refine lv_iadd hx hb dX3_fell_27 ?_
          obtain ⟨g8, et9, hf⟩ := ob hf
          refine wr_callVv (As := [.int (p1 + x3_20)]) (rest := []) ⟨hx, hb, hml, hown, hts⟩ (mX3_goesOut l D k ma mi st_20 rp tp cr cw ik ln lg ce (p1 + x3_20) _ _ et9) (cwV 1 hts (lw_V q1252 q1254 qs85 q94 q1255) rfl rfl rfl ⟨rfl, hdX3_goesOut⟩ ⟨Nat.le_of_ble_eq_true rfl, Nat.le_of_ble_eq_true rfl⟩) hK hP hD hS hA [0, 1, 2, 3, 4, 5, 6, 7, 8, 9] [] (wM k ma mi g8 rp tp cr cw ik ln lg ce) rfl rfl fm_n 10 rfl (by decide) (by decide) [(ma 0), (ma 1), (ma 2), (ma 3), (ma 4), (ma 5), (ma 6), (ma 7), (ma 8), (ma 9)] rfl rfl 0 3 rfl rfl rfl hl.1 rfl (Nat.le_of_ble_eq_true rfl) dX3_fell_28 ⟨Nat.le_of_ble_eq_true rfl, Nat.le_of_ble_eq_true rfl⟩ (fun H locs hP hD hS => ?_)
          refine lv_iinc (v := (x3_20 + (-1))) (lv' := [(3, .int (x3_20 + (-1))), (0, .ref (ma 0)), (1, .int p1), (2, .int x2_20)]) hx hb dX3_fell_31 hl (k := 3) rfl rfl (by decide) rfl (fun ls hl => ?_)
          refine lv_goto (tgt := 20) hx hb dX3_fell_34 (by decide) ?_
          exact ih20 g8 x2_20 (x3_20 + (-1)) H locs hP hD hS hf ls (lv_sub hl [1, 2, 3, 0] rfl)
    exact hL20 FU st v4 y6 H locs hP hD hS hf ls (lv_sub hl [2, 3, 1, 0] rfl)
  · have hf := oi_t c3 hf
    refine lv_iconst (v := (-1)) hx hb dX3_fell_8 (by decide) ?_
    obtain ⟨he1, he2⟩ := prod2 hf
    rw [he2] at hP
    exact wr_iret hx hb hr hlk he1 hP hS dX3_fell_9

abbrev rmX3_wrap : Room := { frames := 4, cells := 0, slots := 0, locals := 92 }
theorem hdX3_wrap : yX3_wrap.cls ≠ "java/lang/invoke/MethodHandle" ∧ yX3_wrap.cls ≠ "java/lang/invoke/VarHandle" ∧ (parseMethodDescriptor yX3_wrap.desc).map (fun d => d.parameters.length) = some 4 := by decide +kernel
abbrev qcX3_wrap (D : va_G) (k : Nat → ClassId) (ma : Nat → Nat) (mi : Nat → Int32) (st : Nat → Int32) (rp : Nat → Int32) (tp : Nat → Int32) (cr : Nat → Int32) (cw : Nat → Int32) (ik : Nat → Int32) (ln : Nat → Int32) (lg : Nat → Int32) (ce : Nat → Int64) (r : Int32) (A : Nat → Prop) : Array Value → State → Outcome → State → Prop := va_Qi (fun x (_ : Unit) => x = r) (fun _ t => va_P D vwCl (wM k ma mi st rp tp cr cw ik ln lg ce) t.heap) A
set_option maxHeartbeats 4000000 in
theorem mX3_wrap (l : Launch) (D : va_G) (k : Nat → ClassId) (ma : Nat → Nat) (mi : Nat → Int32) (st : Nat → Int32) (rp : Nat → Int32) (tp : Nat → Int32) (cr : Nat → Int32) (cw : Nat → Int32) (ik : Nat → Int32) (ln : Nat → Int32) (lg : Nat → Int32) (ce : Nat → Int64) (p1 : Int32) (p2 : Int32) (p3 : Int32) (p4 : Int32) (sz : Nat) (r : Int32) (st_o : Nat → Int32) (hf : fX3_wrap st p1 p2 p3 p4 = some (r, st_o)) : Met l yX3_wrap (ws_ yX3_wrap cX3_wrap 6 (some .int)) rmX3_wrap (wrP D k (wM k ma mi st rp tp cr cw ik ln lg ce) sz [.ref (ma 0), .int p1, .int p2, .int p3, .int p4]) (qcX3_wrap D k ma mi st_o rp tp cr cw ik ln lg ce r (va_A (wM k ma mi st rp tp cr cw ik ln lg ce) sz)) 0 0 (va_A (wM k ma mi st rp tp cr cw ik ln lg ce) sz) := by
  refine wr_start (Qc := fun A => qcX3_wrap D k ma mi st_o rp tp cr cw ik ln lg ce r A) (by decide +kernel) (Nat.le_of_ble_eq_true rfl) ?_
  intro p e s m below meth c ls A hA hx hb hr hlk hml hown hts hP hK hD hl
  have hl : lv_has ls 6 [(0, .ref (ma 0)), (1, .int p1), (2, .int p2), (3, .int p3), (4, .int p4)] := hl
  have hown : s.vm.findClass RX3 = some m.cls := hown
  have hS : va_S A s.heap s.heap [] := va_S.rf
  suffices hw : ∀ (H : Heap) (locs : List Loc), va_P D vwCl (wM k ma mi st rp tp cr cw ik ln lg ce) H → va_S A s.heap H locs → gW p l e rmX3_wrap s m [.ref (ma 0), .int p1, .int p2, .int p3, .int p4] below meth c (qcX3_wrap D k ma mi st_o rp tp cr cw ik ln lg ce r A) A 0 0 H locs 0 ls [] from hw s.heap [] hP hS
  clear hP hS
  intro H locs hP hS
  unfold fX3_wrap at hf
  refine lv_aload_n hx hb dX3_wrap_0 rfl (lv_at hl 0 rfl) ?_
  refine lv_iload_n hx hb dX3_wrap_1 rfl (lv_at hl 1 rfl) ?_
  obtain ⟨v1, ev1, hf⟩ := ob hf
  refine rd_callVZ (As := [.int p1]) (rest := []) ⟨hx, hb, hml, hown, hts⟩ (mX3_isNode l D k ma mi st rp tp cr cw ik ln lg ce p1 _ ev1) (cwV 1 hts (lw_V q1107 q1109 qs65 q94 q1110) rfl rfl rfl ⟨rfl, hdX3_isNode⟩ ⟨Nat.le_of_ble_eq_true rfl, Nat.le_of_ble_eq_true rfl⟩) hK hP [0, 1, 2, 3, 4, 5, 6, 7, 8, 9] rfl 0 3 rfl rfl rfl hl.1 rfl (Nat.le_of_ble_eq_true rfl) dX3_wrap_2 ⟨Nat.le_of_ble_eq_true rfl, Nat.le_of_ble_eq_true rfl⟩ (fun zv1 => ?_)
  refine lv_if_eq (tgt := 36) hx hb dX3_wrap_5 (by decide) (fun c3 => ?_) (fun c3 => ?_)
  · have hf := oi_t c3 hf
    refine lv_iconst (v := (-1)) hx hb dX3_wrap_36 (by decide) ?_
    obtain ⟨he1, he2⟩ := prod2 hf
    rw [he2] at hP
    exact wr_iret hx hb hr hlk he1 hP hS dX3_wrap_37
  · have hf := oi_f c3 hf
    refine lv_iload_n hx hb dX3_wrap_8 rfl (lv_at hl 2 rfl) ?_
    refine lv_if_lt (tgt := 36) hx hb dX3_wrap_9 (by decide) (fun c4 => ?_) (fun c4 => ?_)
    · have hf := oi_t c4 hf
      refine lv_iconst (v := (-1)) hx hb dX3_wrap_36 (by decide) ?_
      obtain ⟨he1, he2⟩ := prod2 hf
      rw [he2] at hP
      exact wr_iret hx hb hr hlk he1 hP hS dX3_wrap_37
    · have hf := oi_f c4 hf
      refine lv_iload_n hx hb dX3_wrap_12 rfl (lv_at hl 3 rfl) ?_
      refine lv_if_lt (tgt := 36) hx hb dX3_wrap_13 (by decide) (fun c5 => ?_) (fun c5 => ?_)
      · have hf := oi_t c5 hf
        refine lv_iconst (v := (-1)) hx hb dX3_wrap_36 (by decide) ?_
        obtain ⟨he1, he2⟩ := prod2 hf
        rw [he2] at hP
        exact wr_iret hx hb hr hlk he1 hP hS dX3_wrap_37
      · have hf := oi_f c5 hf
        refine lv_iload_n hx hb dX3_wrap_16 rfl (lv_at hl 2 rfl) ?_
        refine lv_i2l hx hb dX3_wrap_17 rfl ?_
        refine lv_iload_n hx hb dX3_wrap_18 rfl (lv_at hl 3 rfl) ?_
        refine lv_i2l hx hb dX3_wrap_19 rfl ?_
        refine lv_ladd hx hb dX3_wrap_20 ?_
        refine lv_aload_n hx hb dX3_wrap_21 rfl (lv_at hl 0 rfl) ?_
        refine lv_iload_n hx hb dX3_wrap_22 rfl (lv_at hl 1 rfl) ?_
        obtain ⟨v6, ev6, hf⟩ := ob hf
        refine rd_callV (As := [.int p1]) (rest := [.long (((p2).toInt64) + ((p3).toInt64))]) ⟨hx, hb, hml, hown, hts⟩ (mX3_childrenOf l D k ma mi st rp tp cr cw ik ln lg ce p1 _ ev6) (cwV 1 hts (lw_V q1135 q1137 qs72 q94 q1138) rfl rfl rfl ⟨rfl, hdX3_childrenOf⟩ ⟨Nat.le_of_ble_eq_true rfl, Nat.le_of_ble_eq_true rfl⟩) hK hP [0, 1, 2, 3, 4, 5, 6, 7, 8, 9] rfl 0 3 rfl rfl rfl hl.1 rfl (Nat.le_of_ble_eq_true rfl) dX3_wrap_23 ⟨Nat.le_of_ble_eq_true rfl, Nat.le_of_ble_eq_true rfl⟩ ?_
        refine lv_i2l hx hb dX3_wrap_26 rfl ?_
        refine W.lcmp hx hb dX3_wrap_27 ?_
        refine lv_if_gt (tgt := 36) hx hb dX3_wrap_28 (by decide) (fun c8 => ?_) (fun c8 => ?_)
        · have hf := oi_t c8 hf
          refine lv_iconst (v := (-1)) hx hb dX3_wrap_36 (by decide) ?_
          obtain ⟨he1, he2⟩ := prod2 hf
          rw [he2] at hP
          exact wr_iret hx hb hr hlk he1 hP hS dX3_wrap_37
        · have hf := oi_f c8 hf
          refine lv_iload hx hb dX3_wrap_31 (lv_at hl 4 rfl) ?_
          refine lv_if_ge (tgt := 38) hx hb dX3_wrap_33 (by decide) (fun c9 => ?_) (fun c9 => ?_)
          · have hf := oi_t c9 hf
            refine lv_aload_n hx hb dX3_wrap_38 rfl (lv_at hl 0 rfl) ?_
            obtain ⟨v10, ev10, hf⟩ := ob hf
            refine rd_callV (As := []) (rest := []) ⟨hx, hb, hml, hown, hts⟩ (mX3_many l D k ma mi st rp tp cr cw ik ln lg ce  _ ev10) (cwV 0 hts (lw_V q1048 q1050 qs61 q94 q1051) rfl rfl rfl ⟨rfl, hdX3_many⟩ ⟨Nat.le_of_ble_eq_true rfl, Nat.le_of_ble_eq_true rfl⟩) hK hP [0, 1, 2, 3, 4, 5, 6, 7, 8, 9] rfl 0 3 rfl rfl rfl hl.1 rfl (Nat.le_of_ble_eq_true rfl) dX3_wrap_39 ⟨Nat.le_of_ble_eq_true rfl, Nat.le_of_ble_eq_true rfl⟩ ?_
            refine lv_bipush (v := 64) hx hb dX3_wrap_42 (by decide) ?_
            refine lv_icmp_ne (tgt := 50) hx hb dX3_wrap_44 (by decide) (fun c12 => ?_) (fun c12 => ?_)
            · have hf := oi_f c12 hf
              refine lv_aload_n hx hb dX3_wrap_50 rfl (lv_at hl 0 rfl) ?_
              refine lv_iload_n hx hb dX3_wrap_51 rfl (lv_at hl 1 rfl) ?_
              refine lv_iload_n hx hb dX3_wrap_52 rfl (lv_at hl 2 rfl) ?_
              obtain ⟨v13, ev13, hf⟩ := ob hf
              refine rd_callV (As := [.int p1, .int p2]) (rest := []) ⟨hx, hb, hml, hown, hts⟩ (mX3_edgeOf l D k ma mi st rp tp cr cw ik ln lg ce p1 p2 _ ev13) (cwV 2 hts (lw_V q1236 q1238 qs82 q94 q1239) rfl rfl rfl ⟨rfl, hdX3_edgeOf⟩ ⟨Nat.le_of_ble_eq_true rfl, Nat.le_of_ble_eq_true rfl⟩) hK hP [0, 1, 2, 3, 4, 5, 6, 7, 8, 9] rfl 0 3 rfl rfl rfl hl.1 rfl (Nat.le_of_ble_eq_true rfl) dX3_wrap_53 ⟨Nat.le_of_ble_eq_true rfl, Nat.le_of_ble_eq_true rfl⟩ ?_
              refine lv_istore (lv' := [(5, .int v13), (0, .ref (ma 0)), (1, .int p1), (2, .int p2), (3, .int p3), (4, .int p4)]) hx hb dX3_wrap_56 hl (by decide) rfl (fun ls hl => ?_)
              refine lv_aload_n hx hb dX3_wrap_58 rfl (lv_at hl 1 rfl) ?_
              refine lv_iload hx hb dX3_wrap_59 (lv_at hl 0 rfl) ?_
              refine lv_aload_n hx hb dX3_wrap_61 rfl (lv_at hl 1 rfl) ?_
              refine lv_iload_n hx hb dX3_wrap_62 rfl (lv_at hl 2 rfl) ?_
              refine lv_iload_n hx hb dX3_wrap_63 rfl (lv_at hl 3 rfl) ?_
              refine lv_iload_n hx hb dX3_wrap_64 rfl (lv_at hl 4 rfl) ?_
              refine lv_iadd hx hb dX3_wrap_65 ?_
              obtain ⟨v15, ev15, hf⟩ := ob hf
              refine rd_callV (As := [.int p1, .int (p2 + p3)]) (rest := [.int v13, .ref (ma 0)]) ⟨hx, hb, hml, hown, hts⟩ (mX3_edgeOf l D k ma mi st rp tp cr cw ik ln lg ce p1 (p2 + p3) _ ev15) (cwV 2 hts (lw_V q1236 q1238 qs82 q94 q1239) rfl rfl rfl ⟨rfl, hdX3_edgeOf⟩ ⟨Nat.le_of_ble_eq_true rfl, Nat.le_of_ble_eq_true rfl⟩) hK hP [0, 1, 2, 3, 4, 5, 6, 7, 8, 9] rfl 0 3 rfl rfl rfl hl.1 rfl (Nat.le_of_ble_eq_true rfl) dX3_wrap_66 ⟨Nat.le_of_ble_eq_true rfl, Nat.le_of_ble_eq_true rfl⟩ ?_
              refine lv_iload hx hb dX3_wrap_69 (lv_at hl 5 rfl) ?_
              obtain ⟨g17, et18, hf⟩ := ob hf
              refine wr_callVv (As := [.int v13, .int v15, .int p4]) (rest := []) ⟨hx, hb, hml, hown, hts⟩ (mX3_comesIn l D k ma mi st rp tp cr cw ik ln lg ce v13 v15 p4 _ _ et18) (cwV 3 hts (lw_V q1240 q1242 qs83 q94 q1243) rfl rfl rfl ⟨rfl, hdX3_comesIn⟩ ⟨Nat.le_of_ble_eq_true rfl, Nat.le_of_ble_eq_true rfl⟩) hK hP hD hS hA [0, 1, 2, 3, 4, 5, 6, 7, 8, 9] [] (wM k ma mi g17 rp tp cr cw ik ln lg ce) rfl rfl fm_n 10 rfl (by decide) (by decide) [(ma 0), (ma 1), (ma 2), (ma 3), (ma 4), (ma 5), (ma 6), (ma 7), (ma 8), (ma 9)] rfl rfl 0 3 rfl rfl rfl hl.1 rfl (Nat.le_of_ble_eq_true rfl) dX3_wrap_71 ⟨Nat.le_of_ble_eq_true rfl, Nat.le_of_ble_eq_true rfl⟩ (fun H locs hP hD hS => ?_)
              refine lv_aload_n hx hb dX3_wrap_74 rfl (lv_at hl 1 rfl) ?_
              refine lv_iload hx hb dX3_wrap_75 (lv_at hl 0 rfl) ?_
              obtain ⟨v19, ev19, hf⟩ := ob hf
              refine rd_callV (As := [.int v13]) (rest := []) ⟨hx, hb, hml, hown, hts⟩ (mX3_opensAt l D k ma mi g17 rp tp cr cw ik ln lg ce v13 _ ev19) (cwV 1 hts (lw_V q1159 q1161 qs78 q94 q1162) rfl rfl rfl ⟨rfl, hdX3_opensAt⟩ ⟨Nat.le_of_ble_eq_true rfl, Nat.le_of_ble_eq_true rfl⟩) hK hP [0, 1, 2, 3, 4, 5, 6, 7, 8, 9] rfl 0 3 rfl rfl rfl hl.1 rfl (Nat.le_of_ble_eq_true rfl) dX3_wrap_77 ⟨Nat.le_of_ble_eq_true rfl, Nat.le_of_ble_eq_true rfl⟩ ?_
              obtain ⟨he1, he2⟩ := prod2 hf
              rw [he2] at hP
              exact wr_iret hx hb hr hlk he1 hP hS dX3_wrap_80
            · have hf := oi_t c12 hf
              refine lv_bipush (v := (-3)) hx hb dX3_wrap_47 (by decide) ?_
              obtain ⟨he1, he2⟩ := prod2 hf
              rw [he2] at hP
              exact wr_iret hx hb hr hlk he1 hP hS dX3_wrap_49
          · have hf := oi_f c9 hf
            refine lv_iconst (v := (-1)) hx hb dX3_wrap_36 (by decide) ?_
            obtain ⟨he1, he2⟩ := prod2 hf
            rw [he2] at hP
            exact wr_iret hx hb hr hlk he1 hP hS dX3_wrap_37

abbrev rmX3_melt : Room := { frames := 3, cells := 0, slots := 0, locals := 68 }
theorem hdX3_melt : yX3_melt.cls ≠ "java/lang/invoke/MethodHandle" ∧ yX3_melt.cls ≠ "java/lang/invoke/VarHandle" ∧ (parseMethodDescriptor yX3_melt.desc).map (fun d => d.parameters.length) = some 1 := by decide +kernel
abbrev qcX3_melt (D : va_G) (k : Nat → ClassId) (ma : Nat → Nat) (mi : Nat → Int32) (st : Nat → Int32) (rp : Nat → Int32) (tp : Nat → Int32) (cr : Nat → Int32) (cw : Nat → Int32) (ik : Nat → Int32) (ln : Nat → Int32) (lg : Nat → Int32) (ce : Nat → Int64) (r : Int32) (A : Nat → Prop) : Array Value → State → Outcome → State → Prop := va_Qi (fun x (_ : Unit) => x = r) (fun _ t => va_P D vwCl (wM k ma mi st rp tp cr cw ik ln lg ce) t.heap) A
set_option maxHeartbeats 4000000 in
theorem mX3_melt (l : Launch) (D : va_G) (k : Nat → ClassId) (ma : Nat → Nat) (mi : Nat → Int32) (st : Nat → Int32) (rp : Nat → Int32) (tp : Nat → Int32) (cr : Nat → Int32) (cw : Nat → Int32) (ik : Nat → Int32) (ln : Nat → Int32) (lg : Nat → Int32) (ce : Nat → Int64) (p1 : Int32) (sz : Nat) (r : Int32) (st_o : Nat → Int32) (hf : fX3_melt st p1 = some (r, st_o)) : Met l yX3_melt (ws_ yX3_melt cX3_melt 2 (some .int)) rmX3_melt (wrP D k (wM k ma mi st rp tp cr cw ik ln lg ce) sz [.ref (ma 0), .int p1]) (qcX3_melt D k ma mi st_o rp tp cr cw ik ln lg ce r (va_A (wM k ma mi st rp tp cr cw ik ln lg ce) sz)) 0 0 (va_A (wM k ma mi st rp tp cr cw ik ln lg ce) sz) := by
  refine wr_start (Qc := fun A => qcX3_melt D k ma mi st_o rp tp cr cw ik ln lg ce r A) (by decide +kernel) (Nat.le_of_ble_eq_true rfl) ?_
  intro p e s m below meth c ls A hA hx hb hr hlk hml hown hts hP hK hD hl
  have hl : lv_has ls 2 [(0, .ref (ma 0)), (1, .int p1)] := hl
  have hown : s.vm.findClass RX3 = some m.cls := hown
  have hS : va_S A s.heap s.heap [] := va_S.rf
  suffices hw : ∀ (H : Heap) (locs : List Loc), va_P D vwCl (wM k ma mi st rp tp cr cw ik ln lg ce) H → va_S A s.heap H locs → gW p l e rmX3_melt s m [.ref (ma 0), .int p1] below meth c (qcX3_melt D k ma mi st_o rp tp cr cw ik ln lg ce r A) A 0 0 H locs 0 ls [] from hw s.heap [] hP hS
  clear hP hS
  intro H locs hP hS
  unfold fX3_melt at hf
  refine lv_aload_n hx hb dX3_melt_0 rfl (lv_at hl 0 rfl) ?_
  refine lv_iload_n hx hb dX3_melt_1 rfl (lv_at hl 1 rfl) ?_
  obtain ⟨v1, ev1, hf⟩ := ob hf
  refine rd_callVZ (As := [.int p1]) (rest := []) ⟨hx, hb, hml, hown, hts⟩ (mX3_isNode l D k ma mi st rp tp cr cw ik ln lg ce p1 _ ev1) (cwV 1 hts (lw_V q1107 q1109 qs65 q94 q1110) rfl rfl rfl ⟨rfl, hdX3_isNode⟩ ⟨Nat.le_of_ble_eq_true rfl, Nat.le_of_ble_eq_true rfl⟩) hK hP [0, 1, 2, 3, 4, 5, 6, 7, 8, 9] rfl 0 3 rfl rfl rfl hl.1 rfl (Nat.le_of_ble_eq_true rfl) dX3_melt_2 ⟨Nat.le_of_ble_eq_true rfl, Nat.le_of_ble_eq_true rfl⟩ (fun zv1 => ?_)
  refine lv_if_ne (tgt := 10) hx hb dX3_melt_5 (by decide) (fun c3 => ?_) (fun c3 => ?_)
  · have hf := oi_f c3 hf
    refine lv_iload_n hx hb dX3_melt_10 rfl (lv_at hl 1 rfl) ?_
    have hB26 : ∀ (st_26 : Nat → Int32), ∀ (H : Heap) (locs : List Loc), va_P D vwCl (wM k ma mi st_26 rp tp cr cw ik ln lg ce) H → va_D A (wM k ma mi st_26 rp tp cr cw ik ln lg ce) → va_S A s.heap H locs → fX3_melt_B26 p1 st_26 = some (r, st_o) → ∀ ls : Array Slot, lv_has ls 2 [(0, .ref (ma 0)), (1, .int p1)] → gW p l e rmX3_melt s m [.ref (ma 0), .int p1] below meth c (qcX3_melt D k ma mi st_o rp tp cr cw ik ln lg ce r A) A 0 0 H locs 26 ls [] := by
      intro st_26 H locs hP hD hS hf ls hl
      unfold fX3_melt_B26 at hf
      refine lv_aload_n hx hb dX3_melt_26 rfl (lv_at hl 0 rfl) ?_
      refine lv_iload_n hx hb dX3_melt_27 rfl (lv_at hl 1 rfl) ?_
      obtain ⟨g5, et6, hf⟩ := ob hf
      refine wr_callVv (As := [.int p1]) (rest := []) ⟨hx, hb, hml, hown, hts⟩ (mX3_goesOut l D k ma mi st_26 rp tp cr cw ik ln lg ce p1 _ _ et6) (cwV 1 hts (lw_V q1252 q1254 qs85 q94 q1255) rfl rfl rfl ⟨rfl, hdX3_goesOut⟩ ⟨Nat.le_of_ble_eq_true rfl, Nat.le_of_ble_eq_true rfl⟩) hK hP hD hS hA [0, 1, 2, 3, 4, 5, 6, 7, 8, 9] [] (wM k ma mi g5 rp tp cr cw ik ln lg ce) rfl rfl fm_n 10 rfl (by decide) (by decide) [(ma 0), (ma 1), (ma 2), (ma 3), (ma 4), (ma 5), (ma 6), (ma 7), (ma 8), (ma 9)] rfl rfl 0 3 rfl rfl rfl hl.1 rfl (Nat.le_of_ble_eq_true rfl) dX3_melt_28 ⟨Nat.le_of_ble_eq_true rfl, Nat.le_of_ble_eq_true rfl⟩ (fun H locs hP hD hS => ?_)
      refine lv_aload_n hx hb dX3_melt_31 rfl (lv_at hl 0 rfl) ?_
      obtain ⟨v7, ev7, hf⟩ := ob hf
      refine rd_callV (As := []) (rest := []) ⟨hx, hb, hml, hown, hts⟩ (mX3_many l D k ma mi g5 rp tp cr cw ik ln lg ce  _ ev7) (cwV 0 hts (lw_V q1048 q1050 qs61 q94 q1051) rfl rfl rfl ⟨rfl, hdX3_many⟩ ⟨Nat.le_of_ble_eq_true rfl, Nat.le_of_ble_eq_true rfl⟩) hK hP [0, 1, 2, 3, 4, 5, 6, 7, 8, 9] rfl 0 3 rfl rfl rfl hl.1 rfl (Nat.le_of_ble_eq_true rfl) dX3_melt_32 ⟨Nat.le_of_ble_eq_true rfl, Nat.le_of_ble_eq_true rfl⟩ ?_
      obtain ⟨he1, he2⟩ := prod2 hf
      rw [he2] at hP
      exact wr_iret hx hb hr hlk he1 hP hS dX3_melt_35
    refine lv_if_ne (tgt := 26) hx hb dX3_melt_11 (by decide) (fun c4 => ?_) (fun c4 => ?_)
    · have hf := oi_f c4 hf
      exact hB26 st H locs hP hD hS hf ls (lv_sub hl [0, 1] rfl)
    · have hf := oi_t c4 hf
      refine lv_aload_n hx hb dX3_melt_14 rfl (lv_at hl 0 rfl) ?_
      refine lv_iconst (v := 0) hx hb dX3_melt_15 (by decide) ?_
      obtain ⟨v9, ev9, hf⟩ := ob hf
      refine rd_callV (As := [.int (0 : Int32)]) (rest := []) ⟨hx, hb, hml, hown, hts⟩ (mX3_childrenOf l D k ma mi st rp tp cr cw ik ln lg ce (0 : Int32) _ ev9) (cwV 1 hts (lw_V q1135 q1137 qs72 q94 q1138) rfl rfl rfl ⟨rfl, hdX3_childrenOf⟩ ⟨Nat.le_of_ble_eq_true rfl, Nat.le_of_ble_eq_true rfl⟩) hK hP [0, 1, 2, 3, 4, 5, 6, 7, 8, 9] rfl 0 3 rfl rfl rfl hl.1 rfl (Nat.le_of_ble_eq_true rfl) dX3_melt_16 ⟨Nat.le_of_ble_eq_true rfl, Nat.le_of_ble_eq_true rfl⟩ ?_
      refine lv_iconst (v := 1) hx hb dX3_melt_19 (by decide) ?_
      refine lv_icmp_eq (tgt := 26) hx hb dX3_melt_20 (by decide) (fun c11 => ?_) (fun c11 => ?_)
      · have hf := oi_t c11 hf
        exact hB26 st H locs hP hD hS hf ls (lv_sub hl [0, 1] rfl)
      · have hf := oi_f c11 hf
        refine lv_bipush (v := (-2)) hx hb dX3_melt_23 (by decide) ?_
        obtain ⟨he1, he2⟩ := prod2 hf
        rw [he2] at hP
        exact wr_iret hx hb hr hlk he1 hP hS dX3_melt_25
  · have hf := oi_t c3 hf
    refine lv_iconst (v := (-1)) hx hb dX3_melt_8 (by decide) ?_
    obtain ⟨he1, he2⟩ := prod2 hf
    rw [he2] at hP
    exact wr_iret hx hb hr hlk he1 hP hS dX3_melt_9

abbrev rmX3_graft : Room := { frames := 4, cells := 0, slots := 0, locals := 92 }
theorem hdX3_graft : yX3_graft.cls ≠ "java/lang/invoke/MethodHandle" ∧ yX3_graft.cls ≠ "java/lang/invoke/VarHandle" ∧ (parseMethodDescriptor yX3_graft.desc).map (fun d => d.parameters.length) = some 3 := by decide +kernel
abbrev qcX3_graft (D : va_G) (k : Nat → ClassId) (ma : Nat → Nat) (mi : Nat → Int32) (st : Nat → Int32) (rp : Nat → Int32) (tp : Nat → Int32) (cr : Nat → Int32) (cw : Nat → Int32) (ik : Nat → Int32) (ln : Nat → Int32) (lg : Nat → Int32) (ce : Nat → Int64) (r : Int32) (A : Nat → Prop) : Array Value → State → Outcome → State → Prop := va_Qi (fun x (_ : Unit) => x = r) (fun _ t => va_P D vwCl (wM k ma mi st rp tp cr cw ik ln lg ce) t.heap) A
set_option maxHeartbeats 4000000 in
theorem mX3_graft (l : Launch) (D : va_G) (k : Nat → ClassId) (ma : Nat → Nat) (mi : Nat → Int32) (st : Nat → Int32) (rp : Nat → Int32) (tp : Nat → Int32) (cr : Nat → Int32) (cw : Nat → Int32) (ik : Nat → Int32) (ln : Nat → Int32) (lg : Nat → Int32) (ce : Nat → Int64) (p1 : Int32) (p2 : Int32) (p3 : Int32) (sz : Nat) (r : Int32) (st_o : Nat → Int32) (cr_o : Nat → Int32) (cw_o : Nat → Int32) (hf : fX3_graft st cr cw p1 p2 p3 = some (r, st_o, cr_o, cw_o)) : Met l yX3_graft (ws_ yX3_graft cX3_graft 10 (some .int)) rmX3_graft (wrP D k (wM k ma mi st rp tp cr cw ik ln lg ce) sz [.ref (ma 0), .int p1, .int p2, .int p3]) (qcX3_graft D k ma mi st_o rp tp cr_o cw_o ik ln lg ce r (va_A (wM k ma mi st rp tp cr cw ik ln lg ce) sz)) 0 0 (va_A (wM k ma mi st rp tp cr cw ik ln lg ce) sz) := by
  refine wr_start (Qc := fun A => qcX3_graft D k ma mi st_o rp tp cr_o cw_o ik ln lg ce r A) (by decide +kernel) (Nat.le_of_ble_eq_true rfl) ?_
  intro p e s m below meth c ls A hA hx hb hr hlk hml hown hts hP hK hD hl
  have hl : lv_has ls 10 [(0, .ref (ma 0)), (1, .int p1), (2, .int p2), (3, .int p3)] := hl
  have hown : s.vm.findClass RX3 = some m.cls := hown
  have hS : va_S A s.heap s.heap [] := va_S.rf
  suffices hw : ∀ (H : Heap) (locs : List Loc), va_P D vwCl (wM k ma mi st rp tp cr cw ik ln lg ce) H → va_S A s.heap H locs → gW p l e rmX3_graft s m [.ref (ma 0), .int p1, .int p2, .int p3] below meth c (qcX3_graft D k ma mi st_o rp tp cr_o cw_o ik ln lg ce r A) A 0 0 H locs 0 ls [] from hw s.heap [] hP hS
  clear hP hS
  intro H locs hP hS
  unfold fX3_graft at hf
  refine lv_aload_n hx hb dX3_graft_0 rfl (lv_at hl 0 rfl) ?_
  refine lv_iload_n hx hb dX3_graft_1 rfl (lv_at hl 1 rfl) ?_
  obtain ⟨v1, ev1, hf⟩ := ob hf
  refine rd_callVZ (As := [.int p1]) (rest := []) ⟨hx, hb, hml, hown, hts⟩ (mX3_isNode l D k ma mi st rp tp cr cw ik ln lg ce p1 _ ev1) (cwV 1 hts (lw_V q1107 q1109 qs65 q94 q1110) rfl rfl rfl ⟨rfl, hdX3_isNode⟩ ⟨Nat.le_of_ble_eq_true rfl, Nat.le_of_ble_eq_true rfl⟩) hK hP [0, 1, 2, 3, 4, 5, 6, 7, 8, 9] rfl 0 3 rfl rfl rfl hl.1 rfl (Nat.le_of_ble_eq_true rfl) dX3_graft_2 ⟨Nat.le_of_ble_eq_true rfl, Nat.le_of_ble_eq_true rfl⟩ (fun zv1 => ?_)
  refine lv_if_eq (tgt := 16) hx hb dX3_graft_5 (by decide) (fun c3 => ?_) (fun c3 => ?_)
  · have hf := oi_t c3 hf
    refine lv_iconst (v := (-1)) hx hb dX3_graft_16 (by decide) ?_
    obtain ⟨he1, he2, he3, he4⟩ := prod4 hf
    rw [he2] at hP
    rw [he3] at hP
    rw [he4] at hP
    exact wr_iret hx hb hr hlk he1 hP hS dX3_graft_17
  · have hf := oi_f c3 hf
    refine lv_aload_n hx hb dX3_graft_8 rfl (lv_at hl 0 rfl) ?_
    refine lv_iload_n hx hb dX3_graft_9 rfl (lv_at hl 2 rfl) ?_
    obtain ⟨v4, ev4, hf⟩ := ob hf
    refine rd_callVZ (As := [.int p2]) (rest := []) ⟨hx, hb, hml, hown, hts⟩ (mX3_isNode l D k ma mi st rp tp cr cw ik ln lg ce p2 _ ev4) (cwV 1 hts (lw_V q1107 q1109 qs65 q94 q1110) rfl rfl rfl ⟨rfl, hdX3_isNode⟩ ⟨Nat.le_of_ble_eq_true rfl, Nat.le_of_ble_eq_true rfl⟩) hK hP [0, 1, 2, 3, 4, 5, 6, 7, 8, 9] rfl 0 3 rfl rfl rfl hl.1 rfl (Nat.le_of_ble_eq_true rfl) dX3_graft_10 ⟨Nat.le_of_ble_eq_true rfl, Nat.le_of_ble_eq_true rfl⟩ (fun zv4 => ?_)
    refine lv_if_ne (tgt := 18) hx hb dX3_graft_13 (by decide) (fun c6 => ?_) (fun c6 => ?_)
    · have hf := oi_f c6 hf
      refine lv_iload_n hx hb dX3_graft_18 rfl (lv_at hl 1 rfl) ?_
      refine lv_if_eq (tgt := 31) hx hb dX3_graft_19 (by decide) (fun c7 => ?_) (fun c7 => ?_)
      · have hf := oi_t c7 hf
        refine lv_bipush (v := (-2)) hx hb dX3_graft_31 (by decide) ?_
        obtain ⟨he1, he2, he3, he4⟩ := prod4 hf
        rw [he2] at hP
        rw [he3] at hP
        rw [he4] at hP
        exact wr_iret hx hb hr hlk he1 hP hS dX3_graft_33
      · have hf := oi_f c7 hf
        refine lv_aload_n hx hb dX3_graft_22 rfl (lv_at hl 0 rfl) ?_
        refine lv_iload_n hx hb dX3_graft_23 rfl (lv_at hl 1 rfl) ?_
        refine lv_iload_n hx hb dX3_graft_24 rfl (lv_at hl 2 rfl) ?_
        obtain ⟨v8, ev8, hf⟩ := ob hf
        refine rd_callVZ (As := [.int p1, .int p2]) (rest := []) ⟨hx, hb, hml, hown, hts⟩ (mX3_isAbove l D k ma mi st rp tp cr cw ik ln lg ce p1 p2 _ ev8) (cwV 2 hts (lw_V q1183 q1185 qs80 q94 q1186) rfl rfl rfl ⟨rfl, hdX3_isAbove⟩ ⟨Nat.le_of_ble_eq_true rfl, Nat.le_of_ble_eq_true rfl⟩) hK hP [0, 1, 2, 3, 4, 5, 6, 7, 8, 9] rfl 0 3 rfl rfl rfl hl.1 rfl (Nat.le_of_ble_eq_true rfl) dX3_graft_25 ⟨Nat.le_of_ble_eq_true rfl, Nat.le_of_ble_eq_true rfl⟩ (fun zv8 => ?_)
        refine lv_if_eq (tgt := 34) hx hb dX3_graft_28 (by decide) (fun c10 => ?_) (fun c10 => ?_)
        · have hf := oi_t c10 hf
          refine lv_aload_n hx hb dX3_graft_34 rfl (lv_at hl 0 rfl) ?_
          refine lv_iload_n hx hb dX3_graft_35 rfl (lv_at hl 1 rfl) ?_
          obtain ⟨v11, ev11, hf⟩ := ob hf
          refine rd_callV (As := [.int p1]) (rest := []) ⟨hx, hb, hml, hown, hts⟩ (mX3_sizeOf l D k ma mi st rp tp cr cw ik ln lg ce p1 _ ev11) (cwV 1 hts (lw_V q1131 q1133 qs71 q94 q1134) rfl rfl rfl ⟨rfl, hdX3_sizeOf⟩ ⟨Nat.le_of_ble_eq_true rfl, Nat.le_of_ble_eq_true rfl⟩) hK hP [0, 1, 2, 3, 4, 5, 6, 7, 8, 9] rfl 0 3 rfl rfl rfl hl.1 rfl (Nat.le_of_ble_eq_true rfl) dX3_graft_36 ⟨Nat.le_of_ble_eq_true rfl, Nat.le_of_ble_eq_true rfl⟩ ?_
          refine lv_istore (lv' := [(4, .int v11), (0, .ref (ma 0)), (1, .int p1), (2, .int p2), (3, .int p3)]) hx hb dX3_graft_39 hl (by decide) rfl (fun ls hl => ?_)
          refine lv_aload_n hx hb dX3_graft_41 rfl (lv_at hl 1 rfl) ?_
          refine lv_iload_n hx hb dX3_graft_42 rfl (lv_at hl 3 rfl) ?_
          obtain ⟨v13, ev13, hf⟩ := ob hf
          refine rd_callV (As := [.int p2]) (rest := []) ⟨hx, hb, hml, hown, hts⟩ (mX3_childrenOf l D k ma mi st rp tp cr cw ik ln lg ce p2 _ ev13) (cwV 1 hts (lw_V q1135 q1137 qs72 q94 q1138) rfl rfl rfl ⟨rfl, hdX3_childrenOf⟩ ⟨Nat.le_of_ble_eq_true rfl, Nat.le_of_ble_eq_true rfl⟩) hK hP [0, 1, 2, 3, 4, 5, 6, 7, 8, 9] rfl 0 3 rfl rfl rfl hl.1 rfl (Nat.le_of_ble_eq_true rfl) dX3_graft_43 ⟨Nat.le_of_ble_eq_true rfl, Nat.le_of_ble_eq_true rfl⟩ ?_
          refine lv_aload_n hx hb dX3_graft_46 rfl (lv_at hl 1 rfl) ?_
          refine lv_iload_n hx hb dX3_graft_47 rfl (lv_at hl 2 rfl) ?_
          refine lv_iconst (v := 1) hx hb dX3_graft_48 (by decide) ?_
          obtain ⟨v15, ev15, hf⟩ := ob hf
          refine rd_callV (As := [.int p1, .int (1 : Int32)]) (rest := [.int v13]) ⟨hx, hb, hml, hown, hts⟩ (mX3_upFrom l D k ma mi st rp tp cr cw ik ln lg ce p1 (1 : Int32) _ ev15) (cwV 2 hts (lw_V q1119 q1121 qs68 q94 q1122) rfl rfl rfl ⟨rfl, hdX3_upFrom⟩ ⟨Nat.le_of_ble_eq_true rfl, Nat.le_of_ble_eq_true rfl⟩) hK hP [0, 1, 2, 3, 4, 5, 6, 7, 8, 9] rfl 0 3 rfl rfl rfl hl.1 rfl (Nat.le_of_ble_eq_true rfl) dX3_graft_49 ⟨Nat.le_of_ble_eq_true rfl, Nat.le_of_ble_eq_true rfl⟩ ?_
          refine lv_iload_n hx hb dX3_graft_52 rfl (lv_at hl 3 rfl) ?_
          have hB61 : ∀ (st_61 : Nat → Int32) (cr_61 : Nat → Int32) (cw_61 : Nat → Int32) (x4_61 : Int32) (s0_61 : Int32) (s1_61 : Int32), ∀ (H : Heap) (locs : List Loc), va_P D vwCl (wM k ma mi st_61 rp tp cr_61 cw_61 ik ln lg ce) H → va_D A (wM k ma mi st_61 rp tp cr_61 cw_61 ik ln lg ce) → va_S A s.heap H locs → fX3_graft_B61 p1 p2 p3 st_61 cr_61 cw_61 x4_61 s0_61 s1_61 = some (r, st_o, cr_o, cw_o) → ∀ ls : Array Slot, lv_has ls 10 [(0, .ref (ma 0)), (1, .int p1), (2, .int p2), (3, .int p3), (4, .int x4_61)] → gW p l e rmX3_graft s m [.ref (ma 0), .int p1, .int p2, .int p3] below meth c (qcX3_graft D k ma mi st_o rp tp cr_o cw_o ik ln lg ce r A) A 0 0 H locs 61 ls [.int s0_61, .int s1_61] := by
            intro st_61 cr_61 cw_61 x4_61 s0_61 s1_61 H locs hP hD hS hf ls hl
            unfold fX3_graft_B61 at hf
            refine lv_isub hx hb dX3_graft_61 ?_
            obtain ⟨y18, ey18, hf⟩ := ob hf
            refine x_asI ey18 ?_
            refine lv_istore (lv' := [(5, .int y18), (0, .ref (ma 0)), (1, .int p1), (2, .int p2), (3, .int p3), (4, .int x4_61)]) hx hb dX3_graft_62 hl (by decide) rfl (fun ls hl => ?_)
            refine lv_iload_n hx hb dX3_graft_64 rfl (lv_at hl 4 rfl) ?_
            refine lv_i2l hx hb dX3_graft_65 rfl ?_
            refine lv_lconst (v := 0) hx hb dX3_graft_66 (by decide) ?_
            refine lv_iload hx hb dX3_graft_67 (lv_at hl 0 rfl) ?_
            refine lv_i2l hx hb dX3_graft_69 rfl ?_
            obtain ⟨v19, ev19, hf⟩ := ob hf
            refine rd_callSZ (As := [.long ((p3).toInt64), .long (0 : Int64), .long ((y18).toInt64)]) (rest := []) ⟨hx, hb, hml, hown, hts⟩ (mX3_in l D k   ((p3).toInt64) (0 : Int64) ((y18).toInt64) _ ev19) (va_cwS 3 hts (lw_S q999 q1000 q94 q1001) rfl rfl rfl hdX3_in ⟨Nat.le_of_ble_eq_true rfl, Nat.le_of_ble_eq_true rfl⟩) hK rfl hl.1 rfl (Nat.le_of_ble_eq_true rfl) dX3_graft_70 ⟨Nat.le_of_ble_eq_true rfl, Nat.le_of_ble_eq_true rfl⟩ (fun zv19 => ?_)
            refine lv_if_ne (tgt := 78) hx hb dX3_graft_73 (by decide) (fun c21 => ?_) (fun c21 => ?_)
            · have hf := oi_f c21 hf
              refine lv_aload_n hx hb dX3_graft_78 rfl (lv_at hl 1 rfl) ?_
              refine lv_iload_n hx hb dX3_graft_79 rfl (lv_at hl 2 rfl) ?_
              obtain ⟨v22, ev22, hf⟩ := ob hf
              refine rd_callV (As := [.int p1]) (rest := []) ⟨hx, hb, hml, hown, hts⟩ (mX3_openOf l D k ma mi st_61 rp tp cr_61 cw_61 ik ln lg ce p1 _ ev22) (cwV 1 hts (lw_V q1115 q1117 qs67 q94 q1118) rfl rfl rfl ⟨rfl, hdX3_openOf⟩ ⟨Nat.le_of_ble_eq_true rfl, Nat.le_of_ble_eq_true rfl⟩) hK hP [0, 1, 2, 3, 4, 5, 6, 7, 8, 9] rfl 0 3 rfl rfl rfl hl.1 rfl (Nat.le_of_ble_eq_true rfl) dX3_graft_80 ⟨Nat.le_of_ble_eq_true rfl, Nat.le_of_ble_eq_true rfl⟩ ?_
              refine lv_istore (lv' := [(6, .int v22), (5, .int y18), (0, .ref (ma 0)), (1, .int p1), (2, .int p2), (3, .int p3), (4, .int x4_61)]) hx hb dX3_graft_83 hl (by decide) rfl (fun ls hl => ?_)
              refine lv_iconst (v := 0) hx hb dX3_graft_85 (by decide) ?_
              refine lv_istore (lv' := [(7, .int (0 : Int32)), (6, .int v22), (5, .int y18), (0, .ref (ma 0)), (1, .int p1), (2, .int p2), (3, .int p3), (4, .int x4_61)]) hx hb dX3_graft_86 hl (by decide) rfl (fun ls hl => ?_)
              have hL88 : ∀ (nn : Nat) (st_88 : Nat → Int32) (cr_88 : Nat → Int32) (cw_88 : Nat → Int32) (x4_88 : Int32) (x6_88 : Int32) (x7_88 : Int32), ∀ (H : Heap) (locs : List Loc), va_P D vwCl (wM k ma mi st_88 rp tp cr_88 cw_88 ik ln lg ce) H → va_D A (wM k ma mi st_88 rp tp cr_88 cw_88 ik ln lg ce) → va_S A s.heap H locs → fX3_graft_L88 p1 p2 p3 nn st_88 cr_88 cw_88 x4_88 x6_88 x7_88 = some (r, st_o, cr_o, cw_o) → ∀ ls : Array Slot, lv_has ls 10 [(0, .ref (ma 0)), (1, .int p1), (2, .int p2), (3, .int p3), (4, .int x4_88), (6, .int x6_88), (7, .int x7_88)] → gW p l e rmX3_graft s m [.ref (ma 0), .int p1, .int p2, .int p3] below meth c (qcX3_graft D k ma mi st_o rp tp cr_o cw_o ik ln lg ce r A) A 0 0 H locs 88 ls [] := by
                intro nn88
                induction nn88 with
                | zero =>
                  intro st_88 cr_88 cw_88 x4_88 x6_88 x7_88 H locs hP hD hS hf
                  rw [fX3_graft_L88] at hf; cases hf
                | succ nn88 ih88 =>
                  intro st_88 cr_88 cw_88 x4_88 x6_88 x7_88 H locs hP hD hS hf ls hl
                  rw [fX3_graft_L88] at hf
                  refine lv_iload hx hb dX3_graft_88 (lv_at hl 6 rfl) ?_
                  refine lv_iconst (v := 2) hx hb dX3_graft_90 (by decide) ?_
                  refine lv_iload hx hb dX3_graft_91 (lv_at hl 4 rfl) ?_
                  refine lv_imul hx hb dX3_graft_93 ?_
                  refine lv_icmp_ge (tgt := 120) hx hb dX3_graft_94 (by decide) (fun c24 => ?_) (fun c24 => ?_)
                  · have hf := oi_t c24 hf
                    refine lv_iconst (v := 0) hx hb dX3_graft_120 (by decide) ?_
                    refine lv_istore (lv' := [(7, .int (0 : Int32)), (0, .ref (ma 0)), (1, .int p1), (2, .int p2), (3, .int p3), (4, .int x4_88), (6, .int x6_88)]) hx hb dX3_graft_121 hl (by decide) rfl (fun ls hl => ?_)
                    have hL123 : ∀ (nn : Nat) (st_123 : Nat → Int32) (cr_123 : Nat → Int32) (cw_123 : Nat → Int32) (x4_123 : Int32) (x7_123 : Int32), ∀ (H : Heap) (locs : List Loc), va_P D vwCl (wM k ma mi st_123 rp tp cr_123 cw_123 ik ln lg ce) H → va_D A (wM k ma mi st_123 rp tp cr_123 cw_123 ik ln lg ce) → va_S A s.heap H locs → fX3_graft_L123 p1 p2 p3 nn st_123 cr_123 cw_123 x4_123 x7_123 = some (r, st_o, cr_o, cw_o) → ∀ ls : Array Slot, lv_has ls 10 [(0, .ref (ma 0)), (1, .int p1), (2, .int p2), (3, .int p3), (4, .int x4_123), (7, .int x7_123)] → gW p l e rmX3_graft s m [.ref (ma 0), .int p1, .int p2, .int p3] below meth c (qcX3_graft D k ma mi st_o rp tp cr_o cw_o ik ln lg ce r A) A 0 0 H locs 123 ls [] := by
                      intro nn123
                      induction nn123 with
                      | zero =>
                        intro st_123 cr_123 cw_123 x4_123 x7_123 H locs hP hD hS hf
                        rw [fX3_graft_L123] at hf; cases hf
                      | succ nn123 ih123 =>
                        intro st_123 cr_123 cw_123 x4_123 x7_123 H locs hP hD hS hf ls hl
                        rw [fX3_graft_L123] at hf
                        refine lv_iload hx hb dX3_graft_123 (lv_at hl 5 rfl) ?_
                        refine lv_iload hx hb dX3_graft_125 (lv_at hl 4 rfl) ?_
                        refine lv_icmp_ge (tgt := 156) hx hb dX3_graft_127 (by decide) (fun c25 => ?_) (fun c25 => ?_)
                        · have hf := oi_t c25 hf
                          refine lv_iload hx hb dX3_graft_156 (lv_at hl 4 rfl) ?_
                          refine lv_iconst (v := 1) hx hb dX3_graft_158 (by decide) ?_
                          refine lv_isub hx hb dX3_graft_159 ?_
                          obtain ⟨y26, ey26, hf⟩ := ob hf
                          refine x_asI ey26 ?_
                          refine lv_istore (lv' := [(7, .int y26), (0, .ref (ma 0)), (1, .int p1), (2, .int p2), (3, .int p3), (4, .int x4_123)]) hx hb dX3_graft_160 hl (by decide) rfl (fun ls hl => ?_)
                          have hL162 : ∀ (nn : Nat) (st_162 : Nat → Int32) (cr_162 : Nat → Int32) (cw_162 : Nat → Int32) (x4_162 : Int32) (x7_162 : Int32), ∀ (H : Heap) (locs : List Loc), va_P D vwCl (wM k ma mi st_162 rp tp cr_162 cw_162 ik ln lg ce) H → va_D A (wM k ma mi st_162 rp tp cr_162 cw_162 ik ln lg ce) → va_S A s.heap H locs → fX3_graft_L162 p1 p2 p3 nn st_162 cr_162 cw_162 x4_162 x7_162 = some (r, st_o, cr_o, cw_o) → ∀ ls : Array Slot, lv_has ls 10 [(0, .ref (ma 0)), (1, .int p1), (2, .int p2), (3, .int p3), (4, .int x4_162), (7, .int x7_162)] → gW p l e rmX3_graft s m [.ref (ma 0), .int p1, .int p2, .int p3] below meth c (qcX3_graft D k ma mi st_o rp tp cr_o cw_o ik ln lg ce r A) A 0 0 H locs 162 ls [] := by
                            intro nn162
                            induction nn162 with
                            | zero =>
                              intro st_162 cr_162 cw_162 x4_162 x7_162 H locs hP hD hS hf
                              rw [fX3_graft_L162] at hf; cases hf
                            | succ nn162 ih162 =>
                              intro st_162 cr_162 cw_162 x4_162 x7_162 H locs hP hD hS hf ls hl
                              rw [fX3_graft_L162] at hf
                              refine lv_iload hx hb dX3_graft_162 (lv_at hl 5 rfl) ?_
                              refine lv_if_lt (tgt := 181) hx hb dX3_graft_164 (by decide) (fun c27 => ?_) (fun c27 => ?_)
                              · have hf := oi_t c27 hf
                                refine lv_aload_n hx hb dX3_graft_181 rfl (lv_at hl 0 rfl) ?_
                                refine lv_iload_n hx hb dX3_graft_182 rfl (lv_at hl 2 rfl) ?_
                                refine lv_iload_n hx hb dX3_graft_183 rfl (lv_at hl 1 rfl) ?_
                                have hB195 : ∀ (st_195 : Nat → Int32) (cr_195 : Nat → Int32) (cw_195 : Nat → Int32) (x4_195 : Int32) (s0_195 : Int32), ∀ (H : Heap) (locs : List Loc), va_P D vwCl (wM k ma mi st_195 rp tp cr_195 cw_195 ik ln lg ce) H → va_D A (wM k ma mi st_195 rp tp cr_195 cw_195 ik ln lg ce) → va_S A s.heap H locs → fX3_graft_B195 p1 p2 p3 st_195 cr_195 cw_195 x4_195 s0_195 = some (r, st_o, cr_o, cw_o) → ∀ ls : Array Slot, lv_has ls 10 [(0, .ref (ma 0)), (3, .int p3), (4, .int x4_195)] → gW p l e rmX3_graft s m [.ref (ma 0), .int p1, .int p2, .int p3] below meth c (qcX3_graft D k ma mi st_o rp tp cr_o cw_o ik ln lg ce r A) A 0 0 H locs 195 ls [.int s0_195, .ref (ma 0)] := by
                                  intro st_195 cr_195 cw_195 x4_195 s0_195 H locs hP hD hS hf ls hl
                                  unfold fX3_graft_B195 at hf
                                  refine lv_iload_n hx hb dX3_graft_195 rfl (lv_at hl 1 rfl) ?_
                                  obtain ⟨v29, ev29, hf⟩ := ob hf
                                  refine rd_callV (As := [.int s0_195, .int p3]) (rest := []) ⟨hx, hb, hml, hown, hts⟩ (mX3_edgeOf l D k ma mi st_195 rp tp cr_195 cw_195 ik ln lg ce s0_195 p3 _ ev29) (cwV 2 hts (lw_V q1236 q1238 qs82 q94 q1239) rfl rfl rfl ⟨rfl, hdX3_edgeOf⟩ ⟨Nat.le_of_ble_eq_true rfl, Nat.le_of_ble_eq_true rfl⟩) hK hP [0, 1, 2, 3, 4, 5, 6, 7, 8, 9] rfl 0 3 rfl rfl rfl hl.1 rfl (Nat.le_of_ble_eq_true rfl) dX3_graft_196 ⟨Nat.le_of_ble_eq_true rfl, Nat.le_of_ble_eq_true rfl⟩ ?_
                                  refine lv_istore (lv' := [(7, .int v29), (0, .ref (ma 0)), (3, .int p3), (4, .int x4_195)]) hx hb dX3_graft_199 hl (by decide) rfl (fun ls hl => ?_)
                                  refine lv_aload_n hx hb dX3_graft_201 rfl (lv_at hl 1 rfl) ?_
                                  refine lv_iload hx hb dX3_graft_202 (lv_at hl 0 rfl) ?_
                                  obtain ⟨v31, ev31, hf⟩ := ob hf
                                  refine rd_callV (As := [.int v29]) (rest := []) ⟨hx, hb, hml, hown, hts⟩ (mX3_opensAt l D k ma mi st_195 rp tp cr_195 cw_195 ik ln lg ce v29 _ ev31) (cwV 1 hts (lw_V q1159 q1161 qs78 q94 q1162) rfl rfl rfl ⟨rfl, hdX3_opensAt⟩ ⟨Nat.le_of_ble_eq_true rfl, Nat.le_of_ble_eq_true rfl⟩) hK hP [0, 1, 2, 3, 4, 5, 6, 7, 8, 9] rfl 0 3 rfl rfl rfl hl.1 rfl (Nat.le_of_ble_eq_true rfl) dX3_graft_204 ⟨Nat.le_of_ble_eq_true rfl, Nat.le_of_ble_eq_true rfl⟩ ?_
                                  refine lv_istore (lv' := [(8, .int v31), (7, .int v29), (0, .ref (ma 0)), (3, .int p3), (4, .int x4_195)]) hx hb dX3_graft_207 hl (by decide) rfl (fun ls hl => ?_)
                                  refine lv_iconst (v := 0) hx hb dX3_graft_209 (by decide) ?_
                                  refine lv_istore (lv' := [(9, .int (0 : Int32)), (8, .int v31), (7, .int v29), (0, .ref (ma 0)), (3, .int p3), (4, .int x4_195)]) hx hb dX3_graft_210 hl (by decide) rfl (fun ls hl => ?_)
                                  have hL212 : ∀ (nn : Nat) (st_212 : Nat → Int32) (cr_212 : Nat → Int32) (cw_212 : Nat → Int32) (x4_212 : Int32) (x7_212 : Int32) (x8_212 : Int32) (x9_212 : Int32), ∀ (H : Heap) (locs : List Loc), va_P D vwCl (wM k ma mi st_212 rp tp cr_212 cw_212 ik ln lg ce) H → va_D A (wM k ma mi st_212 rp tp cr_212 cw_212 ik ln lg ce) → va_S A s.heap H locs → fX3_graft_L212 p1 p2 p3 nn st_212 cr_212 cw_212 x4_212 x7_212 x8_212 x9_212 = some (r, st_o, cr_o, cw_o) → ∀ ls : Array Slot, lv_has ls 10 [(0, .ref (ma 0)), (4, .int x4_212), (7, .int x7_212), (8, .int x8_212), (9, .int x9_212)] → gW p l e rmX3_graft s m [.ref (ma 0), .int p1, .int p2, .int p3] below meth c (qcX3_graft D k ma mi st_o rp tp cr_o cw_o ik ln lg ce r A) A 0 0 H locs 212 ls [] := by
                                    intro nn212
                                    induction nn212 with
                                    | zero =>
                                      intro st_212 cr_212 cw_212 x4_212 x7_212 x8_212 x9_212 H locs hP hD hS hf
                                      rw [fX3_graft_L212] at hf; cases hf
                                    | succ nn212 ih212 =>
                                      intro st_212 cr_212 cw_212 x4_212 x7_212 x8_212 x9_212 H locs hP hD hS hf ls hl
                                      rw [fX3_graft_L212] at hf
                                      refine lv_iload hx hb dX3_graft_212 (lv_at hl 4 rfl) ?_
                                      refine lv_iconst (v := 2) hx hb dX3_graft_214 (by decide) ?_
                                      refine lv_iload hx hb dX3_graft_215 (lv_at hl 1 rfl) ?_
                                      refine lv_imul hx hb dX3_graft_217 ?_
                                      refine lv_icmp_ge (tgt := 243) hx hb dX3_graft_218 (by decide) (fun c33 => ?_) (fun c33 => ?_)
                                      · have hf := oi_t c33 hf
                                        refine lv_bipush (v := 63) hx hb dX3_graft_243 (by decide) ?_
                                        refine lv_istore (lv' := [(9, .int (63 : Int32)), (0, .ref (ma 0)), (4, .int x4_212), (7, .int x7_212), (8, .int x8_212)]) hx hb dX3_graft_245 hl (by decide) rfl (fun ls hl => ?_)
                                        have hL247 : ∀ (nn : Nat) (st_247 : Nat → Int32) (cr_247 : Nat → Int32) (cw_247 : Nat → Int32) (x4_247 : Int32) (x8_247 : Int32) (x9_247 : Int32), ∀ (H : Heap) (locs : List Loc), va_P D vwCl (wM k ma mi st_247 rp tp cr_247 cw_247 ik ln lg ce) H → va_D A (wM k ma mi st_247 rp tp cr_247 cw_247 ik ln lg ce) → va_S A s.heap H locs → fX3_graft_L247 p1 p2 p3 nn st_247 cr_247 cw_247 x4_247 x8_247 x9_247 = some (r, st_o, cr_o, cw_o) → ∀ ls : Array Slot, lv_has ls 10 [(0, .ref (ma 0)), (4, .int x4_247), (8, .int x8_247), (9, .int x9_247)] → gW p l e rmX3_graft s m [.ref (ma 0), .int p1, .int p2, .int p3] below meth c (qcX3_graft D k ma mi st_o rp tp cr_o cw_o ik ln lg ce r A) A 0 0 H locs 247 ls [] := by
                                          intro nn247
                                          induction nn247 with
                                          | zero =>
                                            intro st_247 cr_247 cw_247 x4_247 x8_247 x9_247 H locs hP hD hS hf
                                            rw [fX3_graft_L247] at hf; cases hf
                                          | succ nn247 ih247 =>
                                            intro st_247 cr_247 cw_247 x4_247 x8_247 x9_247 H locs hP hD hS hf ls hl
                                            rw [fX3_graft_L247] at hf
                                            refine lv_iload hx hb dX3_graft_247 (lv_at hl 3 rfl) ?_
                                            refine lv_iload hx hb dX3_graft_249 (lv_at hl 2 rfl) ?_
                                            refine lv_iload hx hb dX3_graft_251 (lv_at hl 1 rfl) ?_
                                            refine lv_iadd hx hb dX3_graft_253 ?_
                                            refine lv_icmp_lt (tgt := 288) hx hb dX3_graft_254 (by decide) (fun c34 => ?_) (fun c34 => ?_)
                                            · have hf := oi_t c34 hf
                                              refine lv_iconst (v := 0) hx hb dX3_graft_288 (by decide) ?_
                                              refine lv_istore (lv' := [(9, .int (0 : Int32)), (0, .ref (ma 0)), (4, .int x4_247), (8, .int x8_247)]) hx hb dX3_graft_289 hl (by decide) rfl (fun ls hl => ?_)
                                              have hL291 : ∀ (nn : Nat) (st_291 : Nat → Int32) (cr_291 : Nat → Int32) (cw_291 : Nat → Int32) (x4_291 : Int32) (x8_291 : Int32) (x9_291 : Int32), ∀ (H : Heap) (locs : List Loc), va_P D vwCl (wM k ma mi st_291 rp tp cr_291 cw_291 ik ln lg ce) H → va_D A (wM k ma mi st_291 rp tp cr_291 cw_291 ik ln lg ce) → va_S A s.heap H locs → fX3_graft_L291 p1 p2 p3 nn st_291 cr_291 cw_291 x4_291 x8_291 x9_291 = some (r, st_o, cr_o, cw_o) → ∀ ls : Array Slot, lv_has ls 10 [(0, .ref (ma 0)), (4, .int x4_291), (8, .int x8_291), (9, .int x9_291)] → gW p l e rmX3_graft s m [.ref (ma 0), .int p1, .int p2, .int p3] below meth c (qcX3_graft D k ma mi st_o rp tp cr_o cw_o ik ln lg ce r A) A 0 0 H locs 291 ls [] := by
                                                intro nn291
                                                induction nn291 with
                                                | zero =>
                                                  intro st_291 cr_291 cw_291 x4_291 x8_291 x9_291 H locs hP hD hS hf
                                                  rw [fX3_graft_L291] at hf; cases hf
                                                | succ nn291 ih291 =>
                                                  intro st_291 cr_291 cw_291 x4_291 x8_291 x9_291 H locs hP hD hS hf ls hl
                                                  rw [fX3_graft_L291] at hf
                                                  refine lv_iload hx hb dX3_graft_291 (lv_at hl 3 rfl) ?_
                                                  refine lv_iload hx hb dX3_graft_293 (lv_at hl 1 rfl) ?_
                                                  refine lv_icmp_ge (tgt := 325) hx hb dX3_graft_295 (by decide) (fun c35 => ?_) (fun c35 => ?_)
                                                  · have hf := oi_t c35 hf
                                                    refine lv_aload_n hx hb dX3_graft_325 rfl (lv_at hl 0 rfl) ?_
                                                    refine va_get (D := D) (cl := vwCl) (ci := 3) (v := .ref (ma 1)) (C := RX3) (T := TX3) (N := 18) hx hb hts in_X3 hown hK.1 hP 0 rfl rfl 0 (by decide) (hts _ q938) (fun _ h9 => h9) rfl dX3_graft_326 ?_
                                                    refine lv_sipush (v := 192) hx hb dX3_graft_329 (by decide) ?_
                                                    refine lv_dup2_11 hx hb dX3_graft_332 rfl rfl ?_
                                                    obtain ⟨v36, ev36, hf⟩ := ob hf
                                                    refine x_iald hx hb hK hP 1 1 ev36 rfl rfl dX3_graft_333 ?_
                                                    refine lv_iload hx hb dX3_graft_334 (lv_at hl 1 rfl) ?_
                                                    refine lv_iadd hx hb dX3_graft_336 ?_
                                                    obtain ⟨u37, eu37, hf⟩ := ob hf
                                                    refine x_iast hx hb hK hP hD hS 1 1 eu37 rfl rfl (wM k ma mi u37 rp tp cr_291 cw_291 ik ln lg ce) rfl dX3_graft_337 (fun H locs hP hD hS => ?_)
                                                    refine lv_iload hx hb dX3_graft_338 (lv_at hl 2 rfl) ?_
                                                    obtain ⟨he1, he2, he3, he4⟩ := prod4 hf
                                                    rw [he2] at hP
                                                    rw [he3] at hP
                                                    rw [he4] at hP
                                                    exact wr_iret hx hb hr hlk he1 hP hS dX3_graft_340
                                                  · have hf := oi_f c35 hf
                                                    refine lv_aload_n hx hb dX3_graft_298 rfl (lv_at hl 0 rfl) ?_
                                                    refine va_get (D := D) (cl := vwCl) (ci := 3) (v := .ref (ma 1)) (C := RX3) (T := TX3) (N := 18) hx hb hts in_X3 hown hK.1 hP 0 rfl rfl 0 (by decide) (hts _ q938) (fun _ h9 => h9) rfl dX3_graft_299 ?_
                                                    refine lv_sipush (v := 128) hx hb dX3_graft_302 (by decide) ?_
                                                    refine lv_iload hx hb dX3_graft_305 (lv_at hl 2 rfl) ?_
                                                    refine lv_iadd hx hb dX3_graft_307 ?_
                                                    refine lv_iload hx hb dX3_graft_308 (lv_at hl 3 rfl) ?_
                                                    refine lv_iadd hx hb dX3_graft_310 ?_
                                                    refine lv_aload_n hx hb dX3_graft_311 rfl (lv_at hl 0 rfl) ?_
                                                    refine va_get (D := D) (cl := vwCl) (ci := 3) (v := .ref (ma 5)) (C := RX3) (T := TX3) (N := 18) hx hb hts in_X3 hown hK.1 hP 0 rfl rfl 12 (by decide) (hts _ q950) (fun _ h9 => h9) rfl dX3_graft_312 ?_
                                                    refine lv_iload hx hb dX3_graft_315 (lv_at hl 3 rfl) ?_
                                                    obtain ⟨v38, ev38, hf⟩ := ob hf
                                                    refine x_iald hx hb hK hP 5 1 ev38 rfl rfl dX3_graft_317 ?_
                                                    obtain ⟨u39, eu39, hf⟩ := ob hf
                                                    refine x_iast hx hb hK hP hD hS 1 1 eu39 rfl rfl (wM k ma mi u39 rp tp cr_291 cw_291 ik ln lg ce) rfl dX3_graft_318 (fun H locs hP hD hS => ?_)
                                                    refine lv_iinc (v := (x9_291 + 1)) (lv' := [(9, .int (x9_291 + 1)), (0, .ref (ma 0)), (4, .int x4_291), (8, .int x8_291)]) hx hb dX3_graft_319 hl (k := 3) rfl rfl (by decide) rfl (fun ls hl => ?_)
                                                    refine lv_goto (tgt := 291) hx hb dX3_graft_322 (by decide) ?_
                                                    exact ih291 u39 cr_291 cw_291 x4_291 x8_291 (x9_291 + 1) H locs hP hD hS hf ls (lv_sub hl [1, 2, 3, 0] rfl)
                                              exact hL291 FU st_247 cr_247 cw_247 x4_247 x8_247 (0 : Int32) H locs hP hD hS hf ls (lv_sub hl [1, 2, 3, 0] rfl)
                                            · have hf := oi_f c34 hf
                                              refine lv_aload_n hx hb dX3_graft_257 rfl (lv_at hl 0 rfl) ?_
                                              refine va_get (D := D) (cl := vwCl) (ci := 3) (v := .ref (ma 1)) (C := RX3) (T := TX3) (N := 18) hx hb hts in_X3 hown hK.1 hP 0 rfl rfl 0 (by decide) (hts _ q938) (fun _ h9 => h9) rfl dX3_graft_258 ?_
                                              refine lv_sipush (v := 128) hx hb dX3_graft_261 (by decide) ?_
                                              refine lv_iload hx hb dX3_graft_264 (lv_at hl 3 rfl) ?_
                                              refine lv_iadd hx hb dX3_graft_266 ?_
                                              refine lv_aload_n hx hb dX3_graft_267 rfl (lv_at hl 0 rfl) ?_
                                              refine va_get (D := D) (cl := vwCl) (ci := 3) (v := .ref (ma 1)) (C := RX3) (T := TX3) (N := 18) hx hb hts in_X3 hown hK.1 hP 0 rfl rfl 0 (by decide) (hts _ q938) (fun _ h9 => h9) rfl dX3_graft_268 ?_
                                              refine lv_sipush (v := 128) hx hb dX3_graft_271 (by decide) ?_
                                              refine lv_iload hx hb dX3_graft_274 (lv_at hl 3 rfl) ?_
                                              refine lv_iadd hx hb dX3_graft_276 ?_
                                              refine lv_iload hx hb dX3_graft_277 (lv_at hl 1 rfl) ?_
                                              refine lv_isub hx hb dX3_graft_279 ?_
                                              obtain ⟨v40, ev40, hf⟩ := ob hf
                                              refine x_iald hx hb hK hP 1 1 ev40 rfl rfl dX3_graft_280 ?_
                                              obtain ⟨u41, eu41, hf⟩ := ob hf
                                              refine x_iast hx hb hK hP hD hS 1 1 eu41 rfl rfl (wM k ma mi u41 rp tp cr_247 cw_247 ik ln lg ce) rfl dX3_graft_281 (fun H locs hP hD hS => ?_)
                                              refine lv_iinc (v := (x9_247 + (-1))) (lv' := [(9, .int (x9_247 + (-1))), (0, .ref (ma 0)), (4, .int x4_247), (8, .int x8_247)]) hx hb dX3_graft_282 hl (k := 3) rfl rfl (by decide) rfl (fun ls hl => ?_)
                                              refine lv_goto (tgt := 247) hx hb dX3_graft_285 (by decide) ?_
                                              exact ih247 u41 cr_247 cw_247 x4_247 x8_247 (x9_247 + (-1)) H locs hP hD hS hf ls (lv_sub hl [1, 2, 3, 0] rfl)
                                        exact hL247 FU st_212 cr_212 cw_212 x4_212 x8_212 (63 : Int32) H locs hP hD hS hf ls (lv_sub hl [1, 2, 4, 0] rfl)
                                      · have hf := oi_f c33 hf
                                        refine lv_aload_n hx hb dX3_graft_221 rfl (lv_at hl 0 rfl) ?_
                                        refine lv_iload hx hb dX3_graft_222 (lv_at hl 2 rfl) ?_
                                        refine lv_iload hx hb dX3_graft_224 (lv_at hl 4 rfl) ?_
                                        refine lv_iadd hx hb dX3_graft_226 ?_
                                        refine lv_aload_n hx hb dX3_graft_227 rfl (lv_at hl 0 rfl) ?_
                                        refine va_get (D := D) (cl := vwCl) (ci := 3) (v := .ref (ma 4)) (C := RX3) (T := TX3) (N := 18) hx hb hts in_X3 hown hK.1 hP 0 rfl rfl 11 (by decide) (hts _ q949) (fun _ h9 => h9) rfl dX3_graft_228 ?_
                                        refine lv_iload hx hb dX3_graft_231 (lv_at hl 4 rfl) ?_
                                        obtain ⟨v42, ev42, hf⟩ := ob hf
                                        refine x_iald hx hb hK hP 4 1 ev42 rfl rfl dX3_graft_233 ?_
                                        obtain ⟨g43, et44, hf⟩ := ob hf
                                        refine wr_callVv (As := [.int (x7_212 + x9_212), .int v42]) (rest := []) ⟨hx, hb, hml, hown, hts⟩ (mX3_opensPlace l D k ma mi st_212 rp tp cr_212 cw_212 ik ln lg ce (x7_212 + x9_212) v42 _ _ et44) (cwV 2 hts (lw_V q1244 q1246 qs84 q94 q1247) rfl rfl rfl ⟨rfl, hdX3_opensPlace⟩ ⟨Nat.le_of_ble_eq_true rfl, Nat.le_of_ble_eq_true rfl⟩) hK hP hD hS hA [0, 1, 2, 3, 4, 5, 6, 7, 8, 9] [] (wM k ma mi g43 rp tp cr_212 cw_212 ik ln lg ce) rfl rfl fm_n 10 rfl (by decide) (by decide) [(ma 0), (ma 1), (ma 2), (ma 3), (ma 4), (ma 5), (ma 6), (ma 7), (ma 8), (ma 9)] rfl rfl 0 3 rfl rfl rfl hl.1 rfl (Nat.le_of_ble_eq_true rfl) dX3_graft_234 ⟨Nat.le_of_ble_eq_true rfl, Nat.le_of_ble_eq_true rfl⟩ (fun H locs hP hD hS => ?_)
                                        refine lv_iinc (v := (x9_212 + 1)) (lv' := [(9, .int (x9_212 + 1)), (0, .ref (ma 0)), (4, .int x4_212), (7, .int x7_212), (8, .int x8_212)]) hx hb dX3_graft_237 hl (k := 4) rfl rfl (by decide) rfl (fun ls hl => ?_)
                                        refine lv_goto (tgt := 212) hx hb dX3_graft_240 (by decide) ?_
                                        exact ih212 g43 cr_212 cw_212 x4_212 x7_212 x8_212 (x9_212 + 1) H locs hP hD hS hf ls (lv_sub hl [1, 2, 3, 4, 0] rfl)
                                  exact hL212 FU st_195 cr_195 cw_195 x4_195 v29 v31 (0 : Int32) H locs hP hD hS hf ls (lv_sub hl [3, 5, 2, 1, 0] rfl)
                                refine lv_icmp_le (tgt := 194) hx hb dX3_graft_184 (by decide) (fun c28 => ?_) (fun c28 => ?_)
                                · have hf := oi_t c28 hf
                                  refine lv_iload_n hx hb dX3_graft_194 rfl (lv_at hl 2 rfl) ?_
                                  exact hB195 st_162 cr_162 cw_162 x4_162 p2 H locs hP hD hS hf ls (lv_sub hl [0, 3, 4] rfl)
                                · have hf := oi_f c28 hf
                                  refine lv_iload_n hx hb dX3_graft_187 rfl (lv_at hl 2 rfl) ?_
                                  refine lv_iload hx hb dX3_graft_188 (lv_at hl 4 rfl) ?_
                                  refine lv_isub hx hb dX3_graft_190 ?_
                                  refine lv_goto (tgt := 195) hx hb dX3_graft_191 (by decide) ?_
                                  exact hB195 st_162 cr_162 cw_162 x4_162 (p2 - x4_162) H locs hP hD hS hf ls (lv_sub hl [0, 3, 4] rfl)
                              · have hf := oi_f c27 hf
                                refine lv_aload_n hx hb dX3_graft_167 rfl (lv_at hl 0 rfl) ?_
                                refine lv_iload_n hx hb dX3_graft_168 rfl (lv_at hl 1 rfl) ?_
                                refine lv_iload hx hb dX3_graft_169 (lv_at hl 5 rfl) ?_
                                refine lv_iadd hx hb dX3_graft_171 ?_
                                obtain ⟨g45, et46, hf⟩ := ob hf
                                refine wr_callVv (As := [.int (p1 + x7_162)]) (rest := []) ⟨hx, hb, hml, hown, hts⟩ (mX3_goesOut l D k ma mi st_162 rp tp cr_162 cw_162 ik ln lg ce (p1 + x7_162) _ _ et46) (cwV 1 hts (lw_V q1252 q1254 qs85 q94 q1255) rfl rfl rfl ⟨rfl, hdX3_goesOut⟩ ⟨Nat.le_of_ble_eq_true rfl, Nat.le_of_ble_eq_true rfl⟩) hK hP hD hS hA [0, 1, 2, 3, 4, 5, 6, 7, 8, 9] [] (wM k ma mi g45 rp tp cr_162 cw_162 ik ln lg ce) rfl rfl fm_n 10 rfl (by decide) (by decide) [(ma 0), (ma 1), (ma 2), (ma 3), (ma 4), (ma 5), (ma 6), (ma 7), (ma 8), (ma 9)] rfl rfl 0 3 rfl rfl rfl hl.1 rfl (Nat.le_of_ble_eq_true rfl) dX3_graft_172 ⟨Nat.le_of_ble_eq_true rfl, Nat.le_of_ble_eq_true rfl⟩ (fun H locs hP hD hS => ?_)
                                refine lv_iinc (v := (x7_162 + (-1))) (lv' := [(7, .int (x7_162 + (-1))), (0, .ref (ma 0)), (1, .int p1), (2, .int p2), (3, .int p3), (4, .int x4_162)]) hx hb dX3_graft_175 hl (k := 5) rfl rfl (by decide) rfl (fun ls hl => ?_)
                                refine lv_goto (tgt := 162) hx hb dX3_graft_178 (by decide) ?_
                                exact ih162 g45 cr_162 cw_162 x4_162 (x7_162 + (-1)) H locs hP hD hS hf ls (lv_sub hl [1, 2, 3, 4, 5, 0] rfl)
                          exact hL162 FU st_123 cr_123 cw_123 x4_123 y26 H locs hP hD hS hf ls (lv_sub hl [1, 2, 3, 4, 5, 0] rfl)
                        · have hf := oi_f c25 hf
                          refine lv_aload_n hx hb dX3_graft_130 rfl (lv_at hl 0 rfl) ?_
                          refine va_get (D := D) (cl := vwCl) (ci := 3) (v := .ref (ma 5)) (C := RX3) (T := TX3) (N := 18) hx hb hts in_X3 hown hK.1 hP 0 rfl rfl 12 (by decide) (hts _ q950) (fun _ h9 => h9) rfl dX3_graft_131 ?_
                          refine lv_iload hx hb dX3_graft_134 (lv_at hl 5 rfl) ?_
                          refine lv_aload_n hx hb dX3_graft_136 rfl (lv_at hl 0 rfl) ?_
                          refine va_get (D := D) (cl := vwCl) (ci := 3) (v := .ref (ma 1)) (C := RX3) (T := TX3) (N := 18) hx hb hts in_X3 hown hK.1 hP 0 rfl rfl 0 (by decide) (hts _ q938) (fun _ h9 => h9) rfl dX3_graft_137 ?_
                          refine lv_sipush (v := 128) hx hb dX3_graft_140 (by decide) ?_
                          refine lv_iload_n hx hb dX3_graft_143 rfl (lv_at hl 1 rfl) ?_
                          refine lv_iadd hx hb dX3_graft_144 ?_
                          refine lv_iload hx hb dX3_graft_145 (lv_at hl 5 rfl) ?_
                          refine lv_iadd hx hb dX3_graft_147 ?_
                          obtain ⟨v47, ev47, hf⟩ := ob hf
                          refine x_iald hx hb hK hP 1 1 ev47 rfl rfl dX3_graft_148 ?_
                          obtain ⟨u48, eu48, hf⟩ := ob hf
                          refine x_iast hx hb hK hP hD hS 5 1 eu48 rfl rfl (wM k ma mi st_123 rp tp cr_123 u48 ik ln lg ce) rfl dX3_graft_149 (fun H locs hP hD hS => ?_)
                          refine lv_iinc (v := (x7_123 + 1)) (lv' := [(7, .int (x7_123 + 1)), (0, .ref (ma 0)), (1, .int p1), (2, .int p2), (3, .int p3), (4, .int x4_123)]) hx hb dX3_graft_150 hl (k := 5) rfl rfl (by decide) rfl (fun ls hl => ?_)
                          refine lv_goto (tgt := 123) hx hb dX3_graft_153 (by decide) ?_
                          exact ih123 st_123 cr_123 u48 x4_123 (x7_123 + 1) H locs hP hD hS hf ls (lv_sub hl [1, 2, 3, 4, 5, 0] rfl)
                    exact hL123 FU st_88 cr_88 cw_88 x4_88 (0 : Int32) H locs hP hD hS hf ls (lv_sub hl [1, 2, 3, 4, 5, 0] rfl)
                  · have hf := oi_f c24 hf
                    refine lv_aload_n hx hb dX3_graft_97 rfl (lv_at hl 0 rfl) ?_
                    refine va_get (D := D) (cl := vwCl) (ci := 3) (v := .ref (ma 4)) (C := RX3) (T := TX3) (N := 18) hx hb hts in_X3 hown hK.1 hP 0 rfl rfl 11 (by decide) (hts _ q949) (fun _ h9 => h9) rfl dX3_graft_98 ?_
                    refine lv_iload hx hb dX3_graft_101 (lv_at hl 6 rfl) ?_
                    refine lv_aload_n hx hb dX3_graft_103 rfl (lv_at hl 0 rfl) ?_
                    refine va_get (D := D) (cl := vwCl) (ci := 3) (v := .ref (ma 1)) (C := RX3) (T := TX3) (N := 18) hx hb hts in_X3 hown hK.1 hP 0 rfl rfl 0 (by decide) (hts _ q938) (fun _ h9 => h9) rfl dX3_graft_104 ?_
                    refine lv_iload hx hb dX3_graft_107 (lv_at hl 5 rfl) ?_
                    refine lv_iload hx hb dX3_graft_109 (lv_at hl 6 rfl) ?_
                    refine lv_iadd hx hb dX3_graft_111 ?_
                    obtain ⟨v49, ev49, hf⟩ := ob hf
                    refine x_iald hx hb hK hP 1 1 ev49 rfl rfl dX3_graft_112 ?_
                    obtain ⟨u50, eu50, hf⟩ := ob hf
                    refine x_iast hx hb hK hP hD hS 4 1 eu50 rfl rfl (wM k ma mi st_88 rp tp u50 cw_88 ik ln lg ce) rfl dX3_graft_113 (fun H locs hP hD hS => ?_)
                    refine lv_iinc (v := (x7_88 + 1)) (lv' := [(7, .int (x7_88 + 1)), (0, .ref (ma 0)), (1, .int p1), (2, .int p2), (3, .int p3), (4, .int x4_88), (6, .int x6_88)]) hx hb dX3_graft_114 hl (k := 6) rfl rfl (by decide) rfl (fun ls hl => ?_)
                    refine lv_goto (tgt := 88) hx hb dX3_graft_117 (by decide) ?_
                    exact ih88 st_88 u50 cw_88 x4_88 x6_88 (x7_88 + 1) H locs hP hD hS hf ls (lv_sub hl [1, 2, 3, 4, 5, 6, 0] rfl)
              exact hL88 FU st_61 cr_61 cw_61 x4_61 v22 (0 : Int32) H locs hP hD hS hf ls (lv_sub hl [3, 4, 5, 6, 7, 1, 0] rfl)
            · have hf := oi_t c21 hf
              refine lv_iconst (v := (-1)) hx hb dX3_graft_76 (by decide) ?_
              obtain ⟨he1, he2, he3, he4⟩ := prod4 hf
              rw [he2] at hP
              rw [he3] at hP
              rw [he4] at hP
              exact wr_iret hx hb hr hlk he1 hP hS dX3_graft_77
          refine lv_icmp_ne (tgt := 60) hx hb dX3_graft_53 (by decide) (fun c17 => ?_) (fun c17 => ?_)
          · have hf := oi_f c17 hf
            refine lv_iconst (v := 0) hx hb dX3_graft_60 (by decide) ?_
            exact hB61 st cr cw v11 (0 : Int32) v13 H locs hP hD hS hf ls (lv_sub hl [1, 2, 3, 4, 0] rfl)
          · have hf := oi_t c17 hf
            refine lv_iconst (v := 1) hx hb dX3_graft_56 (by decide) ?_
            refine lv_goto (tgt := 61) hx hb dX3_graft_57 (by decide) ?_
            exact hB61 st cr cw v11 (1 : Int32) v13 H locs hP hD hS hf ls (lv_sub hl [1, 2, 3, 4, 0] rfl)
        · have hf := oi_f c10 hf
          refine lv_bipush (v := (-2)) hx hb dX3_graft_31 (by decide) ?_
          obtain ⟨he1, he2, he3, he4⟩ := prod4 hf
          rw [he2] at hP
          rw [he3] at hP
          rw [he4] at hP
          exact wr_iret hx hb hr hlk he1 hP hS dX3_graft_33
    · have hf := oi_t c6 hf
      refine lv_iconst (v := (-1)) hx hb dX3_graft_16 (by decide) ?_
      obtain ⟨he1, he2, he3, he4⟩ := prod4 hf
      rw [he2] at hP
      rw [he3] at hP
      rw [he4] at hP
      exact wr_iret hx hb hr hlk he1 hP hS dX3_graft_17

abbrev rmX3_grow : Room := { frames := 5, cells := 0, slots := 0, locals := 116 }
theorem hdX3_grow : yX3_grow.cls ≠ "java/lang/invoke/MethodHandle" ∧ yX3_grow.cls ≠ "java/lang/invoke/VarHandle" ∧ (parseMethodDescriptor yX3_grow.desc).map (fun d => d.parameters.length) = some 2 := by decide +kernel
abbrev qcX3_grow (D : va_G) (k : Nat → ClassId) (ma : Nat → Nat) (mi : Nat → Int32) (st : Nat → Int32) (rp : Nat → Int32) (tp : Nat → Int32) (cr : Nat → Int32) (cw : Nat → Int32) (ik : Nat → Int32) (ln : Nat → Int32) (lg : Nat → Int32) (ce : Nat → Int64) (r : Int32) (A : Nat → Prop) : Array Value → State → Outcome → State → Prop := va_Qi (fun x (_ : Unit) => x = r) (fun _ t => va_P D vwCl (wM k ma mi st rp tp cr cw ik ln lg ce) t.heap) A
set_option maxHeartbeats 4000000 in
theorem mX3_grow (l : Launch) (D : va_G) (k : Nat → ClassId) (ma : Nat → Nat) (mi : Nat → Int32) (st : Nat → Int32) (rp : Nat → Int32) (tp : Nat → Int32) (cr : Nat → Int32) (cw : Nat → Int32) (ik : Nat → Int32) (ln : Nat → Int32) (lg : Nat → Int32) (ce : Nat → Int64) (p1 : Int32) (p2 : Int32) (sz : Nat) (r : Int32) (st_o : Nat → Int32) (hf : fX3_grow st p1 p2 = some (r, st_o)) : Met l yX3_grow (ws_ yX3_grow cX3_grow 6 (some .int)) rmX3_grow (wrP D k (wM k ma mi st rp tp cr cw ik ln lg ce) sz [.ref (ma 0), .int p1, .int p2]) (qcX3_grow D k ma mi st_o rp tp cr cw ik ln lg ce r (va_A (wM k ma mi st rp tp cr cw ik ln lg ce) sz)) 0 0 (va_A (wM k ma mi st rp tp cr cw ik ln lg ce) sz) := by
  refine wr_start (Qc := fun A => qcX3_grow D k ma mi st_o rp tp cr cw ik ln lg ce r A) (by decide +kernel) (Nat.le_of_ble_eq_true rfl) ?_
  intro p e s m below meth c ls A hA hx hb hr hlk hml hown hts hP hK hD hl
  have hl : lv_has ls 6 [(0, .ref (ma 0)), (1, .int p1), (2, .int p2)] := hl
  have hown : s.vm.findClass RX3 = some m.cls := hown
  have hS : va_S A s.heap s.heap [] := va_S.rf
  suffices hw : ∀ (H : Heap) (locs : List Loc), va_P D vwCl (wM k ma mi st rp tp cr cw ik ln lg ce) H → va_S A s.heap H locs → gW p l e rmX3_grow s m [.ref (ma 0), .int p1, .int p2] below meth c (qcX3_grow D k ma mi st_o rp tp cr cw ik ln lg ce r A) A 0 0 H locs 0 ls [] from hw s.heap [] hP hS
  clear hP hS
  intro H locs hP hS
  unfold fX3_grow at hf
  refine lv_iload_n hx hb dX3_grow_0 rfl (lv_at hl 2 rfl) ?_
  refine lv_i2l hx hb dX3_grow_1 rfl ?_
  refine lv_lconst (v := 1) hx hb dX3_grow_2 (by decide) ?_
  refine lv_ldc2 hx hb hown (hts _ q1280) dX3_grow_3 ?_
  obtain ⟨v1, ev1, hf⟩ := ob hf
  refine rd_callSZ (As := [.long ((p2).toInt64), .long (1 : Int64), .long (64 : Int64)]) (rest := []) ⟨hx, hb, hml, hown, hts⟩ (mX3_in l D k   ((p2).toInt64) (1 : Int64) (64 : Int64) _ ev1) (va_cwS 3 hts (lw_S q999 q1000 q94 q1001) rfl rfl rfl hdX3_in ⟨Nat.le_of_ble_eq_true rfl, Nat.le_of_ble_eq_true rfl⟩) hK rfl hl.1 rfl (Nat.le_of_ble_eq_true rfl) dX3_grow_6 ⟨Nat.le_of_ble_eq_true rfl, Nat.le_of_ble_eq_true rfl⟩ (fun zv1 => ?_)
  refine lv_if_ne (tgt := 14) hx hb dX3_grow_9 (by decide) (fun c3 => ?_) (fun c3 => ?_)
  · have hf := oi_f c3 hf
    refine lv_aload_n hx hb dX3_grow_14 rfl (lv_at hl 0 rfl) ?_
    refine va_get (D := D) (cl := vwCl) (ci := 3) (v := .ref (ma 1)) (C := RX3) (T := TX3) (N := 18) hx hb hts in_X3 hown hK.1 hP 0 rfl rfl 0 (by decide) (hts _ q938) (fun _ h9 => h9) rfl dX3_grow_15 ?_
    refine lv_sipush (v := 192) hx hb dX3_grow_18 (by decide) ?_
    refine lv_iconst (v := 0) hx hb dX3_grow_21 (by decide) ?_
    obtain ⟨u4, eu4, hf⟩ := ob hf
    refine x_iast hx hb hK hP hD hS 1 1 eu4 rfl rfl (wM k ma mi u4 rp tp cr cw ik ln lg ce) rfl dX3_grow_22 (fun H locs hP hD hS => ?_)
    refine lv_aload_n hx hb dX3_grow_23 rfl (lv_at hl 0 rfl) ?_
    refine lv_iconst (v := 0) hx hb dX3_grow_24 (by decide) ?_
    obtain ⟨⟨v5, g6⟩, et7, hf⟩ := ob hf
    refine wr_callV (As := [.int (0 : Int32)]) (rest := []) ⟨hx, hb, hml, hown, hts⟩ (mX3_plant l D k ma mi u4 rp tp cr cw ik ln lg ce (0 : Int32) _ _ _ et7) (cwV 1 hts (lw_V q1281 q1225 q1226 q94 q1227) rfl rfl rfl ⟨rfl, hdX3_plant⟩ ⟨Nat.le_of_ble_eq_true rfl, Nat.le_of_ble_eq_true rfl⟩) hK hP hD hS hA [0, 1, 2, 3, 4, 5, 6, 7, 8, 9] [] (wM k ma mi g6 rp tp cr cw ik ln lg ce) rfl rfl fm_n 10 rfl (by decide) (by decide) [(ma 0), (ma 1), (ma 2), (ma 3), (ma 4), (ma 5), (ma 6), (ma 7), (ma 8), (ma 9)] rfl rfl 0 3 rfl rfl rfl hl.1 rfl (Nat.le_of_ble_eq_true rfl) dX3_grow_25 ⟨Nat.le_of_ble_eq_true rfl, Nat.le_of_ble_eq_true rfl⟩ (fun H locs hP hD hS => ?_)
    refine lv_pop hx hb dX3_grow_28 rfl ?_
    refine lv_iload_n hx hb dX3_grow_29 rfl (lv_at hl 1 rfl) ?_
    refine lv_istore_n (lv' := [(3, .int p1), (0, .ref (ma 0)), (1, .int p1), (2, .int p2)]) hx hb dX3_grow_30 rfl hl (by decide) rfl (fun ls hl => ?_)
    refine lv_iconst (v := 1) hx hb dX3_grow_31 (by decide) ?_
    refine lv_istore (lv' := [(4, .int (1 : Int32)), (3, .int p1), (0, .ref (ma 0)), (1, .int p1), (2, .int p2)]) hx hb dX3_grow_32 hl (by decide) rfl (fun ls hl => ?_)
    have hL34 : ∀ (nn : Nat) (st_34 : Nat → Int32) (x3_34 : Int32) (x4_34 : Int32), ∀ (H : Heap) (locs : List Loc), va_P D vwCl (wM k ma mi st_34 rp tp cr cw ik ln lg ce) H → va_D A (wM k ma mi st_34 rp tp cr cw ik ln lg ce) → va_S A s.heap H locs → fX3_grow_L34 p1 p2 nn st_34 x3_34 x4_34 = some (r, st_o) → ∀ ls : Array Slot, lv_has ls 6 [(0, .ref (ma 0)), (2, .int p2), (3, .int x3_34), (4, .int x4_34)] → gW p l e rmX3_grow s m [.ref (ma 0), .int p1, .int p2] below meth c (qcX3_grow D k ma mi st_o rp tp cr cw ik ln lg ce r A) A 0 0 H locs 34 ls [] := by
      intro nn34
      induction nn34 with
      | zero =>
        intro st_34 x3_34 x4_34 H locs hP hD hS hf
        rw [fX3_grow_L34] at hf; cases hf
      | succ nn34 ih34 =>
        intro st_34 x3_34 x4_34 H locs hP hD hS hf ls hl
        rw [fX3_grow_L34] at hf
        refine lv_iload hx hb dX3_grow_34 (lv_at hl 3 rfl) ?_
        refine lv_iload_n hx hb dX3_grow_36 rfl (lv_at hl 1 rfl) ?_
        refine lv_icmp_ge (tgt := 84) hx hb dX3_grow_37 (by decide) (fun c8 => ?_) (fun c8 => ?_)
        · have hf := oi_t c8 hf
          refine lv_aload_n hx hb dX3_grow_84 rfl (lv_at hl 0 rfl) ?_
          refine lv_iconst (v := 2) hx hb dX3_grow_85 (by decide) ?_
          obtain ⟨v9, ev9, hf⟩ := ob hf
          refine rd_callV (As := [.int (2 : Int32)]) (rest := []) ⟨hx, hb, hml, hown, hts⟩ (mX3_size l D k ma mi st_34 rp tp cr cw ik ln lg ce (2 : Int32) _ ev9) (cwV 1 hts (lw_V q1283 q1033 q1034 q94 q1035) rfl rfl rfl ⟨rfl, hdX3_size⟩ ⟨Nat.le_of_ble_eq_true rfl, Nat.le_of_ble_eq_true rfl⟩) hK hP [0, 1, 2, 3, 4, 5, 6, 7, 8, 9] rfl 0 3 rfl rfl rfl hl.1 rfl (Nat.le_of_ble_eq_true rfl) dX3_grow_86 ⟨Nat.le_of_ble_eq_true rfl, Nat.le_of_ble_eq_true rfl⟩ ?_
          obtain ⟨he1, he2⟩ := prod2 hf
          rw [he2] at hP
          exact wr_iret hx hb hr hlk he1 hP hS dX3_grow_89
        · have hf := oi_f c8 hf
          refine lv_iload_n hx hb dX3_grow_40 rfl (lv_at hl 2 rfl) ?_
          refine lv_ldc hx hb hown (hts _ q1282) dX3_grow_41 ?_
          refine lv_imul hx hb dX3_grow_43 ?_
          refine lv_sipush (v := 12345) hx hb dX3_grow_44 (by decide) ?_
          refine lv_iadd hx hb dX3_grow_47 ?_
          obtain ⟨y11, ey11, hf⟩ := ob hf
          refine x_asI ey11 ?_
          refine lv_istore_n (lv' := [(3, .int y11), (0, .ref (ma 0)), (2, .int p2), (4, .int x4_34)]) hx hb dX3_grow_48 rfl hl (by decide) rfl (fun ls hl => ?_)
          refine lv_iload_n hx hb dX3_grow_49 rfl (lv_at hl 0 rfl) ?_
          refine lv_bipush (v := 16) hx hb dX3_grow_50 (by decide) ?_
          refine lv_ishr hx hb dX3_grow_52 ?_
          refine lv_sipush (v := 32767) hx hb dX3_grow_53 (by decide) ?_
          refine lv_iand hx hb dX3_grow_56 ?_
          refine lv_aload_n hx hb dX3_grow_57 rfl (lv_at hl 1 rfl) ?_
          obtain ⟨v12, ev12, hf⟩ := ob hf
          refine rd_callV (As := []) (rest := [.int ((y11 >>> ((16 : Int32) &&& 31)) &&& (32767 : Int32))]) ⟨hx, hb, hml, hown, hts⟩ (mX3_many l D k ma mi st_34 rp tp cr cw ik ln lg ce  _ ev12) (cwV 0 hts (lw_V q1048 q1050 qs61 q94 q1051) rfl rfl rfl ⟨rfl, hdX3_many⟩ ⟨Nat.le_of_ble_eq_true rfl, Nat.le_of_ble_eq_true rfl⟩) hK hP [0, 1, 2, 3, 4, 5, 6, 7, 8, 9] rfl 0 3 rfl rfl rfl hl.1 rfl (Nat.le_of_ble_eq_true rfl) dX3_grow_58 ⟨Nat.le_of_ble_eq_true rfl, Nat.le_of_ble_eq_true rfl⟩ ?_
          have c14 := on_z hf
          have hf := oi_f c14 hf
          refine lv_irem hx hb dX3_grow_61 c14 ?_
          obtain ⟨y15, ey15, hf⟩ := ob hf
          refine x_asI ey15 ?_
          refine lv_istore (lv' := [(5, .int y15), (3, .int y11), (0, .ref (ma 0)), (2, .int p2), (4, .int x4_34)]) hx hb dX3_grow_62 hl (by decide) rfl (fun ls hl => ?_)
          refine lv_aload_n hx hb dX3_grow_64 rfl (lv_at hl 2 rfl) ?_
          refine lv_iload hx hb dX3_grow_65 (lv_at hl 0 rfl) ?_
          refine lv_aload_n hx hb dX3_grow_67 rfl (lv_at hl 2 rfl) ?_
          refine lv_iload hx hb dX3_grow_68 (lv_at hl 0 rfl) ?_
          obtain ⟨v16, ev16, hf⟩ := ob hf
          refine rd_callV (As := [.int y15]) (rest := [.int y15, .ref (ma 0)]) ⟨hx, hb, hml, hown, hts⟩ (mX3_childrenOf l D k ma mi st_34 rp tp cr cw ik ln lg ce y15 _ ev16) (cwV 1 hts (lw_V q1135 q1137 qs72 q94 q1138) rfl rfl rfl ⟨rfl, hdX3_childrenOf⟩ ⟨Nat.le_of_ble_eq_true rfl, Nat.le_of_ble_eq_true rfl⟩) hK hP [0, 1, 2, 3, 4, 5, 6, 7, 8, 9] rfl 0 3 rfl rfl rfl hl.1 rfl (Nat.le_of_ble_eq_true rfl) dX3_grow_70 ⟨Nat.le_of_ble_eq_true rfl, Nat.le_of_ble_eq_true rfl⟩ ?_
          refine lv_iconst (v := 0) hx hb dX3_grow_73 (by decide) ?_
          obtain ⟨⟨v18, g19⟩, et20, hf⟩ := ob hf
          refine wr_callV (As := [.int y15, .int v16, .int (0 : Int32)]) (rest := []) ⟨hx, hb, hml, hown, hts⟩ (mX3_leafs l D k ma mi st_34 rp tp cr cw ik ln lg ce y15 v16 (0 : Int32) _ _ _ et20) (cwV 3 hts (lw_V q1232 q1234 qs81 q94 q1235) rfl rfl rfl ⟨rfl, hdX3_leafs⟩ ⟨Nat.le_of_ble_eq_true rfl, Nat.le_of_ble_eq_true rfl⟩) hK hP hD hS hA [0, 1, 2, 3, 4, 5, 6, 7, 8, 9] [] (wM k ma mi g19 rp tp cr cw ik ln lg ce) rfl rfl fm_n 10 rfl (by decide) (by decide) [(ma 0), (ma 1), (ma 2), (ma 3), (ma 4), (ma 5), (ma 6), (ma 7), (ma 8), (ma 9)] rfl rfl 0 3 rfl rfl rfl hl.1 rfl (Nat.le_of_ble_eq_true rfl) dX3_grow_74 ⟨Nat.le_of_ble_eq_true rfl, Nat.le_of_ble_eq_true rfl⟩ (fun H locs hP hD hS => ?_)
          refine lv_pop hx hb dX3_grow_77 rfl ?_
          refine lv_iinc (v := (x4_34 + 1)) (lv' := [(4, .int (x4_34 + 1)), (5, .int y15), (3, .int y11), (0, .ref (ma 0)), (2, .int p2)]) hx hb dX3_grow_78 hl (k := 4) rfl rfl (by decide) rfl (fun ls hl => ?_)
          refine lv_goto (tgt := 34) hx hb dX3_grow_81 (by decide) ?_
          exact ih34 g19 y11 (x4_34 + 1) H locs hP hD hS hf ls (lv_sub hl [3, 4, 2, 0] rfl)
    exact hL34 FU g6 p1 (1 : Int32) H locs hP hD hS hf ls (lv_sub hl [2, 4, 1, 0] rfl)
  · have hf := oi_t c3 hf
    refine lv_iconst (v := (-1)) hx hb dX3_grow_12 (by decide) ?_
    obtain ⟨he1, he2⟩ := prod2 hf
    rw [he2] at hP
    exact wr_iret hx hb hr hlk he1 hP hS dX3_grow_13

abbrev rmX3_keep : Room := { frames := 1, cells := 0, slots := 0, locals := 25 }
theorem hdX3_keep : yX3_keep.cls ≠ "java/lang/invoke/MethodHandle" ∧ yX3_keep.cls ≠ "java/lang/invoke/VarHandle" ∧ (parseMethodDescriptor yX3_keep.desc).map (fun d => d.parameters.length) = some 1 := by decide +kernel
abbrev qcX3_keep (D : va_G) (k : Nat → ClassId) (ma : Nat → Nat) (mi : Nat → Int32) (st : Nat → Int32) (rp : Nat → Int32) (tp : Nat → Int32) (cr : Nat → Int32) (cw : Nat → Int32) (ik : Nat → Int32) (ln : Nat → Int32) (lg : Nat → Int32) (ce : Nat → Int64) (r : Int32) (A : Nat → Prop) : Array Value → State → Outcome → State → Prop := va_Qi (fun x (_ : Unit) => x = r) (fun _ t => va_P D vwCl (wM k ma mi st rp tp cr cw ik ln lg ce) t.heap) A
set_option maxHeartbeats 4000000 in
theorem mX3_keep (l : Launch) (D : va_G) (k : Nat → ClassId) (ma : Nat → Nat) (mi : Nat → Int32) (st : Nat → Int32) (rp : Nat → Int32) (tp : Nat → Int32) (cr : Nat → Int32) (cw : Nat → Int32) (ik : Nat → Int32) (ln : Nat → Int32) (lg : Nat → Int32) (ce : Nat → Int64) (p1 : Int32) (sz : Nat) (r : Int32) (st_o : Nat → Int32) (ik_o : Nat → Int32) (hf : fX3_keep st ik p1 = some (r, st_o, ik_o)) : Met l yX3_keep (ws_ yX3_keep cX3_keep 4 (some .int)) rmX3_keep (wrP D k (wM k ma mi st rp tp cr cw ik ln lg ce) sz [.ref (ma 0), .int p1]) (qcX3_keep D k ma mi st_o rp tp cr cw ik_o ln lg ce r (va_A (wM k ma mi st rp tp cr cw ik ln lg ce) sz)) 0 0 (va_A (wM k ma mi st rp tp cr cw ik ln lg ce) sz) := by
  refine wr_start (Qc := fun A => qcX3_keep D k ma mi st_o rp tp cr cw ik_o ln lg ce r A) (by decide +kernel) (Nat.le_of_ble_eq_true rfl) ?_
  intro p e s m below meth c ls A hA hx hb hr hlk hml hown hts hP hK hD hl
  have hl : lv_has ls 4 [(0, .ref (ma 0)), (1, .int p1)] := hl
  have hown : s.vm.findClass RX3 = some m.cls := hown
  have hS : va_S A s.heap s.heap [] := va_S.rf
  suffices hw : ∀ (H : Heap) (locs : List Loc), va_P D vwCl (wM k ma mi st rp tp cr cw ik ln lg ce) H → va_S A s.heap H locs → gW p l e rmX3_keep s m [.ref (ma 0), .int p1] below meth c (qcX3_keep D k ma mi st_o rp tp cr cw ik_o ln lg ce r A) A 0 0 H locs 0 ls [] from hw s.heap [] hP hS
  clear hP hS
  intro H locs hP hS
  unfold fX3_keep at hf
  refine lv_iload_n hx hb dX3_keep_0 rfl (lv_at hl 1 rfl) ?_
  refine lv_i2l hx hb dX3_keep_1 rfl ?_
  refine lv_lconst (v := 0) hx hb dX3_keep_2 (by decide) ?_
  refine lv_lconst (v := 1) hx hb dX3_keep_3 (by decide) ?_
  obtain ⟨v1, ev1, hf⟩ := ob hf
  refine rd_callSZ (As := [.long ((p1).toInt64), .long (0 : Int64), .long (1 : Int64)]) (rest := []) ⟨hx, hb, hml, hown, hts⟩ (mX3_in l D k   ((p1).toInt64) (0 : Int64) (1 : Int64) _ ev1) (va_cwS 3 hts (lw_S q999 q1000 q94 q1001) rfl rfl rfl hdX3_in ⟨Nat.le_of_ble_eq_true rfl, Nat.le_of_ble_eq_true rfl⟩) hK rfl hl.1 rfl (Nat.le_of_ble_eq_true rfl) dX3_keep_4 ⟨Nat.le_of_ble_eq_true rfl, Nat.le_of_ble_eq_true rfl⟩ (fun zv1 => ?_)
  refine lv_if_ne (tgt := 12) hx hb dX3_keep_7 (by decide) (fun c3 => ?_) (fun c3 => ?_)
  · have hf := oi_f c3 hf
    refine lv_aload_n hx hb dX3_keep_12 rfl (lv_at hl 0 rfl) ?_
    refine va_get (D := D) (cl := vwCl) (ci := 3) (v := .ref (ma 6)) (C := RX3) (T := TX3) (N := 18) hx hb hts in_X3 hown hK.1 hP 0 rfl rfl 13 (by decide) (hts _ q951) (fun _ h9 => h9) rfl dX3_keep_13 ?_
    refine lv_iload_n hx hb dX3_keep_16 rfl (lv_at hl 1 rfl) ?_
    obtain ⟨v4, ev4, hf⟩ := ob hf
    refine x_zald hx hb hK hP 6 4 ev4 rfl rfl dX3_keep_17 ?_
    have hB26 : ∀ (st_26 : Nat → Int32) (ik_26 : Nat → Int32) (s0_26 : Int32), ∀ (H : Heap) (locs : List Loc), va_P D vwCl (wM k ma mi st_26 rp tp cr cw ik_26 ln lg ce) H → va_D A (wM k ma mi st_26 rp tp cr cw ik_26 ln lg ce) → va_S A s.heap H locs → fX3_keep_B26 p1 st_26 ik_26 s0_26 = some (r, st_o, ik_o) → ∀ ls : Array Slot, lv_has ls 4 [(0, .ref (ma 0)), (1, .int p1)] → gW p l e rmX3_keep s m [.ref (ma 0), .int p1] below meth c (qcX3_keep D k ma mi st_o rp tp cr cw ik_o ln lg ce r A) A 0 0 H locs 26 ls [.int s0_26] := by
      intro st_26 ik_26 s0_26 H locs hP hD hS hf ls hl
      unfold fX3_keep_B26 at hf
      refine lv_istore_n (lv' := [(2, .int s0_26), (0, .ref (ma 0)), (1, .int p1)]) hx hb dX3_keep_26 rfl hl (by decide) rfl (fun ls hl => ?_)
      refine lv_iconst (v := 0) hx hb dX3_keep_27 (by decide) ?_
      refine lv_istore_n (lv' := [(3, .int (0 : Int32)), (2, .int s0_26), (0, .ref (ma 0)), (1, .int p1)]) hx hb dX3_keep_28 rfl hl (by decide) rfl (fun ls hl => ?_)
      have hL29 : ∀ (nn : Nat) (st_29 : Nat → Int32) (ik_29 : Nat → Int32) (x2_29 : Int32) (x3_29 : Int32), ∀ (H : Heap) (locs : List Loc), va_P D vwCl (wM k ma mi st_29 rp tp cr cw ik_29 ln lg ce) H → va_D A (wM k ma mi st_29 rp tp cr cw ik_29 ln lg ce) → va_S A s.heap H locs → fX3_keep_L29 p1 nn st_29 ik_29 x2_29 x3_29 = some (r, st_o, ik_o) → ∀ ls : Array Slot, lv_has ls 4 [(0, .ref (ma 0)), (1, .int p1), (2, .int x2_29), (3, .int x3_29)] → gW p l e rmX3_keep s m [.ref (ma 0), .int p1] below meth c (qcX3_keep D k ma mi st_o rp tp cr cw ik_o ln lg ce r A) A 0 0 H locs 29 ls [] := by
        intro nn29
        induction nn29 with
        | zero =>
          intro st_29 ik_29 x2_29 x3_29 H locs hP hD hS hf
          rw [fX3_keep_L29] at hf; cases hf
        | succ nn29 ih29 =>
          intro st_29 ik_29 x2_29 x3_29 H locs hP hD hS hf ls hl
          rw [fX3_keep_L29] at hf
          refine lv_iload_n hx hb dX3_keep_29 rfl (lv_at hl 3 rfl) ?_
          refine lv_sipush (v := 193) hx hb dX3_keep_30 (by decide) ?_
          refine lv_icmp_ge (tgt := 64) hx hb dX3_keep_33 (by decide) (fun c6 => ?_) (fun c6 => ?_)
          · have hf := oi_t c6 hf
            refine lv_aload_n hx hb dX3_keep_64 rfl (lv_at hl 0 rfl) ?_
            refine va_get (D := D) (cl := vwCl) (ci := 3) (v := .ref (ma 6)) (C := RX3) (T := TX3) (N := 18) hx hb hts in_X3 hown hK.1 hP 0 rfl rfl 13 (by decide) (hts _ q951) (fun _ h9 => h9) rfl dX3_keep_65 ?_
            refine lv_iload_n hx hb dX3_keep_68 rfl (lv_at hl 1 rfl) ?_
            refine lv_iconst (v := 1) hx hb dX3_keep_69 (by decide) ?_
            obtain ⟨u7, eu7, hf⟩ := ob hf
            refine x_zast hx hb hK hP hD hS 6 4 eu7 rfl rfl (wM k ma mi st_29 rp tp cr cw u7 ln lg ce) rfl dX3_keep_70 (fun H locs hP hD hS => ?_)
            refine lv_iload_n hx hb dX3_keep_71 rfl (lv_at hl 2 rfl) ?_
            obtain ⟨he1, he2, he3⟩ := prod3 hf
            rw [he2] at hP
            rw [he3] at hP
            exact wr_iret hx hb hr hlk he1 hP hS dX3_keep_72
          · have hf := oi_f c6 hf
            refine lv_aload_n hx hb dX3_keep_36 rfl (lv_at hl 0 rfl) ?_
            refine va_get (D := D) (cl := vwCl) (ci := 3) (v := .ref (ma 1)) (C := RX3) (T := TX3) (N := 18) hx hb hts in_X3 hown hK.1 hP 0 rfl rfl 0 (by decide) (hts _ q938) (fun _ h9 => h9) rfl dX3_keep_37 ?_
            refine lv_sipush (v := 193) hx hb dX3_keep_40 (by decide) ?_
            refine lv_iload_n hx hb dX3_keep_43 rfl (lv_at hl 1 rfl) ?_
            refine lv_imul hx hb dX3_keep_44 ?_
            refine lv_sipush (v := 193) hx hb dX3_keep_45 (by decide) ?_
            refine lv_iadd hx hb dX3_keep_48 ?_
            refine lv_iload_n hx hb dX3_keep_49 rfl (lv_at hl 3 rfl) ?_
            refine lv_iadd hx hb dX3_keep_50 ?_
            refine lv_aload_n hx hb dX3_keep_51 rfl (lv_at hl 0 rfl) ?_
            refine va_get (D := D) (cl := vwCl) (ci := 3) (v := .ref (ma 1)) (C := RX3) (T := TX3) (N := 18) hx hb hts in_X3 hown hK.1 hP 0 rfl rfl 0 (by decide) (hts _ q938) (fun _ h9 => h9) rfl dX3_keep_52 ?_
            refine lv_iload_n hx hb dX3_keep_55 rfl (lv_at hl 3 rfl) ?_
            obtain ⟨v8, ev8, hf⟩ := ob hf
            refine x_iald hx hb hK hP 1 1 ev8 rfl rfl dX3_keep_56 ?_
            obtain ⟨u9, eu9, hf⟩ := ob hf
            refine x_iast hx hb hK hP hD hS 1 1 eu9 rfl rfl (wM k ma mi u9 rp tp cr cw ik_29 ln lg ce) rfl dX3_keep_57 (fun H locs hP hD hS => ?_)
            refine lv_iinc (v := (x3_29 + 1)) (lv' := [(3, .int (x3_29 + 1)), (0, .ref (ma 0)), (1, .int p1), (2, .int x2_29)]) hx hb dX3_keep_58 hl (k := 3) rfl rfl (by decide) rfl (fun ls hl => ?_)
            refine lv_goto (tgt := 29) hx hb dX3_keep_61 (by decide) ?_
            exact ih29 u9 ik_29 x2_29 (x3_29 + 1) H locs hP hD hS hf ls (lv_sub hl [1, 2, 3, 0] rfl)
      exact hL29 FU st_26 ik_26 s0_26 (0 : Int32) H locs hP hD hS hf ls (lv_sub hl [2, 3, 1, 0] rfl)
    refine lv_if_eq (tgt := 25) hx hb dX3_keep_18 (by decide) (fun c5 => ?_) (fun c5 => ?_)
    · have hf := oi_t c5 hf
      refine lv_iconst (v := 0) hx hb dX3_keep_25 (by decide) ?_
      exact hB26 st ik (0 : Int32) H locs hP hD hS hf ls (lv_sub hl [0, 1] rfl)
    · have hf := oi_f c5 hf
      refine lv_iconst (v := 1) hx hb dX3_keep_21 (by decide) ?_
      refine lv_goto (tgt := 26) hx hb dX3_keep_22 (by decide) ?_
      exact hB26 st ik (1 : Int32) H locs hP hD hS hf ls (lv_sub hl [0, 1] rfl)
  · have hf := oi_t c3 hf
    refine lv_iconst (v := (-1)) hx hb dX3_keep_10 (by decide) ?_
    obtain ⟨he1, he2, he3⟩ := prod3 hf
    rw [he2] at hP
    rw [he3] at hP
    exact wr_iret hx hb hr hlk he1 hP hS dX3_keep_11

abbrev rmX3_back : Room := { frames := 1, cells := 0, slots := 0, locals := 25 }
theorem hdX3_back : yX3_back.cls ≠ "java/lang/invoke/MethodHandle" ∧ yX3_back.cls ≠ "java/lang/invoke/VarHandle" ∧ (parseMethodDescriptor yX3_back.desc).map (fun d => d.parameters.length) = some 1 := by decide +kernel
abbrev qcX3_back (D : va_G) (k : Nat → ClassId) (ma : Nat → Nat) (mi : Nat → Int32) (st : Nat → Int32) (rp : Nat → Int32) (tp : Nat → Int32) (cr : Nat → Int32) (cw : Nat → Int32) (ik : Nat → Int32) (ln : Nat → Int32) (lg : Nat → Int32) (ce : Nat → Int64) (r : Int32) (A : Nat → Prop) : Array Value → State → Outcome → State → Prop := va_Qi (fun x (_ : Unit) => x = r) (fun _ t => va_P D vwCl (wM k ma mi st rp tp cr cw ik ln lg ce) t.heap) A
set_option maxHeartbeats 4000000 in
theorem mX3_back (l : Launch) (D : va_G) (k : Nat → ClassId) (ma : Nat → Nat) (mi : Nat → Int32) (st : Nat → Int32) (rp : Nat → Int32) (tp : Nat → Int32) (cr : Nat → Int32) (cw : Nat → Int32) (ik : Nat → Int32) (ln : Nat → Int32) (lg : Nat → Int32) (ce : Nat → Int64) (p1 : Int32) (sz : Nat) (r : Int32) (st_o : Nat → Int32) (hf : fX3_back st ik p1 = some (r, st_o)) : Met l yX3_back (ws_ yX3_back cX3_back 3 (some .int)) rmX3_back (wrP D k (wM k ma mi st rp tp cr cw ik ln lg ce) sz [.ref (ma 0), .int p1]) (qcX3_back D k ma mi st_o rp tp cr cw ik ln lg ce r (va_A (wM k ma mi st rp tp cr cw ik ln lg ce) sz)) 0 0 (va_A (wM k ma mi st rp tp cr cw ik ln lg ce) sz) := by
  refine wr_start (Qc := fun A => qcX3_back D k ma mi st_o rp tp cr cw ik ln lg ce r A) (by decide +kernel) (Nat.le_of_ble_eq_true rfl) ?_
  intro p e s m below meth c ls A hA hx hb hr hlk hml hown hts hP hK hD hl
  have hl : lv_has ls 3 [(0, .ref (ma 0)), (1, .int p1)] := hl
  have hown : s.vm.findClass RX3 = some m.cls := hown
  have hS : va_S A s.heap s.heap [] := va_S.rf
  suffices hw : ∀ (H : Heap) (locs : List Loc), va_P D vwCl (wM k ma mi st rp tp cr cw ik ln lg ce) H → va_S A s.heap H locs → gW p l e rmX3_back s m [.ref (ma 0), .int p1] below meth c (qcX3_back D k ma mi st_o rp tp cr cw ik ln lg ce r A) A 0 0 H locs 0 ls [] from hw s.heap [] hP hS
  clear hP hS
  intro H locs hP hS
  unfold fX3_back at hf
  refine lv_iload_n hx hb dX3_back_0 rfl (lv_at hl 1 rfl) ?_
  refine lv_i2l hx hb dX3_back_1 rfl ?_
  refine lv_lconst (v := 0) hx hb dX3_back_2 (by decide) ?_
  refine lv_lconst (v := 1) hx hb dX3_back_3 (by decide) ?_
  obtain ⟨v1, ev1, hf⟩ := ob hf
  refine rd_callSZ (As := [.long ((p1).toInt64), .long (0 : Int64), .long (1 : Int64)]) (rest := []) ⟨hx, hb, hml, hown, hts⟩ (mX3_in l D k   ((p1).toInt64) (0 : Int64) (1 : Int64) _ ev1) (va_cwS 3 hts (lw_S q999 q1000 q94 q1001) rfl rfl rfl hdX3_in ⟨Nat.le_of_ble_eq_true rfl, Nat.le_of_ble_eq_true rfl⟩) hK rfl hl.1 rfl (Nat.le_of_ble_eq_true rfl) dX3_back_4 ⟨Nat.le_of_ble_eq_true rfl, Nat.le_of_ble_eq_true rfl⟩ (fun zv1 => ?_)
  refine lv_if_ne (tgt := 12) hx hb dX3_back_7 (by decide) (fun c3 => ?_) (fun c3 => ?_)
  · have hf := oi_f c3 hf
    refine lv_aload_n hx hb dX3_back_12 rfl (lv_at hl 0 rfl) ?_
    refine va_get (D := D) (cl := vwCl) (ci := 3) (v := .ref (ma 6)) (C := RX3) (T := TX3) (N := 18) hx hb hts in_X3 hown hK.1 hP 0 rfl rfl 13 (by decide) (hts _ q951) (fun _ h9 => h9) rfl dX3_back_13 ?_
    refine lv_iload_n hx hb dX3_back_16 rfl (lv_at hl 1 rfl) ?_
    obtain ⟨v4, ev4, hf⟩ := ob hf
    refine x_zald hx hb hK hP 6 4 ev4 rfl rfl dX3_back_17 ?_
    refine lv_if_ne (tgt := 24) hx hb dX3_back_18 (by decide) (fun c5 => ?_) (fun c5 => ?_)
    · have hf := oi_f c5 hf
      refine lv_iconst (v := 0) hx hb dX3_back_24 (by decide) ?_
      refine lv_istore_n (lv' := [(2, .int (0 : Int32)), (0, .ref (ma 0)), (1, .int p1)]) hx hb dX3_back_25 rfl hl (by decide) rfl (fun ls hl => ?_)
      have hL26 : ∀ (nn : Nat) (st_26 : Nat → Int32) (x2_26 : Int32), ∀ (H : Heap) (locs : List Loc), va_P D vwCl (wM k ma mi st_26 rp tp cr cw ik ln lg ce) H → va_D A (wM k ma mi st_26 rp tp cr cw ik ln lg ce) → va_S A s.heap H locs → fX3_back_L26 ik p1 nn st_26 x2_26 = some (r, st_o) → ∀ ls : Array Slot, lv_has ls 3 [(0, .ref (ma 0)), (1, .int p1), (2, .int x2_26)] → gW p l e rmX3_back s m [.ref (ma 0), .int p1] below meth c (qcX3_back D k ma mi st_o rp tp cr cw ik ln lg ce r A) A 0 0 H locs 26 ls [] := by
        intro nn26
        induction nn26 with
        | zero =>
          intro st_26 x2_26 H locs hP hD hS hf
          rw [fX3_back_L26] at hf; cases hf
        | succ nn26 ih26 =>
          intro st_26 x2_26 H locs hP hD hS hf ls hl
          rw [fX3_back_L26] at hf
          refine lv_iload_n hx hb dX3_back_26 rfl (lv_at hl 2 rfl) ?_
          refine lv_sipush (v := 193) hx hb dX3_back_27 (by decide) ?_
          refine lv_icmp_ge (tgt := 61) hx hb dX3_back_30 (by decide) (fun c6 => ?_) (fun c6 => ?_)
          · have hf := oi_t c6 hf
            refine lv_aload_n hx hb dX3_back_61 rfl (lv_at hl 0 rfl) ?_
            obtain ⟨v7, ev7, hf⟩ := ob hf
            refine rd_callV (As := []) (rest := []) ⟨hx, hb, hml, hown, hts⟩ (mX3_many l D k ma mi st_26 rp tp cr cw ik ln lg ce  _ ev7) (cwV 0 hts (lw_V q1048 q1050 qs61 q94 q1051) rfl rfl rfl ⟨rfl, hdX3_many⟩ ⟨Nat.le_of_ble_eq_true rfl, Nat.le_of_ble_eq_true rfl⟩) hK hP [0, 1, 2, 3, 4, 5, 6, 7, 8, 9] rfl 0 3 rfl rfl rfl hl.1 rfl (Nat.le_of_ble_eq_true rfl) dX3_back_62 ⟨Nat.le_of_ble_eq_true rfl, Nat.le_of_ble_eq_true rfl⟩ ?_
            obtain ⟨he1, he2⟩ := prod2 hf
            rw [he2] at hP
            exact wr_iret hx hb hr hlk he1 hP hS dX3_back_65
          · have hf := oi_f c6 hf
            refine lv_aload_n hx hb dX3_back_33 rfl (lv_at hl 0 rfl) ?_
            refine va_get (D := D) (cl := vwCl) (ci := 3) (v := .ref (ma 1)) (C := RX3) (T := TX3) (N := 18) hx hb hts in_X3 hown hK.1 hP 0 rfl rfl 0 (by decide) (hts _ q938) (fun _ h9 => h9) rfl dX3_back_34 ?_
            refine lv_iload_n hx hb dX3_back_37 rfl (lv_at hl 2 rfl) ?_
            refine lv_aload_n hx hb dX3_back_38 rfl (lv_at hl 0 rfl) ?_
            refine va_get (D := D) (cl := vwCl) (ci := 3) (v := .ref (ma 1)) (C := RX3) (T := TX3) (N := 18) hx hb hts in_X3 hown hK.1 hP 0 rfl rfl 0 (by decide) (hts _ q938) (fun _ h9 => h9) rfl dX3_back_39 ?_
            refine lv_sipush (v := 193) hx hb dX3_back_42 (by decide) ?_
            refine lv_iload_n hx hb dX3_back_45 rfl (lv_at hl 1 rfl) ?_
            refine lv_imul hx hb dX3_back_46 ?_
            refine lv_sipush (v := 193) hx hb dX3_back_47 (by decide) ?_
            refine lv_iadd hx hb dX3_back_50 ?_
            refine lv_iload_n hx hb dX3_back_51 rfl (lv_at hl 2 rfl) ?_
            refine lv_iadd hx hb dX3_back_52 ?_
            obtain ⟨v9, ev9, hf⟩ := ob hf
            refine x_iald hx hb hK hP 1 1 ev9 rfl rfl dX3_back_53 ?_
            obtain ⟨u10, eu10, hf⟩ := ob hf
            refine x_iast hx hb hK hP hD hS 1 1 eu10 rfl rfl (wM k ma mi u10 rp tp cr cw ik ln lg ce) rfl dX3_back_54 (fun H locs hP hD hS => ?_)
            refine lv_iinc (v := (x2_26 + 1)) (lv' := [(2, .int (x2_26 + 1)), (0, .ref (ma 0)), (1, .int p1)]) hx hb dX3_back_55 hl (k := 2) rfl rfl (by decide) rfl (fun ls hl => ?_)
            refine lv_goto (tgt := 26) hx hb dX3_back_58 (by decide) ?_
            exact ih26 u10 (x2_26 + 1) H locs hP hD hS hf ls (lv_sub hl [1, 2, 0] rfl)
      exact hL26 FU st (0 : Int32) H locs hP hD hS hf ls (lv_sub hl [1, 2, 0] rfl)
    · have hf := oi_t c5 hf
      refine lv_bipush (v := (-2)) hx hb dX3_back_21 (by decide) ?_
      obtain ⟨he1, he2⟩ := prod2 hf
      rw [he2] at hP
      exact wr_iret hx hb hr hlk he1 hP hS dX3_back_23
  · have hf := oi_t c3 hf
    refine lv_iconst (v := (-1)) hx hb dX3_back_10 (by decide) ?_
    obtain ⟨he1, he2⟩ := prod2 hf
    rw [he2] at hP
    exact wr_iret hx hb hr hlk he1 hP hS dX3_back_11

abbrev rmX3_sheet : Room := { frames := 1, cells := 0, slots := 0, locals := 25 }
theorem hdX3_sheet : yX3_sheet.cls ≠ "java/lang/invoke/MethodHandle" ∧ yX3_sheet.cls ≠ "java/lang/invoke/VarHandle" ∧ (parseMethodDescriptor yX3_sheet.desc).map (fun d => d.parameters.length) = some 3 := by decide +kernel
abbrev qcX3_sheet (D : va_G) (k : Nat → ClassId) (ma : Nat → Nat) (mi : Nat → Int32) (st : Nat → Int32) (rp : Nat → Int32) (tp : Nat → Int32) (cr : Nat → Int32) (cw : Nat → Int32) (ik : Nat → Int32) (ln : Nat → Int32) (lg : Nat → Int32) (ce : Nat → Int64) (r : Int32) (A : Nat → Prop) : Array Value → State → Outcome → State → Prop := va_Qi (fun x (_ : Unit) => x = r) (fun _ t => va_P D vwCl (wM k ma mi st rp tp cr cw ik ln lg ce) t.heap) A
set_option maxHeartbeats 4000000 in
theorem mX3_sheet (l : Launch) (D : va_G) (k : Nat → ClassId) (ma : Nat → Nat) (mi : Nat → Int32) (st : Nat → Int32) (rp : Nat → Int32) (tp : Nat → Int32) (cr : Nat → Int32) (cw : Nat → Int32) (ik : Nat → Int32) (ln : Nat → Int32) (lg : Nat → Int32) (ce : Nat → Int64) (p1 : Int32) (p2 : Int32) (p3 : Int32) (sz : Nat) (r : Int32) (ln_o : Nat → Int32) (lg_o : Nat → Int32) (ce_o : Nat → Int64) (hf : fX3_sheet ln lg ce p1 p2 p3 = some (r, ln_o, lg_o, ce_o)) : Met l yX3_sheet (ws_ yX3_sheet cX3_sheet 5 (some .int)) rmX3_sheet (wrP D k (wM k ma mi st rp tp cr cw ik ln lg ce) sz [.ref (ma 0), .int p1, .int p2, .int p3]) (qcX3_sheet D k ma mi st rp tp cr cw ik ln_o lg_o ce_o r (va_A (wM k ma mi st rp tp cr cw ik ln lg ce) sz)) 0 0 (va_A (wM k ma mi st rp tp cr cw ik ln lg ce) sz) := by
  refine wr_start (Qc := fun A => qcX3_sheet D k ma mi st rp tp cr cw ik ln_o lg_o ce_o r A) (by decide +kernel) (Nat.le_of_ble_eq_true rfl) ?_
  intro p e s m below meth c ls A hA hx hb hr hlk hml hown hts hP hK hD hl
  have hl : lv_has ls 5 [(0, .ref (ma 0)), (1, .int p1), (2, .int p2), (3, .int p3)] := hl
  have hown : s.vm.findClass RX3 = some m.cls := hown
  have hS : va_S A s.heap s.heap [] := va_S.rf
  suffices hw : ∀ (H : Heap) (locs : List Loc), va_P D vwCl (wM k ma mi st rp tp cr cw ik ln lg ce) H → va_S A s.heap H locs → gW p l e rmX3_sheet s m [.ref (ma 0), .int p1, .int p2, .int p3] below meth c (qcX3_sheet D k ma mi st rp tp cr cw ik ln_o lg_o ce_o r A) A 0 0 H locs 0 ls [] from hw s.heap [] hP hS
  clear hP hS
  intro H locs hP hS
  unfold fX3_sheet at hf
  refine lv_iload_n hx hb dX3_sheet_0 rfl (lv_at hl 1 rfl) ?_
  refine lv_i2l hx hb dX3_sheet_1 rfl ?_
  refine lv_lconst (v := 0) hx hb dX3_sheet_2 (by decide) ?_
  refine lv_ldc2 hx hb hown (hts _ q1097) dX3_sheet_3 ?_
  obtain ⟨v1, ev1, hf⟩ := ob hf
  refine rd_callSZ (As := [.long ((p1).toInt64), .long (0 : Int64), .long (3 : Int64)]) (rest := []) ⟨hx, hb, hml, hown, hts⟩ (mX3_in l D k   ((p1).toInt64) (0 : Int64) (3 : Int64) _ ev1) (va_cwS 3 hts (lw_S q999 q1000 q94 q1001) rfl rfl rfl hdX3_in ⟨Nat.le_of_ble_eq_true rfl, Nat.le_of_ble_eq_true rfl⟩) hK rfl hl.1 rfl (Nat.le_of_ble_eq_true rfl) dX3_sheet_6 ⟨Nat.le_of_ble_eq_true rfl, Nat.le_of_ble_eq_true rfl⟩ (fun zv1 => ?_)
  refine lv_if_eq (tgt := 30) hx hb dX3_sheet_9 (by decide) (fun c3 => ?_) (fun c3 => ?_)
  · have hf := oi_t c3 hf
    refine lv_iconst (v := (-1)) hx hb dX3_sheet_30 (by decide) ?_
    obtain ⟨he1, he2, he3, he4⟩ := prod4 hf
    rw [he2] at hP
    rw [he3] at hP
    rw [he4] at hP
    exact wr_iret hx hb hr hlk he1 hP hS dX3_sheet_31
  · have hf := oi_f c3 hf
    refine lv_iload_n hx hb dX3_sheet_12 rfl (lv_at hl 2 rfl) ?_
    refine lv_i2l hx hb dX3_sheet_13 rfl ?_
    refine lv_lconst (v := 0) hx hb dX3_sheet_14 (by decide) ?_
    refine lv_ldc2 hx hb hown (hts _ q1068) dX3_sheet_15 ?_
    obtain ⟨v4, ev4, hf⟩ := ob hf
    refine rd_callSZ (As := [.long ((p2).toInt64), .long (0 : Int64), .long (2 : Int64)]) (rest := []) ⟨hx, hb, hml, hown, hts⟩ (mX3_in l D k   ((p2).toInt64) (0 : Int64) (2 : Int64) _ ev4) (va_cwS 3 hts (lw_S q999 q1000 q94 q1001) rfl rfl rfl hdX3_in ⟨Nat.le_of_ble_eq_true rfl, Nat.le_of_ble_eq_true rfl⟩) hK rfl hl.1 rfl (Nat.le_of_ble_eq_true rfl) dX3_sheet_18 ⟨Nat.le_of_ble_eq_true rfl, Nat.le_of_ble_eq_true rfl⟩ (fun zv4 => ?_)
    refine lv_if_eq (tgt := 30) hx hb dX3_sheet_21 (by decide) (fun c6 => ?_) (fun c6 => ?_)
    · have hf := oi_t c6 hf
      refine lv_iconst (v := (-1)) hx hb dX3_sheet_30 (by decide) ?_
      obtain ⟨he1, he2, he3, he4⟩ := prod4 hf
      rw [he2] at hP
      rw [he3] at hP
      rw [he4] at hP
      exact wr_iret hx hb hr hlk he1 hP hS dX3_sheet_31
    · have hf := oi_f c6 hf
      refine lv_iload_n hx hb dX3_sheet_24 rfl (lv_at hl 3 rfl) ?_
      refine lv_bipush (v := 40) hx hb dX3_sheet_25 (by decide) ?_
      refine lv_icmp_le (tgt := 32) hx hb dX3_sheet_27 (by decide) (fun c7 => ?_) (fun c7 => ?_)
      · have hf := oi_t c7 hf
        refine lv_iload_n hx hb dX3_sheet_32 rfl (lv_at hl 3 rfl) ?_
        refine lv_if_ge (tgt := 39) hx hb dX3_sheet_33 (by decide) (fun c8 => ?_) (fun c8 => ?_)
        · have hf := oi_t c8 hf
          refine lv_aload_n hx hb dX3_sheet_39 rfl (lv_at hl 0 rfl) ?_
          refine va_get (D := D) (cl := vwCl) (ci := 3) (v := .ref (ma 7)) (C := RX3) (T := TX3) (N := 18) hx hb hts in_X3 hown hK.1 hP 0 rfl rfl 14 (by decide) (hts _ q952) (fun _ h9 => h9) rfl dX3_sheet_40 ?_
          refine lv_iload_n hx hb dX3_sheet_43 rfl (lv_at hl 1 rfl) ?_
          refine lv_iload_n hx hb dX3_sheet_44 rfl (lv_at hl 2 rfl) ?_
          obtain ⟨u9, eu9, hf⟩ := ob hf
          refine x_iast hx hb hK hP hD hS 7 1 eu9 rfl rfl (wM k ma mi st rp tp cr cw ik u9 lg ce) rfl dX3_sheet_45 (fun H locs hP hD hS => ?_)
          refine lv_aload_n hx hb dX3_sheet_46 rfl (lv_at hl 0 rfl) ?_
          refine va_get (D := D) (cl := vwCl) (ci := 3) (v := .ref (ma 8)) (C := RX3) (T := TX3) (N := 18) hx hb hts in_X3 hown hK.1 hP 0 rfl rfl 15 (by decide) (hts _ q953) (fun _ h9 => h9) rfl dX3_sheet_47 ?_
          refine lv_iload_n hx hb dX3_sheet_50 rfl (lv_at hl 1 rfl) ?_
          refine lv_iload_n hx hb dX3_sheet_51 rfl (lv_at hl 3 rfl) ?_
          obtain ⟨u10, eu10, hf⟩ := ob hf
          refine x_iast hx hb hK hP hD hS 8 1 eu10 rfl rfl (wM k ma mi st rp tp cr cw ik u9 u10 ce) rfl dX3_sheet_52 (fun H locs hP hD hS => ?_)
          refine lv_iconst (v := 0) hx hb dX3_sheet_53 (by decide) ?_
          refine lv_istore (lv' := [(4, .int (0 : Int32)), (0, .ref (ma 0)), (1, .int p1), (2, .int p2), (3, .int p3)]) hx hb dX3_sheet_54 hl (by decide) rfl (fun ls hl => ?_)
          have hL56 : ∀ (nn : Nat) (ln_56 : Nat → Int32) (lg_56 : Nat → Int32) (ce_56 : Nat → Int64) (x4_56 : Int32), ∀ (H : Heap) (locs : List Loc), va_P D vwCl (wM k ma mi st rp tp cr cw ik ln_56 lg_56 ce_56) H → va_D A (wM k ma mi st rp tp cr cw ik ln_56 lg_56 ce_56) → va_S A s.heap H locs → fX3_sheet_L56 p1 p2 p3 nn ln_56 lg_56 ce_56 x4_56 = some (r, ln_o, lg_o, ce_o) → ∀ ls : Array Slot, lv_has ls 5 [(0, .ref (ma 0)), (1, .int p1), (4, .int x4_56)] → gW p l e rmX3_sheet s m [.ref (ma 0), .int p1, .int p2, .int p3] below meth c (qcX3_sheet D k ma mi st rp tp cr cw ik ln_o lg_o ce_o r A) A 0 0 H locs 56 ls [] := by
            intro nn56
            induction nn56 with
            | zero =>
              intro ln_56 lg_56 ce_56 x4_56 H locs hP hD hS hf
              rw [fX3_sheet_L56] at hf; cases hf
            | succ nn56 ih56 =>
              intro ln_56 lg_56 ce_56 x4_56 H locs hP hD hS hf ls hl
              rw [fX3_sheet_L56] at hf
              refine lv_iload hx hb dX3_sheet_56 (lv_at hl 2 rfl) ?_
              refine lv_bipush (v := 40) hx hb dX3_sheet_58 (by decide) ?_
              refine lv_icmp_ge (tgt := 82) hx hb dX3_sheet_60 (by decide) (fun c11 => ?_) (fun c11 => ?_)
              · have hf := oi_t c11 hf
                refine lv_iconst (v := 1) hx hb dX3_sheet_82 (by decide) ?_
                obtain ⟨he1, he2, he3, he4⟩ := prod4 hf
                rw [he2] at hP
                rw [he3] at hP
                rw [he4] at hP
                exact wr_iret hx hb hr hlk he1 hP hS dX3_sheet_83
              · have hf := oi_f c11 hf
                refine lv_aload_n hx hb dX3_sheet_63 rfl (lv_at hl 0 rfl) ?_
                refine va_get (D := D) (cl := vwCl) (ci := 3) (v := .ref (ma 9)) (C := RX3) (T := TX3) (N := 18) hx hb hts in_X3 hown hK.1 hP 0 rfl rfl 16 (by decide) (hts _ q954) (fun _ h9 => h9) rfl dX3_sheet_64 ?_
                refine lv_bipush (v := 40) hx hb dX3_sheet_67 (by decide) ?_
                refine lv_iload_n hx hb dX3_sheet_69 rfl (lv_at hl 1 rfl) ?_
                refine lv_imul hx hb dX3_sheet_70 ?_
                refine lv_iload hx hb dX3_sheet_71 (lv_at hl 2 rfl) ?_
                refine lv_iadd hx hb dX3_sheet_73 ?_
                refine lv_lconst (v := 0) hx hb dX3_sheet_74 (by decide) ?_
                obtain ⟨u12, eu12, hf⟩ := ob hf
                refine x_last hx hb hK hP hD hS 9 0 eu12 rfl rfl (wM k ma mi st rp tp cr cw ik ln_56 lg_56 u12) rfl dX3_sheet_75 (fun H locs hP hD hS => ?_)
                refine lv_iinc (v := (x4_56 + 1)) (lv' := [(4, .int (x4_56 + 1)), (0, .ref (ma 0)), (1, .int p1)]) hx hb dX3_sheet_76 hl (k := 2) rfl rfl (by decide) rfl (fun ls hl => ?_)
                refine lv_goto (tgt := 56) hx hb dX3_sheet_79 (by decide) ?_
                exact ih56 ln_56 lg_56 u12 (x4_56 + 1) H locs hP hD hS hf ls (lv_sub hl [1, 2, 0] rfl)
          exact hL56 FU u9 u10 ce (0 : Int32) H locs hP hD hS hf ls (lv_sub hl [1, 2, 0] rfl)
        · have hf := oi_f c8 hf
          refine lv_bipush (v := (-14)) hx hb dX3_sheet_36 (by decide) ?_
          obtain ⟨he1, he2, he3, he4⟩ := prod4 hf
          rw [he2] at hP
          rw [he3] at hP
          rw [he4] at hP
          exact wr_iret hx hb hr hlk he1 hP hS dX3_sheet_38
      · have hf := oi_f c7 hf
        refine lv_iconst (v := (-1)) hx hb dX3_sheet_30 (by decide) ?_
        obtain ⟨he1, he2, he3, he4⟩ := prod4 hf
        rw [he2] at hP
        rw [he3] at hP
        rw [he4] at hP
        exact wr_iret hx hb hr hlk he1 hP hS dX3_sheet_31

abbrev rmX3_narrowed : Room := { frames := 0, cells := 0, slots := 0, locals := 0 }
theorem hdX3_narrowed : yX3_narrowed.cls ≠ "java/lang/invoke/MethodHandle" ∧ yX3_narrowed.cls ≠ "java/lang/invoke/VarHandle" ∧ (parseMethodDescriptor yX3_narrowed.desc).map (fun d => d.parameters.length) = some 2 := by decide +kernel
set_option maxHeartbeats 4000000 in
theorem mX3_narrowed (l : Launch) (D : va_G) (k : Nat → ClassId) (p1 : Int32) (p2 : Int64) (r : Int64) (hf : fX3_narrowed p1 p2 = some r) : CtL l yX3_narrowed cX3_narrowed 3 rmX3_narrowed [.int p1, .long p2] D k [] r := by
  refine rd_start (by decide +kernel) (Nat.le_of_ble_eq_true rfl) ?_
  intro p e s m below meth c ls hx hb hr hlk hml hown hts hP hK hl
  have hl : lv_has ls 3 [(0, .int p1), (1, .long p2)] := hl
  have hown : s.vm.findClass RX3 = some m.cls := hown
  unfold fX3_narrowed at hf
  refine lv_iload_n hx hb dX3_narrowed_0 rfl (lv_at hl 0 rfl) ?_
  refine lv_if_ne (tgt := 14) hx hb dX3_narrowed_1 (by decide) (fun c1 => ?_) (fun c1 => ?_)
  · have hf := oi_f c1 hf
    refine lv_iload_n hx hb dX3_narrowed_14 rfl (lv_at hl 0 rfl) ?_
    refine lv_iconst (v := 1) hx hb dX3_narrowed_15 (by decide) ?_
    refine lv_icmp_ne (tgt := 29) hx hb dX3_narrowed_16 (by decide) (fun c2 => ?_) (fun c2 => ?_)
    · have hf := oi_f c2 hf
      refine lv_lload_n hx hb dX3_narrowed_29 rfl (lv_at hl 1 rfl) ?_
      exact rd_lret hx hb hr hlk (Option.some.inj hf) dX3_narrowed_30
    · have hf := oi_t c2 hf
      refine lv_lload_n hx hb dX3_narrowed_19 rfl (lv_at hl 1 rfl) ?_
      refine lv_bipush (v := 32) hx hb dX3_narrowed_20 (by decide) ?_
      refine lv_lshl hx hb dX3_narrowed_22 rfl ?_
      refine lv_bipush (v := 32) hx hb dX3_narrowed_23 (by decide) ?_
      refine lv_lshr hx hb dX3_narrowed_25 rfl ?_
      refine lv_goto (tgt := 30) hx hb dX3_narrowed_26 (by decide) ?_
      exact rd_lret hx hb hr hlk (Option.some.inj hf) dX3_narrowed_30
  · have hf := oi_t c1 hf
    refine lv_lload_n hx hb dX3_narrowed_4 rfl (lv_at hl 1 rfl) ?_
    refine lv_bipush (v := 56) hx hb dX3_narrowed_5 (by decide) ?_
    refine lv_lshl hx hb dX3_narrowed_7 rfl ?_
    refine lv_bipush (v := 56) hx hb dX3_narrowed_8 (by decide) ?_
    refine lv_lshr hx hb dX3_narrowed_10 rfl ?_
    refine lv_goto (tgt := 30) hx hb dX3_narrowed_11 (by decide) ?_
    exact rd_lret hx hb hr hlk (Option.some.inj hf) dX3_narrowed_30

abbrev rmX3_lay : Room := { frames := 1, cells := 0, slots := 0, locals := 25 }
theorem hdX3_lay : yX3_lay.cls ≠ "java/lang/invoke/MethodHandle" ∧ yX3_lay.cls ≠ "java/lang/invoke/VarHandle" ∧ (parseMethodDescriptor yX3_lay.desc).map (fun d => d.parameters.length) = some 3 := by decide +kernel
abbrev qcX3_lay (D : va_G) (k : Nat → ClassId) (ma : Nat → Nat) (mi : Nat → Int32) (st : Nat → Int32) (rp : Nat → Int32) (tp : Nat → Int32) (cr : Nat → Int32) (cw : Nat → Int32) (ik : Nat → Int32) (ln : Nat → Int32) (lg : Nat → Int32) (ce : Nat → Int64) (r : Int32) (A : Nat → Prop) : Array Value → State → Outcome → State → Prop := va_Qi (fun x (_ : Unit) => x = r) (fun _ t => va_P D vwCl (wM k ma mi st rp tp cr cw ik ln lg ce) t.heap) A
set_option maxHeartbeats 4000000 in
theorem mX3_lay (l : Launch) (D : va_G) (k : Nat → ClassId) (ma : Nat → Nat) (mi : Nat → Int32) (st : Nat → Int32) (rp : Nat → Int32) (tp : Nat → Int32) (cr : Nat → Int32) (cw : Nat → Int32) (ik : Nat → Int32) (ln : Nat → Int32) (lg : Nat → Int32) (ce : Nat → Int64) (p1 : Int32) (p2 : Int32) (p3 : Int64) (sz : Nat) (r : Int32) (ce_o : Nat → Int64) (hf : fX3_lay ln lg ce p1 p2 p3 = some (r, ce_o)) : Met l yX3_lay (ws_ yX3_lay cX3_lay 5 (some .int)) rmX3_lay (wrP D k (wM k ma mi st rp tp cr cw ik ln lg ce) sz [.ref (ma 0), .int p1, .int p2, .long p3]) (qcX3_lay D k ma mi st rp tp cr cw ik ln lg ce_o r (va_A (wM k ma mi st rp tp cr cw ik ln lg ce) sz)) 0 0 (va_A (wM k ma mi st rp tp cr cw ik ln lg ce) sz) := by
  refine wr_start (Qc := fun A => qcX3_lay D k ma mi st rp tp cr cw ik ln lg ce_o r A) (by decide +kernel) (Nat.le_of_ble_eq_true rfl) ?_
  intro p e s m below meth c ls A hA hx hb hr hlk hml hown hts hP hK hD hl
  have hl : lv_has ls 5 [(0, .ref (ma 0)), (1, .int p1), (2, .int p2), (3, .long p3)] := hl
  have hown : s.vm.findClass RX3 = some m.cls := hown
  have hS : va_S A s.heap s.heap [] := va_S.rf
  suffices hw : ∀ (H : Heap) (locs : List Loc), va_P D vwCl (wM k ma mi st rp tp cr cw ik ln lg ce) H → va_S A s.heap H locs → gW p l e rmX3_lay s m [.ref (ma 0), .int p1, .int p2, .long p3] below meth c (qcX3_lay D k ma mi st rp tp cr cw ik ln lg ce_o r A) A 0 0 H locs 0 ls [] from hw s.heap [] hP hS
  clear hP hS
  intro H locs hP hS
  unfold fX3_lay at hf
  refine lv_iload_n hx hb dX3_lay_0 rfl (lv_at hl 1 rfl) ?_
  refine lv_i2l hx hb dX3_lay_1 rfl ?_
  refine lv_lconst (v := 0) hx hb dX3_lay_2 (by decide) ?_
  refine lv_ldc2 hx hb hown (hts _ q1097) dX3_lay_3 ?_
  obtain ⟨v1, ev1, hf⟩ := ob hf
  refine rd_callSZ (As := [.long ((p1).toInt64), .long (0 : Int64), .long (3 : Int64)]) (rest := []) ⟨hx, hb, hml, hown, hts⟩ (mX3_in l D k   ((p1).toInt64) (0 : Int64) (3 : Int64) _ ev1) (va_cwS 3 hts (lw_S q999 q1000 q94 q1001) rfl rfl rfl hdX3_in ⟨Nat.le_of_ble_eq_true rfl, Nat.le_of_ble_eq_true rfl⟩) hK rfl hl.1 rfl (Nat.le_of_ble_eq_true rfl) dX3_lay_6 ⟨Nat.le_of_ble_eq_true rfl, Nat.le_of_ble_eq_true rfl⟩ (fun zv1 => ?_)
  refine lv_if_ne (tgt := 14) hx hb dX3_lay_9 (by decide) (fun c3 => ?_) (fun c3 => ?_)
  · have hf := oi_f c3 hf
    refine lv_aload_n hx hb dX3_lay_14 rfl (lv_at hl 0 rfl) ?_
    refine va_get (D := D) (cl := vwCl) (ci := 3) (v := .ref (ma 7)) (C := RX3) (T := TX3) (N := 18) hx hb hts in_X3 hown hK.1 hP 0 rfl rfl 14 (by decide) (hts _ q952) (fun _ h9 => h9) rfl dX3_lay_15 ?_
    refine lv_iload_n hx hb dX3_lay_18 rfl (lv_at hl 1 rfl) ?_
    obtain ⟨v4, ev4, hf⟩ := ob hf
    refine x_iald hx hb hK hP 7 1 ev4 rfl rfl dX3_lay_19 ?_
    refine lv_bipush (v := (-4)) hx hb dX3_lay_20 (by decide) ?_
    refine lv_icmp_ne (tgt := 28) hx hb dX3_lay_22 (by decide) (fun c5 => ?_) (fun c5 => ?_)
    · have hf := oi_f c5 hf
      refine lv_iload_n hx hb dX3_lay_28 rfl (lv_at hl 2 rfl) ?_
      refine lv_i2l hx hb dX3_lay_29 rfl ?_
      refine lv_lconst (v := 0) hx hb dX3_lay_30 (by decide) ?_
      refine lv_aload_n hx hb dX3_lay_31 rfl (lv_at hl 0 rfl) ?_
      refine va_get (D := D) (cl := vwCl) (ci := 3) (v := .ref (ma 8)) (C := RX3) (T := TX3) (N := 18) hx hb hts in_X3 hown hK.1 hP 0 rfl rfl 15 (by decide) (hts _ q953) (fun _ h9 => h9) rfl dX3_lay_32 ?_
      refine lv_iload_n hx hb dX3_lay_35 rfl (lv_at hl 1 rfl) ?_
      obtain ⟨v6, ev6, hf⟩ := ob hf
      refine x_iald hx hb hK hP 8 1 ev6 rfl rfl dX3_lay_36 ?_
      refine lv_iconst (v := 1) hx hb dX3_lay_37 (by decide) ?_
      refine lv_isub hx hb dX3_lay_38 ?_
      refine lv_i2l hx hb dX3_lay_39 rfl ?_
      obtain ⟨v7, ev7, hf⟩ := ob hf
      refine rd_callSZ (As := [.long ((p2).toInt64), .long (0 : Int64), .long (((v6 - (1 : Int32))).toInt64)]) (rest := []) ⟨hx, hb, hml, hown, hts⟩ (mX3_in l D k   ((p2).toInt64) (0 : Int64) (((v6 - (1 : Int32))).toInt64) _ ev7) (va_cwS 3 hts (lw_S q999 q1000 q94 q1001) rfl rfl rfl hdX3_in ⟨Nat.le_of_ble_eq_true rfl, Nat.le_of_ble_eq_true rfl⟩) hK rfl hl.1 rfl (Nat.le_of_ble_eq_true rfl) dX3_lay_40 ⟨Nat.le_of_ble_eq_true rfl, Nat.le_of_ble_eq_true rfl⟩ (fun zv7 => ?_)
      refine lv_if_ne (tgt := 49) hx hb dX3_lay_43 (by decide) (fun c9 => ?_) (fun c9 => ?_)
      · have hf := oi_f c9 hf
        refine lv_aload_n hx hb dX3_lay_49 rfl (lv_at hl 0 rfl) ?_
        refine va_get (D := D) (cl := vwCl) (ci := 3) (v := .ref (ma 9)) (C := RX3) (T := TX3) (N := 18) hx hb hts in_X3 hown hK.1 hP 0 rfl rfl 16 (by decide) (hts _ q954) (fun _ h9 => h9) rfl dX3_lay_50 ?_
        refine lv_bipush (v := 40) hx hb dX3_lay_53 (by decide) ?_
        refine lv_iload_n hx hb dX3_lay_55 rfl (lv_at hl 1 rfl) ?_
        refine lv_imul hx hb dX3_lay_56 ?_
        refine lv_iload_n hx hb dX3_lay_57 rfl (lv_at hl 2 rfl) ?_
        refine lv_iadd hx hb dX3_lay_58 ?_
        refine lv_aload_n hx hb dX3_lay_59 rfl (lv_at hl 0 rfl) ?_
        refine va_get (D := D) (cl := vwCl) (ci := 3) (v := .ref (ma 7)) (C := RX3) (T := TX3) (N := 18) hx hb hts in_X3 hown hK.1 hP 0 rfl rfl 14 (by decide) (hts _ q952) (fun _ h9 => h9) rfl dX3_lay_60 ?_
        refine lv_iload_n hx hb dX3_lay_63 rfl (lv_at hl 1 rfl) ?_
        obtain ⟨v10, ev10, hf⟩ := ob hf
        refine x_iald hx hb hK hP 7 1 ev10 rfl rfl dX3_lay_64 ?_
        refine lv_lload_n hx hb dX3_lay_65 rfl (lv_at hl 3 rfl) ?_
        obtain ⟨v11, ev11, hf⟩ := ob hf
        refine rd_callSL (As := [.int v10, .long p3]) (rest := [.int (((40 : Int32) * p1) + p2), .ref (ma 9)]) ⟨hx, hb, hml, hown, hts⟩ (mX3_narrowed l D k   v10 p3 _ ev11) (va_cwS 2 hts (lw_S q1300 q1301 q94 q1302) rfl rfl rfl hdX3_narrowed ⟨Nat.le_of_ble_eq_true rfl, Nat.le_of_ble_eq_true rfl⟩) hK rfl hl.1 rfl (Nat.le_of_ble_eq_true rfl) dX3_lay_66 ⟨Nat.le_of_ble_eq_true rfl, Nat.le_of_ble_eq_true rfl⟩ ?_
        obtain ⟨u13, eu13, hf⟩ := ob hf
        refine x_last hx hb hK hP hD hS 9 0 eu13 rfl rfl (wM k ma mi st rp tp cr cw ik ln lg u13) rfl dX3_lay_69 (fun H locs hP hD hS => ?_)
        refine lv_iconst (v := 1) hx hb dX3_lay_70 (by decide) ?_
        obtain ⟨he1, he2⟩ := prod2 hf
        rw [he2] at hP
        exact wr_iret hx hb hr hlk he1 hP hS dX3_lay_71
      · have hf := oi_t c9 hf
        refine lv_bipush (v := (-12)) hx hb dX3_lay_46 (by decide) ?_
        obtain ⟨he1, he2⟩ := prod2 hf
        rw [he2] at hP
        exact wr_iret hx hb hr hlk he1 hP hS dX3_lay_48
    · have hf := oi_t c5 hf
      refine lv_bipush (v := (-11)) hx hb dX3_lay_25 (by decide) ?_
      obtain ⟨he1, he2⟩ := prod2 hf
      rw [he2] at hP
      exact wr_iret hx hb hr hlk he1 hP hS dX3_lay_27
  · have hf := oi_t c3 hf
    refine lv_iconst (v := (-1)) hx hb dX3_lay_12 (by decide) ?_
    obtain ⟨he1, he2⟩ := prod2 hf
    rw [he2] at hP
    exact wr_iret hx hb hr hlk he1 hP hS dX3_lay_13

abbrev rmX3_look : Room := { frames := 1, cells := 0, slots := 0, locals := 25 }
theorem hdX3_look : yX3_look.cls ≠ "java/lang/invoke/MethodHandle" ∧ yX3_look.cls ≠ "java/lang/invoke/VarHandle" ∧ (parseMethodDescriptor yX3_look.desc).map (fun d => d.parameters.length) = some 2 := by decide +kernel
set_option maxHeartbeats 4000000 in
theorem mX3_look (l : Launch) (D : va_G) (k : Nat → ClassId) (ma : Nat → Nat) (mi : Nat → Int32) (st : Nat → Int32) (rp : Nat → Int32) (tp : Nat → Int32) (cr : Nat → Int32) (cw : Nat → Int32) (ik : Nat → Int32) (ln : Nat → Int32) (lg : Nat → Int32) (ce : Nat → Int64) (p1 : Int32) (p2 : Int32) (r : Int64) (hf : fX3_look ln lg ce p1 p2 = some r) : CtL l yX3_look cX3_look 3 rmX3_look [.ref (ma 0), .int p1, .int p2] D k (wM k ma mi st rp tp cr cw ik ln lg ce) r := by
  refine rd_start (by decide +kernel) (Nat.le_of_ble_eq_true rfl) ?_
  intro p e s m below meth c ls hx hb hr hlk hml hown hts hP hK hl
  have hl : lv_has ls 3 [(0, .ref (ma 0)), (1, .int p1), (2, .int p2)] := hl
  have hown : s.vm.findClass RX3 = some m.cls := hown
  unfold fX3_look at hf
  refine lv_iload_n hx hb dX3_look_0 rfl (lv_at hl 1 rfl) ?_
  refine lv_i2l hx hb dX3_look_1 rfl ?_
  refine lv_lconst (v := 0) hx hb dX3_look_2 (by decide) ?_
  refine lv_ldc2 hx hb hown (hts _ q1097) dX3_look_3 ?_
  obtain ⟨v1, ev1, hf⟩ := ob hf
  refine rd_callSZ (As := [.long ((p1).toInt64), .long (0 : Int64), .long (3 : Int64)]) (rest := []) ⟨hx, hb, hml, hown, hts⟩ (mX3_in l D k   ((p1).toInt64) (0 : Int64) (3 : Int64) _ ev1) (va_cwS 3 hts (lw_S q999 q1000 q94 q1001) rfl rfl rfl hdX3_in ⟨Nat.le_of_ble_eq_true rfl, Nat.le_of_ble_eq_true rfl⟩) hK rfl hl.1 rfl (Nat.le_of_ble_eq_true rfl) dX3_look_6 ⟨Nat.le_of_ble_eq_true rfl, Nat.le_of_ble_eq_true rfl⟩ (fun zv1 => ?_)
  refine lv_if_eq (tgt := 55) hx hb dX3_look_9 (by decide) (fun c3 => ?_) (fun c3 => ?_)
  · have hf := oi_t c3 hf
    refine lv_lconst (v := 0) hx hb dX3_look_55 (by decide) ?_
    exact rd_lret hx hb hr hlk (Option.some.inj hf) dX3_look_56
  · have hf := oi_f c3 hf
    refine lv_aload_n hx hb dX3_look_12 rfl (lv_at hl 0 rfl) ?_
    refine va_get (D := D) (cl := vwCl) (ci := 3) (v := .ref (ma 7)) (C := RX3) (T := TX3) (N := 18) hx hb hts in_X3 hown hK.1 hP 0 rfl rfl 14 (by decide) (hts _ q952) (fun _ h9 => h9) rfl dX3_look_13 ?_
    refine lv_iload_n hx hb dX3_look_16 rfl (lv_at hl 1 rfl) ?_
    obtain ⟨v4, ev4, hf⟩ := ob hf
    refine x_iald hx hb hK hP 7 1 ev4 rfl rfl dX3_look_17 ?_
    refine lv_bipush (v := (-4)) hx hb dX3_look_18 (by decide) ?_
    refine lv_icmp_eq (tgt := 55) hx hb dX3_look_20 (by decide) (fun c5 => ?_) (fun c5 => ?_)
    · have hf := oi_t c5 hf
      refine lv_lconst (v := 0) hx hb dX3_look_55 (by decide) ?_
      exact rd_lret hx hb hr hlk (Option.some.inj hf) dX3_look_56
    · have hf := oi_f c5 hf
      refine lv_iload_n hx hb dX3_look_23 rfl (lv_at hl 2 rfl) ?_
      refine lv_i2l hx hb dX3_look_24 rfl ?_
      refine lv_lconst (v := 0) hx hb dX3_look_25 (by decide) ?_
      refine lv_aload_n hx hb dX3_look_26 rfl (lv_at hl 0 rfl) ?_
      refine va_get (D := D) (cl := vwCl) (ci := 3) (v := .ref (ma 8)) (C := RX3) (T := TX3) (N := 18) hx hb hts in_X3 hown hK.1 hP 0 rfl rfl 15 (by decide) (hts _ q953) (fun _ h9 => h9) rfl dX3_look_27 ?_
      refine lv_iload_n hx hb dX3_look_30 rfl (lv_at hl 1 rfl) ?_
      obtain ⟨v6, ev6, hf⟩ := ob hf
      refine x_iald hx hb hK hP 8 1 ev6 rfl rfl dX3_look_31 ?_
      refine lv_iconst (v := 1) hx hb dX3_look_32 (by decide) ?_
      refine lv_isub hx hb dX3_look_33 ?_
      refine lv_i2l hx hb dX3_look_34 rfl ?_
      obtain ⟨v7, ev7, hf⟩ := ob hf
      refine rd_callSZ (As := [.long ((p2).toInt64), .long (0 : Int64), .long (((v6 - (1 : Int32))).toInt64)]) (rest := []) ⟨hx, hb, hml, hown, hts⟩ (mX3_in l D k   ((p2).toInt64) (0 : Int64) (((v6 - (1 : Int32))).toInt64) _ ev7) (va_cwS 3 hts (lw_S q999 q1000 q94 q1001) rfl rfl rfl hdX3_in ⟨Nat.le_of_ble_eq_true rfl, Nat.le_of_ble_eq_true rfl⟩) hK rfl hl.1 rfl (Nat.le_of_ble_eq_true rfl) dX3_look_35 ⟨Nat.le_of_ble_eq_true rfl, Nat.le_of_ble_eq_true rfl⟩ (fun zv7 => ?_)
      refine lv_if_eq (tgt := 55) hx hb dX3_look_38 (by decide) (fun c9 => ?_) (fun c9 => ?_)
      · have hf := oi_t c9 hf
        refine lv_lconst (v := 0) hx hb dX3_look_55 (by decide) ?_
        exact rd_lret hx hb hr hlk (Option.some.inj hf) dX3_look_56
      · have hf := oi_f c9 hf
        refine lv_aload_n hx hb dX3_look_41 rfl (lv_at hl 0 rfl) ?_
        refine va_get (D := D) (cl := vwCl) (ci := 3) (v := .ref (ma 9)) (C := RX3) (T := TX3) (N := 18) hx hb hts in_X3 hown hK.1 hP 0 rfl rfl 16 (by decide) (hts _ q954) (fun _ h9 => h9) rfl dX3_look_42 ?_
        refine lv_bipush (v := 40) hx hb dX3_look_45 (by decide) ?_
        refine lv_iload_n hx hb dX3_look_47 rfl (lv_at hl 1 rfl) ?_
        refine lv_imul hx hb dX3_look_48 ?_
        refine lv_iload_n hx hb dX3_look_49 rfl (lv_at hl 2 rfl) ?_
        refine lv_iadd hx hb dX3_look_50 ?_
        obtain ⟨v10, ev10, hf⟩ := ob hf
        refine x_lald hx hb hK hP 9 0 ev10 rfl rfl dX3_look_51 ?_
        refine lv_goto (tgt := 56) hx hb dX3_look_52 (by decide) ?_
        exact rd_lret hx hb hr hlk (Option.some.inj hf) dX3_look_56

abbrev rmX3_wide : Room := { frames := 0, cells := 0, slots := 0, locals := 0 }
theorem hdX3_wide : yX3_wide.cls ≠ "java/lang/invoke/MethodHandle" ∧ yX3_wide.cls ≠ "java/lang/invoke/VarHandle" ∧ (parseMethodDescriptor yX3_wide.desc).map (fun d => d.parameters.length) = some 1 := by decide +kernel
set_option maxHeartbeats 4000000 in
theorem mX3_wide (l : Launch) (D : va_G) (k : Nat → ClassId) (p1 : Int32) (r : Int32) (hf : fX3_wide p1 = some r) : CtI l yX3_wide cX3_wide 1 rmX3_wide [.int p1] D k [] r := by
  refine rd_start (by decide +kernel) (Nat.le_of_ble_eq_true rfl) ?_
  intro p e s m below meth c ls hx hb hr hlk hml hown hts hP hK hl
  have hl : lv_has ls 1 [(0, .int p1)] := hl
  have hown : s.vm.findClass RX3 = some m.cls := hown
  unfold fX3_wide at hf
  refine lv_iload_n hx hb dX3_wide_0 rfl (lv_at hl 0 rfl) ?_
  refine lv_if_ne (tgt := 9) hx hb dX3_wide_1 (by decide) (fun c1 => ?_) (fun c1 => ?_)
  · have hf := oi_f c1 hf
    refine lv_iload_n hx hb dX3_wide_9 rfl (lv_at hl 0 rfl) ?_
    refine lv_iconst (v := 1) hx hb dX3_wide_10 (by decide) ?_
    refine lv_icmp_ne (tgt := 19) hx hb dX3_wide_11 (by decide) (fun c2 => ?_) (fun c2 => ?_)
    · have hf := oi_f c2 hf
      refine lv_bipush (v := 64) hx hb dX3_wide_19 (by decide) ?_
      exact rd_iret hx hb hr hlk (Option.some.inj hf) dX3_wide_21
    · have hf := oi_t c2 hf
      refine lv_bipush (v := 32) hx hb dX3_wide_14 (by decide) ?_
      refine lv_goto (tgt := 21) hx hb dX3_wide_16 (by decide) ?_
      exact rd_iret hx hb hr hlk (Option.some.inj hf) dX3_wide_21
  · have hf := oi_t c1 hf
    refine lv_bipush (v := 8) hx hb dX3_wide_4 (by decide) ?_
    refine lv_goto (tgt := 21) hx hb dX3_wide_6 (by decide) ?_
    exact rd_iret hx hb hr hlk (Option.some.inj hf) dX3_wide_21

abbrev rmX3_foundAt : Room := { frames := 1, cells := 0, slots := 0, locals := 20 }
theorem hdX3_foundAt : yX3_foundAt.cls ≠ "java/lang/invoke/MethodHandle" ∧ yX3_foundAt.cls ≠ "java/lang/invoke/VarHandle" ∧ (parseMethodDescriptor yX3_foundAt.desc).map (fun d => d.parameters.length) = some 3 := by decide +kernel
set_option maxHeartbeats 4000000 in
theorem mX3_foundAt (l : Launch) (D : va_G) (k : Nat → ClassId) (ma : Nat → Nat) (mi : Nat → Int32) (st : Nat → Int32) (rp : Nat → Int32) (tp : Nat → Int32) (cr : Nat → Int32) (cw : Nat → Int32) (ik : Nat → Int32) (ln : Nat → Int32) (lg : Nat → Int32) (ce : Nat → Int64) (p1 : Int32) (p2 : Int32) (p3 : Int64) (r : Int32) (hf : fX3_foundAt ln lg p1 p2 p3 = some r) : CtI l yX3_foundAt cX3_foundAt 5 rmX3_foundAt [.ref (ma 0), .int p1, .int p2, .long p3] D k (wM k ma mi st rp tp cr cw ik ln lg ce) r := by
  refine rd_start (by decide +kernel) (Nat.le_of_ble_eq_true rfl) ?_
  intro p e s m below meth c ls hx hb hr hlk hml hown hts hP hK hl
  have hl : lv_has ls 5 [(0, .ref (ma 0)), (1, .int p1), (2, .int p2), (3, .long p3)] := hl
  have hown : s.vm.findClass RX3 = some m.cls := hown
  unfold fX3_foundAt at hf
  refine lv_aload_n hx hb dX3_foundAt_0 rfl (lv_at hl 0 rfl) ?_
  refine va_get (D := D) (cl := vwCl) (ci := 3) (v := .ref (ma 7)) (C := RX3) (T := TX3) (N := 18) hx hb hts in_X3 hown hK.1 hP 0 rfl rfl 14 (by decide) (hts _ q952) (fun _ h9 => h9) rfl dX3_foundAt_1 ?_
  refine lv_iload_n hx hb dX3_foundAt_4 rfl (lv_at hl 1 rfl) ?_
  obtain ⟨v1, ev1, hf⟩ := ob hf
  refine x_iald hx hb hK hP 7 1 ev1 rfl rfl dX3_foundAt_5 ?_
  refine lv_bipush (v := (-4)) hx hb dX3_foundAt_6 (by decide) ?_
  refine lv_icmp_ne (tgt := 15) hx hb dX3_foundAt_8 (by decide) (fun c2 => ?_) (fun c2 => ?_)
  · have hf := oi_f c2 hf
    refine lv_aload_n hx hb dX3_foundAt_15 rfl (lv_at hl 0 rfl) ?_
    refine va_get (D := D) (cl := vwCl) (ci := 3) (v := .ref (ma 7)) (C := RX3) (T := TX3) (N := 18) hx hb hts in_X3 hown hK.1 hP 0 rfl rfl 14 (by decide) (hts _ q952) (fun _ h9 => h9) rfl dX3_foundAt_16 ?_
    refine lv_iload_n hx hb dX3_foundAt_19 rfl (lv_at hl 1 rfl) ?_
    obtain ⟨v3, ev3, hf⟩ := ob hf
    refine x_iald hx hb hK hP 7 1 ev3 rfl rfl dX3_foundAt_20 ?_
    refine lv_iload_n hx hb dX3_foundAt_21 rfl (lv_at hl 2 rfl) ?_
    refine lv_icmp_eq (tgt := 29) hx hb dX3_foundAt_22 (by decide) (fun c4 => ?_) (fun c4 => ?_)
    · have hf := oi_t c4 hf
      refine lv_lload_n hx hb dX3_foundAt_29 rfl (lv_at hl 3 rfl) ?_
      refine lv_iload_n hx hb dX3_foundAt_30 rfl (lv_at hl 2 rfl) ?_
      obtain ⟨v5, ev5, hf⟩ := ob hf
      refine rd_callS (As := [.int p2]) (rest := [.long p3]) ⟨hx, hb, hml, hown, hts⟩ (mX3_wide l D k   p2 _ ev5) (va_cwS 1 hts (lw_S q1316 q1317 q94 q1318) rfl rfl rfl hdX3_wide ⟨Nat.le_of_ble_eq_true rfl, Nat.le_of_ble_eq_true rfl⟩) hK rfl hl.1 rfl (Nat.le_of_ble_eq_true rfl) dX3_foundAt_31 ⟨Nat.le_of_ble_eq_true rfl, Nat.le_of_ble_eq_true rfl⟩ ?_
      refine lv_i2l hx hb dX3_foundAt_34 rfl ?_
      have c7 := on_zL hf
      have hf := oi_f c7 hf
      refine lv_ldiv hx hb dX3_foundAt_35 c7 ?_
      refine lv_aload_n hx hb dX3_foundAt_36 rfl (lv_at hl 0 rfl) ?_
      refine va_get (D := D) (cl := vwCl) (ci := 3) (v := .ref (ma 8)) (C := RX3) (T := TX3) (N := 18) hx hb hts in_X3 hown hK.1 hP 0 rfl rfl 15 (by decide) (hts _ q953) (fun _ h9 => h9) rfl dX3_foundAt_37 ?_
      refine lv_iload_n hx hb dX3_foundAt_40 rfl (lv_at hl 1 rfl) ?_
      obtain ⟨v8, ev8, hf⟩ := ob hf
      refine x_iald hx hb hK hP 8 1 ev8 rfl rfl dX3_foundAt_41 ?_
      refine lv_i2l hx hb dX3_foundAt_42 rfl ?_
      refine W.lcmp hx hb dX3_foundAt_43 ?_
      refine lv_if_lt (tgt := 51) hx hb dX3_foundAt_44 (by decide) (fun c9 => ?_) (fun c9 => ?_)
      · have hf := oi_t c9 hf
        refine lv_iconst (v := 0) hx hb dX3_foundAt_51 (by decide) ?_
        exact rd_iret hx hb hr hlk (Option.some.inj hf) dX3_foundAt_52
      · have hf := oi_f c9 hf
        refine lv_iconst (v := 2) hx hb dX3_foundAt_47 (by decide) ?_
        refine lv_goto (tgt := 52) hx hb dX3_foundAt_48 (by decide) ?_
        exact rd_iret hx hb hr hlk (Option.some.inj hf) dX3_foundAt_52
    · have hf := oi_f c4 hf
      refine lv_iconst (v := 3) hx hb dX3_foundAt_25 (by decide) ?_
      refine lv_goto (tgt := 52) hx hb dX3_foundAt_26 (by decide) ?_
      exact rd_iret hx hb hr hlk (Option.some.inj hf) dX3_foundAt_52
  · have hf := oi_t c2 hf
    refine lv_iconst (v := 1) hx hb dX3_foundAt_11 (by decide) ?_
    refine lv_goto (tgt := 52) hx hb dX3_foundAt_12 (by decide) ?_
    exact rd_iret hx hb hr hlk (Option.some.inj hf) dX3_foundAt_52

abbrev rmX3_isRow : Room := { frames := 0, cells := 0, slots := 0, locals := 0 }
theorem hdX3_isRow : yX3_isRow.cls ≠ "java/lang/invoke/MethodHandle" ∧ yX3_isRow.cls ≠ "java/lang/invoke/VarHandle" ∧ (parseMethodDescriptor yX3_isRow.desc).map (fun d => d.parameters.length) = some 1 := by decide +kernel
set_option maxHeartbeats 4000000 in
theorem mX3_isRow (l : Launch) (D : va_G) (k : Nat → ClassId) (ma : Nat → Nat) (mi : Nat → Int32) (st : Nat → Int32) (rp : Nat → Int32) (tp : Nat → Int32) (cr : Nat → Int32) (cw : Nat → Int32) (ik : Nat → Int32) (ln : Nat → Int32) (lg : Nat → Int32) (ce : Nat → Int64) (p1 : Int32) (r : Int32) (hf : fX3_isRow rp p1 = some r) : CtZ l yX3_isRow cX3_isRow 5 rmX3_isRow [.ref (ma 0), .int p1] D k (wM k ma mi st rp tp cr cw ik ln lg ce) r := by
  refine rd_start (by decide +kernel) (Nat.le_of_ble_eq_true rfl) ?_
  intro p e s m below meth c ls hx hb hr hlk hml hown hts hP hK hl
  have hl : lv_has ls 5 [(0, .ref (ma 0)), (1, .int p1)] := hl
  have hown : s.vm.findClass RX3 = some m.cls := hown
  unfold fX3_isRow at hf
  refine lv_iconst (v := 0) hx hb dX3_isRow_0 (by decide) ?_
  refine lv_istore_n (lv' := [(2, .int (0 : Int32)), (0, .ref (ma 0)), (1, .int p1)]) hx hb dX3_isRow_1 rfl hl (by decide) rfl (fun ls hl => ?_)
  refine lv_iload_n hx hb dX3_isRow_2 rfl (lv_at hl 2 rfl) ?_
  refine lv_iconst (v := 2) hx hb dX3_isRow_3 (by decide) ?_
  refine lv_irem hx hb dX3_isRow_4 (by decide) ?_
  have hB13 : ∀ (x2_13 : Int32) (s0_13 : Int32), fX3_isRow_B13 rp p1 x2_13 s0_13 = some r → ∀ ls : Array Slot, lv_has ls 5 [(0, .ref (ma 0)), (1, .int p1), (2, .int x2_13)] → gR p l e rmX3_isRow s m [.ref (ma 0), .int p1] below meth c (vp_Si (fun x => x = r ∧ zb x)) 13 ls [.int s0_13] := by
    intro x2_13 s0_13 hf ls hl
    unfold fX3_isRow_B13 at hf
    refine lv_istore_n (lv' := [(3, .int s0_13), (0, .ref (ma 0)), (1, .int p1), (2, .int x2_13)]) hx hb dX3_isRow_13 rfl hl (by decide) rfl (fun ls hl => ?_)
    refine lv_iconst (v := 0) hx hb dX3_isRow_14 (by decide) ?_
    refine lv_istore (lv' := [(4, .int (0 : Int32)), (3, .int s0_13), (0, .ref (ma 0)), (1, .int p1), (2, .int x2_13)]) hx hb dX3_isRow_15 hl (by decide) rfl (fun ls hl => ?_)
    have hL17 : ∀ (nn : Nat) (x2_17 : Int32) (x3_17 : Int32) (x4_17 : Int32), fX3_isRow_L17 rp p1 nn x2_17 x3_17 x4_17 = some r → ∀ ls : Array Slot, lv_has ls 5 [(0, .ref (ma 0)), (1, .int p1), (2, .int x2_17), (3, .int x3_17), (4, .int x4_17)] → gR p l e rmX3_isRow s m [.ref (ma 0), .int p1] below meth c (vp_Si (fun x => x = r ∧ zb x)) 17 ls [] := by
      intro nn17
      induction nn17 with
      | zero =>
        intro x2_17 x3_17 x4_17 hf
        rw [fX3_isRow_L17] at hf; cases hf
      | succ nn17 ih17 =>
        intro x2_17 x3_17 x4_17 hf ls hl
        rw [fX3_isRow_L17] at hf
        refine lv_iload hx hb dX3_isRow_17 (lv_at hl 4 rfl) ?_
        refine lv_iload_n hx hb dX3_isRow_19 rfl (lv_at hl 1 rfl) ?_
        refine lv_icmp_ge (tgt := 74) hx hb dX3_isRow_20 (by decide) (fun c2 => ?_) (fun c2 => ?_)
        · have hf := oi_t c2 hf
          refine lv_iload_n hx hb dX3_isRow_74 rfl (lv_at hl 3 rfl) ?_
          refine lv_if_eq (tgt := 86) hx hb dX3_isRow_75 (by decide) (fun c3 => ?_) (fun c3 => ?_)
          · have hf := oi_t c3 hf
            refine lv_iconst (v := 0) hx hb dX3_isRow_86 (by decide) ?_
            exact rd_zret hx hb hr hlk (Or.inl rfl) (Option.some.inj hf) dX3_isRow_87
          · have hf := oi_f c3 hf
            refine lv_iload_n hx hb dX3_isRow_78 rfl (lv_at hl 2 rfl) ?_
            refine lv_if_ne (tgt := 86) hx hb dX3_isRow_79 (by decide) (fun c4 => ?_) (fun c4 => ?_)
            · have hf := oi_f c4 hf
              refine lv_iconst (v := 0) hx hb dX3_isRow_86 (by decide) ?_
              exact rd_zret hx hb hr hlk (Or.inl rfl) (Option.some.inj hf) dX3_isRow_87
            · have hf := oi_t c4 hf
              refine lv_iconst (v := 1) hx hb dX3_isRow_82 (by decide) ?_
              refine lv_goto (tgt := 87) hx hb dX3_isRow_83 (by decide) ?_
              exact rd_zret hx hb hr hlk (Or.inr rfl) (Option.some.inj hf) dX3_isRow_87
        · have hf := oi_f c2 hf
          refine lv_iload_n hx hb dX3_isRow_23 rfl (lv_at hl 2 rfl) ?_
          refine lv_aload_n hx hb dX3_isRow_24 rfl (lv_at hl 0 rfl) ?_
          refine va_get (D := D) (cl := vwCl) (ci := 3) (v := .ref (ma 2)) (C := RX3) (T := TX3) (N := 18) hx hb hts in_X3 hown hK.1 hP 0 rfl rfl 1 (by decide) (hts _ q939) (fun _ h9 => h9) rfl dX3_isRow_25 ?_
          refine lv_iload hx hb dX3_isRow_28 (lv_at hl 4 rfl) ?_
          obtain ⟨v5, ev5, hf⟩ := ob hf
          refine x_iald hx hb hK hP 2 1 ev5 rfl rfl dX3_isRow_30 ?_
          refine lv_iconst (v := 1) hx hb dX3_isRow_31 (by decide) ?_
          have hB40 : ∀ (x3_40 : Int32) (x4_40 : Int32) (s0_40 : Int32) (s1_40 : Int32), fX3_isRow_B40 rp p1 (fX3_isRow_L17 rp p1 nn17) x3_40 x4_40 s0_40 s1_40 = some r → ∀ ls : Array Slot, lv_has ls 5 [(0, .ref (ma 0)), (1, .int p1), (3, .int x3_40), (4, .int x4_40)] → gR p l e rmX3_isRow s m [.ref (ma 0), .int p1] below meth c (vp_Si (fun x => x = r ∧ zb x)) 40 ls [.int s0_40, .int s1_40] := by
            intro x3_40 x4_40 s0_40 s1_40 hf ls hl
            unfold fX3_isRow_B40 at hf
            refine lv_iadd hx hb dX3_isRow_40 ?_
            obtain ⟨y7, ey7, hf⟩ := ob hf
            refine x_asI ey7 ?_
            refine lv_istore_n (lv' := [(2, .int y7), (0, .ref (ma 0)), (1, .int p1), (3, .int x3_40), (4, .int x4_40)]) hx hb dX3_isRow_41 rfl hl (by decide) rfl (fun ls hl => ?_)
            refine lv_iload_n hx hb dX3_isRow_42 rfl (lv_at hl 3 rfl) ?_
            have hB67 : ∀ (x2_67 : Int32) (x4_67 : Int32) (s0_67 : Int32), fX3_isRow_B67 rp p1 (fX3_isRow_L17 rp p1 nn17) x2_67 x4_67 s0_67 = some r → ∀ ls : Array Slot, lv_has ls 5 [(0, .ref (ma 0)), (1, .int p1), (2, .int x2_67), (4, .int x4_67)] → gR p l e rmX3_isRow s m [.ref (ma 0), .int p1] below meth c (vp_Si (fun x => x = r ∧ zb x)) 67 ls [.int s0_67] := by
              intro x2_67 x4_67 s0_67 hf ls hl
              unfold fX3_isRow_B67 at hf
              refine lv_istore_n (lv' := [(3, .int s0_67), (0, .ref (ma 0)), (1, .int p1), (2, .int x2_67), (4, .int x4_67)]) hx hb dX3_isRow_67 rfl hl (by decide) rfl (fun ls hl => ?_)
              refine lv_iinc (v := (x4_67 + 1)) (lv' := [(4, .int (x4_67 + 1)), (3, .int s0_67), (0, .ref (ma 0)), (1, .int p1), (2, .int x2_67)]) hx hb dX3_isRow_68 hl (k := 4) rfl rfl (by decide) rfl (fun ls hl => ?_)
              refine lv_goto (tgt := 17) hx hb dX3_isRow_71 (by decide) ?_
              exact ih17 x2_67 s0_67 (x4_67 + 1) hf ls (lv_sub hl [2, 3, 4, 1, 0] rfl)
            have hB66 : ∀ (x2_66 : Int32) (x4_66 : Int32), fX3_isRow_B66 rp p1 (fX3_isRow_L17 rp p1 nn17) x2_66 x4_66 = some r → ∀ ls : Array Slot, lv_has ls 5 [(0, .ref (ma 0)), (1, .int p1), (2, .int x2_66), (4, .int x4_66)] → gR p l e rmX3_isRow s m [.ref (ma 0), .int p1] below meth c (vp_Si (fun x => x = r ∧ zb x)) 66 ls [] := by
              intro x2_66 x4_66 hf ls hl
              unfold fX3_isRow_B66 at hf
              refine lv_iconst (v := 0) hx hb dX3_isRow_66 (by decide) ?_
              exact hB67 x2_66 x4_66 (0 : Int32) hf ls (lv_sub hl [0, 1, 2, 3] rfl)
            refine lv_if_eq (tgt := 66) hx hb dX3_isRow_43 (by decide) (fun c8 => ?_) (fun c8 => ?_)
            · have hf := oi_t c8 hf
              exact hB66 y7 x4_40 hf ls (lv_sub hl [1, 2, 0, 4] rfl)
            · have hf := oi_f c8 hf
              refine lv_iload_n hx hb dX3_isRow_46 rfl (lv_at hl 0 rfl) ?_
              have hB62 : ∀ (x2_62 : Int32) (x4_62 : Int32), fX3_isRow_B62 rp p1 (fX3_isRow_L17 rp p1 nn17) x2_62 x4_62 = some r → ∀ ls : Array Slot, lv_has ls 5 [(0, .ref (ma 0)), (1, .int p1), (2, .int x2_62), (4, .int x4_62)] → gR p l e rmX3_isRow s m [.ref (ma 0), .int p1] below meth c (vp_Si (fun x => x = r ∧ zb x)) 62 ls [] := by
                intro x2_62 x4_62 hf ls hl
                unfold fX3_isRow_B62 at hf
                refine lv_iconst (v := 1) hx hb dX3_isRow_62 (by decide) ?_
                refine lv_goto (tgt := 67) hx hb dX3_isRow_63 (by decide) ?_
                exact hB67 x2_62 x4_62 (1 : Int32) hf ls (lv_sub hl [0, 1, 2, 3] rfl)
              refine lv_if_gt (tgt := 62) hx hb dX3_isRow_47 (by decide) (fun c9 => ?_) (fun c9 => ?_)
              · have hf := oi_t c9 hf
                exact hB62 y7 x4_40 hf ls (lv_sub hl [1, 2, 0, 4] rfl)
              · have hf := oi_f c9 hf
                refine lv_iload_n hx hb dX3_isRow_50 rfl (lv_at hl 0 rfl) ?_
                refine lv_if_ne (tgt := 66) hx hb dX3_isRow_51 (by decide) (fun c10 => ?_) (fun c10 => ?_)
                · have hf := oi_f c10 hf
                  exact hB66 y7 x4_40 hf ls (lv_sub hl [1, 2, 0, 4] rfl)
                · have hf := oi_t c10 hf
                  refine lv_iload hx hb dX3_isRow_54 (lv_at hl 4 rfl) ?_
                  refine lv_iload_n hx hb dX3_isRow_56 rfl (lv_at hl 2 rfl) ?_
                  refine lv_iconst (v := 1) hx hb dX3_isRow_57 (by decide) ?_
                  refine lv_isub hx hb dX3_isRow_58 ?_
                  refine lv_icmp_ne (tgt := 66) hx hb dX3_isRow_59 (by decide) (fun c11 => ?_) (fun c11 => ?_)
                  · have hf := oi_f c11 hf
                    exact hB66 y7 x4_40 hf ls (lv_sub hl [1, 2, 0, 4] rfl)
                  · have hf := oi_t c11 hf
                    exact hB62 y7 x4_40 hf ls (lv_sub hl [1, 2, 0, 4] rfl)
          refine lv_icmp_ne (tgt := 39) hx hb dX3_isRow_32 (by decide) (fun c6 => ?_) (fun c6 => ?_)
          · have hf := oi_f c6 hf
            refine lv_iconst (v := (-1)) hx hb dX3_isRow_39 (by decide) ?_
            exact hB40 x3_17 x4_17 (-1 : Int32) x2_17 hf ls (lv_sub hl [0, 1, 3, 4] rfl)
          · have hf := oi_t c6 hf
            refine lv_iconst (v := 1) hx hb dX3_isRow_35 (by decide) ?_
            refine lv_goto (tgt := 40) hx hb dX3_isRow_36 (by decide) ?_
            exact hB40 x3_17 x4_17 (1 : Int32) x2_17 hf ls (lv_sub hl [0, 1, 3, 4] rfl)
    exact hL17 FU x2_13 s0_13 (0 : Int32) hf ls (lv_sub hl [2, 3, 4, 1, 0] rfl)
  refine lv_if_ne (tgt := 12) hx hb dX3_isRow_5 (by decide) (fun c1 => ?_) (fun c1 => ?_)
  · have hf := oi_f c1 hf
    refine lv_iconst (v := 0) hx hb dX3_isRow_12 (by decide) ?_
    exact hB13 (0 : Int32) (0 : Int32) hf ls (lv_sub hl [1, 2, 0] rfl)
  · have hf := oi_t c1 hf
    refine lv_iconst (v := 1) hx hb dX3_isRow_8 (by decide) ?_
    refine lv_goto (tgt := 13) hx hb dX3_isRow_9 (by decide) ?_
    exact hB13 (0 : Int32) (1 : Int32) hf ls (lv_sub hl [1, 2, 0] rfl)

abbrev rmX3_read : Room := { frames := 2, cells := 0, slots := 0, locals := 44 }
theorem hdX3_read : yX3_read.cls ≠ "java/lang/invoke/MethodHandle" ∧ yX3_read.cls ≠ "java/lang/invoke/VarHandle" ∧ (parseMethodDescriptor yX3_read.desc).map (fun d => d.parameters.length) = some 4 := by decide +kernel
abbrev qcX3_read (D : va_G) (k : Nat → ClassId) (ma : Nat → Nat) (mi : Nat → Int32) (st : Nat → Int32) (rp : Nat → Int32) (tp : Nat → Int32) (cr : Nat → Int32) (cw : Nat → Int32) (ik : Nat → Int32) (ln : Nat → Int32) (lg : Nat → Int32) (ce : Nat → Int64) (r : Int32) (A : Nat → Prop) : Array Value → State → Outcome → State → Prop := va_Qi (fun x (_ : Unit) => x = r) (fun _ t => va_P D vwCl (wM k ma mi st rp tp cr cw ik ln lg ce) t.heap) A
set_option maxHeartbeats 4000000 in
theorem mX3_read (l : Launch) (D : va_G) (k : Nat → ClassId) (ma : Nat → Nat) (mi : Nat → Int32) (st : Nat → Int32) (rp : Nat → Int32) (tp : Nat → Int32) (cr : Nat → Int32) (cw : Nat → Int32) (ik : Nat → Int32) (ln : Nat → Int32) (lg : Nat → Int32) (ce : Nat → Int64) (p1 : Int32) (p2 : Int32) (p3 : Int32) (p4 : Int32) (sz : Nat) (r : Int32) (st_o : Nat → Int32) (rp_o : Nat → Int32) (hf : fX3_read st rp ln lg ce p1 p2 p3 p4 = some (r, st_o, rp_o)) : Met l yX3_read (ws_ yX3_read cX3_read 9 (some .int)) rmX3_read (wrP D k (wM k ma mi st rp tp cr cw ik ln lg ce) sz [.ref (ma 0), .int p1, .int p2, .int p3, .int p4]) (qcX3_read D k ma mi st_o rp_o tp cr cw ik ln lg ce r (va_A (wM k ma mi st rp tp cr cw ik ln lg ce) sz)) 0 0 (va_A (wM k ma mi st rp tp cr cw ik ln lg ce) sz) := by
  refine wr_start (Qc := fun A => qcX3_read D k ma mi st_o rp_o tp cr cw ik ln lg ce r A) (by decide +kernel) (Nat.le_of_ble_eq_true rfl) ?_
  intro p e s m below meth c ls A hA hx hb hr hlk hml hown hts hP hK hD hl
  have hl : lv_has ls 9 [(0, .ref (ma 0)), (1, .int p1), (2, .int p2), (3, .int p3), (4, .int p4)] := hl
  have hown : s.vm.findClass RX3 = some m.cls := hown
  have hS : va_S A s.heap s.heap [] := va_S.rf
  suffices hw : ∀ (H : Heap) (locs : List Loc), va_P D vwCl (wM k ma mi st rp tp cr cw ik ln lg ce) H → va_S A s.heap H locs → gW p l e rmX3_read s m [.ref (ma 0), .int p1, .int p2, .int p3, .int p4] below meth c (qcX3_read D k ma mi st_o rp_o tp cr cw ik ln lg ce r A) A 0 0 H locs 0 ls [] from hw s.heap [] hP hS
  clear hP hS
  intro H locs hP hS
  unfold fX3_read at hf
  refine lv_iload_n hx hb dX3_read_0 rfl (lv_at hl 1 rfl) ?_
  refine lv_i2l hx hb dX3_read_1 rfl ?_
  refine lv_lconst (v := 0) hx hb dX3_read_2 (by decide) ?_
  refine lv_ldc2 hx hb hown (hts _ q1097) dX3_read_3 ?_
  obtain ⟨v1, ev1, hf⟩ := ob hf
  refine rd_callSZ (As := [.long ((p1).toInt64), .long (0 : Int64), .long (3 : Int64)]) (rest := []) ⟨hx, hb, hml, hown, hts⟩ (mX3_in l D k   ((p1).toInt64) (0 : Int64) (3 : Int64) _ ev1) (va_cwS 3 hts (lw_S q999 q1000 q94 q1001) rfl rfl rfl hdX3_in ⟨Nat.le_of_ble_eq_true rfl, Nat.le_of_ble_eq_true rfl⟩) hK rfl hl.1 rfl (Nat.le_of_ble_eq_true rfl) dX3_read_6 ⟨Nat.le_of_ble_eq_true rfl, Nat.le_of_ble_eq_true rfl⟩ (fun zv1 => ?_)
  refine lv_if_eq (tgt := 41) hx hb dX3_read_9 (by decide) (fun c3 => ?_) (fun c3 => ?_)
  · have hf := oi_t c3 hf
    refine lv_iconst (v := (-1)) hx hb dX3_read_41 (by decide) ?_
    obtain ⟨he1, he2, he3⟩ := prod3 hf
    rw [he2] at hP
    rw [he3] at hP
    exact wr_iret hx hb hr hlk he1 hP hS dX3_read_42
  · have hf := oi_f c3 hf
    refine lv_iload_n hx hb dX3_read_12 rfl (lv_at hl 2 rfl) ?_
    refine lv_i2l hx hb dX3_read_13 rfl ?_
    refine lv_lconst (v := 0) hx hb dX3_read_14 (by decide) ?_
    refine lv_ldc2 hx hb hown (hts _ q1068) dX3_read_15 ?_
    obtain ⟨v4, ev4, hf⟩ := ob hf
    refine rd_callSZ (As := [.long ((p2).toInt64), .long (0 : Int64), .long (2 : Int64)]) (rest := []) ⟨hx, hb, hml, hown, hts⟩ (mX3_in l D k   ((p2).toInt64) (0 : Int64) (2 : Int64) _ ev4) (va_cwS 3 hts (lw_S q999 q1000 q94 q1001) rfl rfl rfl hdX3_in ⟨Nat.le_of_ble_eq_true rfl, Nat.le_of_ble_eq_true rfl⟩) hK rfl hl.1 rfl (Nat.le_of_ble_eq_true rfl) dX3_read_18 ⟨Nat.le_of_ble_eq_true rfl, Nat.le_of_ble_eq_true rfl⟩ (fun zv4 => ?_)
    refine lv_if_eq (tgt := 41) hx hb dX3_read_21 (by decide) (fun c6 => ?_) (fun c6 => ?_)
    · have hf := oi_t c6 hf
      refine lv_iconst (v := (-1)) hx hb dX3_read_41 (by decide) ?_
      obtain ⟨he1, he2, he3⟩ := prod3 hf
      rw [he2] at hP
      rw [he3] at hP
      exact wr_iret hx hb hr hlk he1 hP hS dX3_read_42
    · have hf := oi_f c6 hf
      refine lv_iload_n hx hb dX3_read_24 rfl (lv_at hl 3 rfl) ?_
      refine lv_if_lt (tgt := 41) hx hb dX3_read_25 (by decide) (fun c7 => ?_) (fun c7 => ?_)
      · have hf := oi_t c7 hf
        refine lv_iconst (v := (-1)) hx hb dX3_read_41 (by decide) ?_
        obtain ⟨he1, he2, he3⟩ := prod3 hf
        rw [he2] at hP
        rw [he3] at hP
        exact wr_iret hx hb hr hlk he1 hP hS dX3_read_42
      · have hf := oi_f c7 hf
        refine lv_iload hx hb dX3_read_28 (lv_at hl 4 rfl) ?_
        refine lv_i2l hx hb dX3_read_30 rfl ?_
        refine lv_lconst (v := 0) hx hb dX3_read_31 (by decide) ?_
        refine lv_ldc2 hx hb hown (hts _ q1311) dX3_read_32 ?_
        obtain ⟨v8, ev8, hf⟩ := ob hf
        refine rd_callSZ (As := [.long ((p4).toInt64), .long (0 : Int64), .long (128 : Int64)]) (rest := []) ⟨hx, hb, hml, hown, hts⟩ (mX3_in l D k   ((p4).toInt64) (0 : Int64) (128 : Int64) _ ev8) (va_cwS 3 hts (lw_S q999 q1000 q94 q1001) rfl rfl rfl hdX3_in ⟨Nat.le_of_ble_eq_true rfl, Nat.le_of_ble_eq_true rfl⟩) hK rfl hl.1 rfl (Nat.le_of_ble_eq_true rfl) dX3_read_35 ⟨Nat.le_of_ble_eq_true rfl, Nat.le_of_ble_eq_true rfl⟩ (fun zv8 => ?_)
        refine lv_if_ne (tgt := 43) hx hb dX3_read_38 (by decide) (fun c10 => ?_) (fun c10 => ?_)
        · have hf := oi_f c10 hf
          refine lv_iconst (v := 0) hx hb dX3_read_43 (by decide) ?_
          refine lv_istore (lv' := [(5, .int (0 : Int32)), (0, .ref (ma 0)), (1, .int p1), (2, .int p2), (3, .int p3), (4, .int p4)]) hx hb dX3_read_44 hl (by decide) rfl (fun ls hl => ?_)
          have hL46 : ∀ (nn : Nat) (st_46 : Nat → Int32) (rp_46 : Nat → Int32) (x5_46 : Int32), ∀ (H : Heap) (locs : List Loc), va_P D vwCl (wM k ma mi st_46 rp_46 tp cr cw ik ln lg ce) H → va_D A (wM k ma mi st_46 rp_46 tp cr cw ik ln lg ce) → va_S A s.heap H locs → fX3_read_L46 ln lg ce p1 p2 p3 p4 nn st_46 rp_46 x5_46 = some (r, st_o, rp_o) → ∀ ls : Array Slot, lv_has ls 9 [(0, .ref (ma 0)), (1, .int p1), (2, .int p2), (3, .int p3), (4, .int p4), (5, .int x5_46)] → gW p l e rmX3_read s m [.ref (ma 0), .int p1, .int p2, .int p3, .int p4] below meth c (qcX3_read D k ma mi st_o rp_o tp cr cw ik ln lg ce r A) A 0 0 H locs 46 ls [] := by
            intro nn46
            induction nn46 with
            | zero =>
              intro st_46 rp_46 x5_46 H locs hP hD hS hf
              rw [fX3_read_L46] at hf; cases hf
            | succ nn46 ih46 =>
              intro st_46 rp_46 x5_46 H locs hP hD hS hf ls hl
              rw [fX3_read_L46] at hf
              refine lv_iload hx hb dX3_read_46 (lv_at hl 5 rfl) ?_
              refine lv_iload hx hb dX3_read_48 (lv_at hl 4 rfl) ?_
              refine lv_icmp_ge (tgt := 127) hx hb dX3_read_50 (by decide) (fun c11 => ?_) (fun c11 => ?_)
              · have hf := oi_t c11 hf
                refine lv_aload_n hx hb dX3_read_127 rfl (lv_at hl 0 rfl) ?_
                refine lv_iload hx hb dX3_read_128 (lv_at hl 4 rfl) ?_
                obtain ⟨v12, ev12, hf⟩ := ob hf
                refine rd_callVZ (As := [.int p4]) (rest := []) ⟨hx, hb, hml, hown, hts⟩ (mX3_isRow l D k ma mi st_46 rp_46 tp cr cw ik ln lg ce p4 _ ev12) (cwV 1 hts (lw_V q1319 q1321 qs88 q94 q1322) rfl rfl rfl ⟨rfl, hdX3_isRow⟩ ⟨Nat.le_of_ble_eq_true rfl, Nat.le_of_ble_eq_true rfl⟩) hK hP [0, 1, 2, 3, 4, 5, 6, 7, 8, 9] rfl 0 3 rfl rfl rfl hl.1 rfl (Nat.le_of_ble_eq_true rfl) dX3_read_130 ⟨Nat.le_of_ble_eq_true rfl, Nat.le_of_ble_eq_true rfl⟩ (fun zv12 => ?_)
                refine lv_if_ne (tgt := 139) hx hb dX3_read_133 (by decide) (fun c14 => ?_) (fun c14 => ?_)
                · have hf := oi_f c14 hf
                  refine lv_iconst (v := 0) hx hb dX3_read_139 (by decide) ?_
                  refine lv_istore (lv' := [(5, .int (0 : Int32)), (0, .ref (ma 0)), (1, .int p1), (2, .int p2), (3, .int p3), (4, .int p4)]) hx hb dX3_read_140 hl (by decide) rfl (fun ls hl => ?_)
                  have hL142 : ∀ (nn : Nat) (st_142 : Nat → Int32) (rp_142 : Nat → Int32) (x5_142 : Int32), ∀ (H : Heap) (locs : List Loc), va_P D vwCl (wM k ma mi st_142 rp_142 tp cr cw ik ln lg ce) H → va_D A (wM k ma mi st_142 rp_142 tp cr cw ik ln lg ce) → va_S A s.heap H locs → fX3_read_L142 ln lg ce p1 p2 p3 p4 nn st_142 rp_142 x5_142 = some (r, st_o, rp_o) → ∀ ls : Array Slot, lv_has ls 9 [(0, .ref (ma 0)), (4, .int p4), (5, .int x5_142)] → gW p l e rmX3_read s m [.ref (ma 0), .int p1, .int p2, .int p3, .int p4] below meth c (qcX3_read D k ma mi st_o rp_o tp cr cw ik ln lg ce r A) A 0 0 H locs 142 ls [] := by
                    intro nn142
                    induction nn142 with
                    | zero =>
                      intro st_142 rp_142 x5_142 H locs hP hD hS hf
                      rw [fX3_read_L142] at hf; cases hf
                    | succ nn142 ih142 =>
                      intro st_142 rp_142 x5_142 H locs hP hD hS hf ls hl
                      rw [fX3_read_L142] at hf
                      refine lv_iload hx hb dX3_read_142 (lv_at hl 2 rfl) ?_
                      refine lv_iload hx hb dX3_read_144 (lv_at hl 1 rfl) ?_
                      refine lv_icmp_ge (tgt := 169) hx hb dX3_read_146 (by decide) (fun c15 => ?_) (fun c15 => ?_)
                      · have hf := oi_t c15 hf
                        refine lv_iconst (v := 0) hx hb dX3_read_169 (by decide) ?_
                        refine lv_istore (lv' := [(5, .int (0 : Int32)), (0, .ref (ma 0)), (4, .int p4)]) hx hb dX3_read_170 hl (by decide) rfl (fun ls hl => ?_)
                        have hL172 : ∀ (nn : Nat) (st_172 : Nat → Int32) (rp_172 : Nat → Int32) (x5_172 : Int32), ∀ (H : Heap) (locs : List Loc), va_P D vwCl (wM k ma mi st_172 rp_172 tp cr cw ik ln lg ce) H → va_D A (wM k ma mi st_172 rp_172 tp cr cw ik ln lg ce) → va_S A s.heap H locs → fX3_read_L172 ln lg ce p1 p2 p3 p4 nn st_172 rp_172 x5_172 = some (r, st_o, rp_o) → ∀ ls : Array Slot, lv_has ls 9 [(0, .ref (ma 0)), (4, .int p4), (5, .int x5_172)] → gW p l e rmX3_read s m [.ref (ma 0), .int p1, .int p2, .int p3, .int p4] below meth c (qcX3_read D k ma mi st_o rp_o tp cr cw ik ln lg ce r A) A 0 0 H locs 172 ls [] := by
                          intro nn172
                          induction nn172 with
                          | zero =>
                            intro st_172 rp_172 x5_172 H locs hP hD hS hf
                            rw [fX3_read_L172] at hf; cases hf
                          | succ nn172 ih172 =>
                            intro st_172 rp_172 x5_172 H locs hP hD hS hf ls hl
                            rw [fX3_read_L172] at hf
                            refine lv_iload hx hb dX3_read_172 (lv_at hl 2 rfl) ?_
                            refine lv_bipush (v := 64) hx hb dX3_read_174 (by decide) ?_
                            refine lv_icmp_ge (tgt := 197) hx hb dX3_read_176 (by decide) (fun c16 => ?_) (fun c16 => ?_)
                            · have hf := oi_t c16 hf
                              refine lv_aload_n hx hb dX3_read_197 rfl (lv_at hl 0 rfl) ?_
                              refine va_get (D := D) (cl := vwCl) (ci := 3) (v := .ref (ma 1)) (C := RX3) (T := TX3) (N := 18) hx hb hts in_X3 hown hK.1 hP 0 rfl rfl 0 (by decide) (hts _ q938) (fun _ h9 => h9) rfl dX3_read_198 ?_
                              refine lv_sipush (v := 192) hx hb dX3_read_201 (by decide) ?_
                              refine lv_iload hx hb dX3_read_204 (lv_at hl 1 rfl) ?_
                              refine lv_iconst (v := 2) hx hb dX3_read_206 (by decide) ?_
                              refine lv_idiv hx hb dX3_read_207 (by decide) ?_
                              obtain ⟨u17, eu17, hf⟩ := ob hf
                              refine x_iast hx hb hK hP hD hS 1 1 eu17 rfl rfl (wM k ma mi u17 rp_172 tp cr cw ik ln lg ce) rfl dX3_read_208 (fun H locs hP hD hS => ?_)
                              refine lv_aload_n hx hb dX3_read_209 rfl (lv_at hl 0 rfl) ?_
                              obtain ⟨v18, ev18, hf⟩ := ob hf
                              refine rd_callV (As := []) (rest := []) ⟨hx, hb, hml, hown, hts⟩ (mX3_many l D k ma mi u17 rp_172 tp cr cw ik ln lg ce  _ ev18) (cwV 0 hts (lw_V q1048 q1050 qs61 q94 q1051) rfl rfl rfl ⟨rfl, hdX3_many⟩ ⟨Nat.le_of_ble_eq_true rfl, Nat.le_of_ble_eq_true rfl⟩) hK hP [0, 1, 2, 3, 4, 5, 6, 7, 8, 9] rfl 0 3 rfl rfl rfl hl.1 rfl (Nat.le_of_ble_eq_true rfl) dX3_read_210 ⟨Nat.le_of_ble_eq_true rfl, Nat.le_of_ble_eq_true rfl⟩ ?_
                              obtain ⟨he1, he2, he3⟩ := prod3 hf
                              rw [he2] at hP
                              rw [he3] at hP
                              exact wr_iret hx hb hr hlk he1 hP hS dX3_read_213
                            · have hf := oi_f c16 hf
                              refine lv_aload_n hx hb dX3_read_179 rfl (lv_at hl 0 rfl) ?_
                              refine va_get (D := D) (cl := vwCl) (ci := 3) (v := .ref (ma 1)) (C := RX3) (T := TX3) (N := 18) hx hb hts in_X3 hown hK.1 hP 0 rfl rfl 0 (by decide) (hts _ q938) (fun _ h9 => h9) rfl dX3_read_180 ?_
                              refine lv_sipush (v := 128) hx hb dX3_read_183 (by decide) ?_
                              refine lv_iload hx hb dX3_read_186 (lv_at hl 2 rfl) ?_
                              refine lv_iadd hx hb dX3_read_188 ?_
                              refine lv_iconst (v := 0) hx hb dX3_read_189 (by decide) ?_
                              obtain ⟨u20, eu20, hf⟩ := ob hf
                              refine x_iast hx hb hK hP hD hS 1 1 eu20 rfl rfl (wM k ma mi u20 rp_172 tp cr cw ik ln lg ce) rfl dX3_read_190 (fun H locs hP hD hS => ?_)
                              refine lv_iinc (v := (x5_172 + 1)) (lv' := [(5, .int (x5_172 + 1)), (0, .ref (ma 0)), (4, .int p4)]) hx hb dX3_read_191 hl (k := 2) rfl rfl (by decide) rfl (fun ls hl => ?_)
                              refine lv_goto (tgt := 172) hx hb dX3_read_194 (by decide) ?_
                              exact ih172 u20 rp_172 (x5_172 + 1) H locs hP hD hS hf ls (lv_sub hl [1, 2, 0] rfl)
                        exact hL172 FU st_142 rp_142 (0 : Int32) H locs hP hD hS hf ls (lv_sub hl [1, 2, 0] rfl)
                      · have hf := oi_f c15 hf
                        refine lv_aload_n hx hb dX3_read_149 rfl (lv_at hl 0 rfl) ?_
                        refine va_get (D := D) (cl := vwCl) (ci := 3) (v := .ref (ma 1)) (C := RX3) (T := TX3) (N := 18) hx hb hts in_X3 hown hK.1 hP 0 rfl rfl 0 (by decide) (hts _ q938) (fun _ h9 => h9) rfl dX3_read_150 ?_
                        refine lv_iload hx hb dX3_read_153 (lv_at hl 2 rfl) ?_
                        refine lv_aload_n hx hb dX3_read_155 rfl (lv_at hl 0 rfl) ?_
                        refine va_get (D := D) (cl := vwCl) (ci := 3) (v := .ref (ma 2)) (C := RX3) (T := TX3) (N := 18) hx hb hts in_X3 hown hK.1 hP 0 rfl rfl 1 (by decide) (hts _ q939) (fun _ h9 => h9) rfl dX3_read_156 ?_
                        refine lv_iload hx hb dX3_read_159 (lv_at hl 2 rfl) ?_
                        obtain ⟨v21, ev21, hf⟩ := ob hf
                        refine x_iald hx hb hK hP 2 1 ev21 rfl rfl dX3_read_161 ?_
                        obtain ⟨u22, eu22, hf⟩ := ob hf
                        refine x_iast hx hb hK hP hD hS 1 1 eu22 rfl rfl (wM k ma mi u22 rp_142 tp cr cw ik ln lg ce) rfl dX3_read_162 (fun H locs hP hD hS => ?_)
                        refine lv_iinc (v := (x5_142 + 1)) (lv' := [(5, .int (x5_142 + 1)), (0, .ref (ma 0)), (4, .int p4)]) hx hb dX3_read_163 hl (k := 2) rfl rfl (by decide) rfl (fun ls hl => ?_)
                        refine lv_goto (tgt := 142) hx hb dX3_read_166 (by decide) ?_
                        exact ih142 u22 rp_142 (x5_142 + 1) H locs hP hD hS hf ls (lv_sub hl [1, 2, 0] rfl)
                  exact hL142 FU st_46 rp_46 (0 : Int32) H locs hP hD hS hf ls (lv_sub hl [1, 5, 0] rfl)
                · have hf := oi_t c14 hf
                  refine lv_bipush (v := (-2)) hx hb dX3_read_136 (by decide) ?_
                  obtain ⟨he1, he2, he3⟩ := prod3 hf
                  rw [he2] at hP
                  rw [he3] at hP
                  exact wr_iret hx hb hr hlk he1 hP hS dX3_read_138
              · have hf := oi_f c11 hf
                refine lv_iload_n hx hb dX3_read_53 rfl (lv_at hl 3 rfl) ?_
                refine lv_i2l hx hb dX3_read_54 rfl ?_
                refine lv_iload hx hb dX3_read_55 (lv_at hl 5 rfl) ?_
                refine lv_i2l hx hb dX3_read_57 rfl ?_
                refine lv_ladd hx hb dX3_read_58 ?_
                obtain ⟨y23, ey23, hf⟩ := ob hf
                refine x_asL ey23 ?_
                refine lv_lstore (lv' := [(6, .long y23), (0, .ref (ma 0)), (1, .int p1), (2, .int p2), (3, .int p3), (4, .int p4), (5, .int x5_46)]) hx hb dX3_read_59 hl (by decide) rfl (fun ls hl => ?_)
                refine lv_aload_n hx hb dX3_read_61 rfl (lv_at hl 1 rfl) ?_
                refine lv_iload_n hx hb dX3_read_62 rfl (lv_at hl 2 rfl) ?_
                refine lv_iload_n hx hb dX3_read_63 rfl (lv_at hl 3 rfl) ?_
                refine lv_lload hx hb dX3_read_64 (lv_at hl 0 rfl) ?_
                obtain ⟨v24, ev24, hf⟩ := ob hf
                refine rd_callV (As := [.int p1, .int p2, .long y23]) (rest := []) ⟨hx, hb, hml, hown, hts⟩ (mX3_foundAt l D k ma mi st_46 rp_46 tp cr cw ik ln lg ce p1 p2 y23 _ ev24) (cwV 3 hts (lw_V q1312 q1314 qs87 q94 q1315) rfl rfl rfl ⟨rfl, hdX3_foundAt⟩ ⟨Nat.le_of_ble_eq_true rfl, Nat.le_of_ble_eq_true rfl⟩) hK hP [0, 1, 2, 3, 4, 5, 6, 7, 8, 9] rfl 0 3 rfl rfl rfl hl.1 rfl (Nat.le_of_ble_eq_true rfl) dX3_read_66 ⟨Nat.le_of_ble_eq_true rfl, Nat.le_of_ble_eq_true rfl⟩ ?_
                refine lv_istore (lv' := [(8, .int v24), (6, .long y23), (0, .ref (ma 0)), (1, .int p1), (2, .int p2), (3, .int p3), (4, .int p4), (5, .int x5_46)]) hx hb dX3_read_69 hl (by decide) rfl (fun ls hl => ?_)
                refine lv_iload hx hb dX3_read_71 (lv_at hl 0 rfl) ?_
                refine lv_if_le (tgt := 82) hx hb dX3_read_73 (by decide) (fun c26 => ?_) (fun c26 => ?_)
                · have hf := oi_t c26 hf
                  refine lv_aload_n hx hb dX3_read_82 rfl (lv_at hl 2 rfl) ?_
                  refine va_get (D := D) (cl := vwCl) (ci := 3) (v := .ref (ma 2)) (C := RX3) (T := TX3) (N := 18) hx hb hts in_X3 hown hK.1 hP 0 rfl rfl 1 (by decide) (hts _ q939) (fun _ h9 => h9) rfl dX3_read_83 ?_
                  refine lv_iload hx hb dX3_read_86 (lv_at hl 7 rfl) ?_
                  refine lv_aload_n hx hb dX3_read_88 rfl (lv_at hl 2 rfl) ?_
                  refine va_get (D := D) (cl := vwCl) (ci := 3) (v := .ref (ma 9)) (C := RX3) (T := TX3) (N := 18) hx hb hts in_X3 hown hK.1 hP 0 rfl rfl 16 (by decide) (hts _ q954) (fun _ h9 => h9) rfl dX3_read_89 ?_
                  refine lv_bipush (v := 40) hx hb dX3_read_92 (by decide) ?_
                  refine lv_iload_n hx hb dX3_read_94 rfl (lv_at hl 3 rfl) ?_
                  refine lv_imul hx hb dX3_read_95 ?_
                  refine lv_lload hx hb dX3_read_96 (lv_at hl 1 rfl) ?_
                  refine lv_iload_n hx hb dX3_read_98 rfl (lv_at hl 4 rfl) ?_
                  obtain ⟨v27, ev27, hf⟩ := ob hf
                  refine rd_callS (As := [.int p2]) (rest := [.long y23, .int ((40 : Int32) * p1), .ref (ma 9), .int x5_46, .ref (ma 2)]) ⟨hx, hb, hml, hown, hts⟩ (mX3_wide l D k   p2 _ ev27) (va_cwS 1 hts (lw_S q1316 q1317 q94 q1318) rfl rfl rfl hdX3_wide ⟨Nat.le_of_ble_eq_true rfl, Nat.le_of_ble_eq_true rfl⟩) hK rfl hl.1 rfl (Nat.le_of_ble_eq_true rfl) dX3_read_99 ⟨Nat.le_of_ble_eq_true rfl, Nat.le_of_ble_eq_true rfl⟩ ?_
                  refine lv_i2l hx hb dX3_read_102 rfl ?_
                  have c29 := on_zL hf
                  have hf := oi_f c29 hf
                  refine lv_ldiv hx hb dX3_read_103 c29 ?_
                  refine lv_l2i hx hb dX3_read_104 rfl ?_
                  refine lv_iadd hx hb dX3_read_105 ?_
                  obtain ⟨v30, ev30, hf⟩ := ob hf
                  refine x_lald hx hb hK hP 9 0 ev30 rfl rfl dX3_read_106 ?_
                  refine lv_lload hx hb dX3_read_107 (lv_at hl 1 rfl) ?_
                  refine lv_iload_n hx hb dX3_read_109 rfl (lv_at hl 4 rfl) ?_
                  obtain ⟨v31, ev31, hf⟩ := ob hf
                  refine rd_callS (As := [.int p2]) (rest := [.long y23, .long v30, .int x5_46, .ref (ma 2)]) ⟨hx, hb, hml, hown, hts⟩ (mX3_wide l D k   p2 _ ev31) (va_cwS 1 hts (lw_S q1316 q1317 q94 q1318) rfl rfl rfl hdX3_wide ⟨Nat.le_of_ble_eq_true rfl, Nat.le_of_ble_eq_true rfl⟩) hK rfl hl.1 rfl (Nat.le_of_ble_eq_true rfl) dX3_read_110 ⟨Nat.le_of_ble_eq_true rfl, Nat.le_of_ble_eq_true rfl⟩ ?_
                  refine lv_i2l hx hb dX3_read_113 rfl ?_
                  have c33 := on_zL hf
                  have hf := oi_f c33 hf
                  refine lv_lrem hx hb dX3_read_114 c33 ?_
                  refine lv_l2i hx hb dX3_read_115 rfl ?_
                  refine lv_lshr hx hb dX3_read_116 rfl ?_
                  refine lv_lconst (v := 1) hx hb dX3_read_117 (by decide) ?_
                  refine lv_land hx hb dX3_read_118 ?_
                  refine lv_l2i hx hb dX3_read_119 rfl ?_
                  obtain ⟨u34, eu34, hf⟩ := ob hf
                  refine x_iast hx hb hK hP hD hS 2 1 eu34 rfl rfl (wM k ma mi st_46 u34 tp cr cw ik ln lg ce) rfl dX3_read_120 (fun H locs hP hD hS => ?_)
                  refine lv_iinc (v := (x5_46 + 1)) (lv' := [(5, .int (x5_46 + 1)), (8, .int v24), (6, .long y23), (0, .ref (ma 0)), (1, .int p1), (2, .int p2), (3, .int p3), (4, .int p4)]) hx hb dX3_read_121 hl (k := 7) rfl rfl (by decide) rfl (fun ls hl => ?_)
                  refine lv_goto (tgt := 46) hx hb dX3_read_124 (by decide) ?_
                  exact ih46 st_46 u34 (x5_46 + 1) H locs hP hD hS hf ls (lv_sub hl [3, 4, 5, 6, 7, 0] rfl)
                · have hf := oi_f c26 hf
                  refine lv_bipush (v := (-10)) hx hb dX3_read_76 (by decide) ?_
                  refine lv_iload hx hb dX3_read_78 (lv_at hl 0 rfl) ?_
                  refine lv_isub hx hb dX3_read_80 ?_
                  obtain ⟨he1, he2, he3⟩ := prod3 hf
                  rw [he2] at hP
                  rw [he3] at hP
                  exact wr_iret hx hb hr hlk he1 hP hS dX3_read_81
          exact hL46 FU st rp (0 : Int32) H locs hP hD hS hf ls (lv_sub hl [1, 2, 3, 4, 5, 0] rfl)
        · have hf := oi_t c10 hf
          refine lv_iconst (v := (-1)) hx hb dX3_read_41 (by decide) ?_
          obtain ⟨he1, he2, he3⟩ := prod3 hf
          rw [he2] at hP
          rw [he3] at hP
          exact wr_iret hx hb hr hlk he1 hP hS dX3_read_42

abbrev rmX3_stow : Room := { frames := 2, cells := 0, slots := 0, locals := 44 }
theorem hdX3_stow : yX3_stow.cls ≠ "java/lang/invoke/MethodHandle" ∧ yX3_stow.cls ≠ "java/lang/invoke/VarHandle" ∧ (parseMethodDescriptor yX3_stow.desc).map (fun d => d.parameters.length) = some 3 := by decide +kernel
abbrev qcX3_stow (D : va_G) (k : Nat → ClassId) (ma : Nat → Nat) (mi : Nat → Int32) (st : Nat → Int32) (rp : Nat → Int32) (tp : Nat → Int32) (cr : Nat → Int32) (cw : Nat → Int32) (ik : Nat → Int32) (ln : Nat → Int32) (lg : Nat → Int32) (ce : Nat → Int64) (r : Int32) (A : Nat → Prop) : Array Value → State → Outcome → State → Prop := va_Qi (fun x (_ : Unit) => x = r) (fun _ t => va_P D vwCl (wM k ma mi st rp tp cr cw ik ln lg ce) t.heap) A
set_option maxHeartbeats 4000000 in
theorem mX3_stow (l : Launch) (D : va_G) (k : Nat → ClassId) (ma : Nat → Nat) (mi : Nat → Int32) (st : Nat → Int32) (rp : Nat → Int32) (tp : Nat → Int32) (cr : Nat → Int32) (cw : Nat → Int32) (ik : Nat → Int32) (ln : Nat → Int32) (lg : Nat → Int32) (ce : Nat → Int64) (p1 : Int32) (p2 : Int32) (p3 : Int32) (sz : Nat) (r : Int32) (mi_o : Nat → Int32) (ce_o : Nat → Int64) (hf : fX3_stow mi st ln lg ce p1 p2 p3 = some (r, mi_o, ce_o)) : Met l yX3_stow (ws_ yX3_stow cX3_stow 10 (some .int)) rmX3_stow (wrP D k (wM k ma mi st rp tp cr cw ik ln lg ce) sz [.ref (ma 0), .int p1, .int p2, .int p3]) (qcX3_stow D k ma mi_o st rp tp cr cw ik ln lg ce_o r (va_A (wM k ma mi st rp tp cr cw ik ln lg ce) sz)) 0 0 (va_A (wM k ma mi st rp tp cr cw ik ln lg ce) sz) := by
  refine wr_start (Qc := fun A => qcX3_stow D k ma mi_o st rp tp cr cw ik ln lg ce_o r A) (by decide +kernel) (Nat.le_of_ble_eq_true rfl) ?_
  intro p e s m below meth c ls A hA hx hb hr hlk hml hown hts hP hK hD hl
  have hl : lv_has ls 10 [(0, .ref (ma 0)), (1, .int p1), (2, .int p2), (3, .int p3)] := hl
  have hown : s.vm.findClass RX3 = some m.cls := hown
  have hS : va_S A s.heap s.heap [] := va_S.rf
  suffices hw : ∀ (H : Heap) (locs : List Loc), va_P D vwCl (wM k ma mi st rp tp cr cw ik ln lg ce) H → va_S A s.heap H locs → gW p l e rmX3_stow s m [.ref (ma 0), .int p1, .int p2, .int p3] below meth c (qcX3_stow D k ma mi_o st rp tp cr cw ik ln lg ce_o r A) A 0 0 H locs 0 ls [] from hw s.heap [] hP hS
  clear hP hS
  intro H locs hP hS
  unfold fX3_stow at hf
  refine lv_iload_n hx hb dX3_stow_0 rfl (lv_at hl 1 rfl) ?_
  refine lv_i2l hx hb dX3_stow_1 rfl ?_
  refine lv_lconst (v := 0) hx hb dX3_stow_2 (by decide) ?_
  refine lv_ldc2 hx hb hown (hts _ q1097) dX3_stow_3 ?_
  obtain ⟨v1, ev1, hf⟩ := ob hf
  refine rd_callSZ (As := [.long ((p1).toInt64), .long (0 : Int64), .long (3 : Int64)]) (rest := []) ⟨hx, hb, hml, hown, hts⟩ (mX3_in l D k   ((p1).toInt64) (0 : Int64) (3 : Int64) _ ev1) (va_cwS 3 hts (lw_S q999 q1000 q94 q1001) rfl rfl rfl hdX3_in ⟨Nat.le_of_ble_eq_true rfl, Nat.le_of_ble_eq_true rfl⟩) hK rfl hl.1 rfl (Nat.le_of_ble_eq_true rfl) dX3_stow_6 ⟨Nat.le_of_ble_eq_true rfl, Nat.le_of_ble_eq_true rfl⟩ (fun zv1 => ?_)
  refine lv_if_eq (tgt := 28) hx hb dX3_stow_9 (by decide) (fun c3 => ?_) (fun c3 => ?_)
  · have hf := oi_t c3 hf
    refine lv_iconst (v := (-1)) hx hb dX3_stow_28 (by decide) ?_
    obtain ⟨he1, he2, he3⟩ := prod3 hf
    rw [he2] at hP
    rw [he3] at hP
    exact wr_iret hx hb hr hlk he1 hP hS dX3_stow_29
  · have hf := oi_f c3 hf
    refine lv_iload_n hx hb dX3_stow_12 rfl (lv_at hl 2 rfl) ?_
    refine lv_i2l hx hb dX3_stow_13 rfl ?_
    refine lv_lconst (v := 0) hx hb dX3_stow_14 (by decide) ?_
    refine lv_ldc2 hx hb hown (hts _ q1068) dX3_stow_15 ?_
    obtain ⟨v4, ev4, hf⟩ := ob hf
    refine rd_callSZ (As := [.long ((p2).toInt64), .long (0 : Int64), .long (2 : Int64)]) (rest := []) ⟨hx, hb, hml, hown, hts⟩ (mX3_in l D k   ((p2).toInt64) (0 : Int64) (2 : Int64) _ ev4) (va_cwS 3 hts (lw_S q999 q1000 q94 q1001) rfl rfl rfl hdX3_in ⟨Nat.le_of_ble_eq_true rfl, Nat.le_of_ble_eq_true rfl⟩) hK rfl hl.1 rfl (Nat.le_of_ble_eq_true rfl) dX3_stow_18 ⟨Nat.le_of_ble_eq_true rfl, Nat.le_of_ble_eq_true rfl⟩ (fun zv4 => ?_)
    refine lv_if_eq (tgt := 28) hx hb dX3_stow_21 (by decide) (fun c6 => ?_) (fun c6 => ?_)
    · have hf := oi_t c6 hf
      refine lv_iconst (v := (-1)) hx hb dX3_stow_28 (by decide) ?_
      obtain ⟨he1, he2, he3⟩ := prod3 hf
      rw [he2] at hP
      rw [he3] at hP
      exact wr_iret hx hb hr hlk he1 hP hS dX3_stow_29
    · have hf := oi_f c6 hf
      refine lv_iload_n hx hb dX3_stow_24 rfl (lv_at hl 3 rfl) ?_
      refine lv_if_ge (tgt := 30) hx hb dX3_stow_25 (by decide) (fun c7 => ?_) (fun c7 => ?_)
      · have hf := oi_t c7 hf
        refine lv_aload_n hx hb dX3_stow_30 rfl (lv_at hl 0 rfl) ?_
        refine lv_iconst (v := 0) hx hb dX3_stow_31 (by decide) ?_
        refine va_put (D := D) (cl := vwCl) (ci := 3) (v := .int (0 : Int32)) (ty := .int) (C := RX3) (T := TX3) (N := 18) hx hb hts in_X3 tyX3 tyX3_ok nmX3 hown hK.1 hP hD hS 0 rfl rfl 17 (by decide) (hts _ q955) (fun _ h9 => h9) rfl (by decide +kernel) rfl rfl (Nat.le_of_ble_eq_true rfl) dX3_stow_32 (fun H locs hP hD hS => ?_)
        have hP : va_P D vwCl (wM k ma (upd mi 8 (0 : Int32)) st rp tp cr cw ik ln lg ce) H := hP
        have hD : va_D A (wM k ma (upd mi 8 (0 : Int32)) st rp tp cr cw ik ln lg ce) := hD
        refine lv_iconst (v := 0) hx hb dX3_stow_35 (by decide) ?_
        refine lv_istore (lv' := [(4, .int (0 : Int32)), (0, .ref (ma 0)), (1, .int p1), (2, .int p2), (3, .int p3)]) hx hb dX3_stow_36 hl (by decide) rfl (fun ls hl => ?_)
        have hL38 : ∀ (nn : Nat) (mi_38 : Nat → Int32) (ce_38 : Nat → Int64) (x4_38 : Int32), ∀ (H : Heap) (locs : List Loc), va_P D vwCl (wM k ma mi_38 st rp tp cr cw ik ln lg ce_38) H → va_D A (wM k ma mi_38 st rp tp cr cw ik ln lg ce_38) → va_S A s.heap H locs → fX3_stow_L38 st ln lg p1 p2 p3 nn mi_38 ce_38 x4_38 = some (r, mi_o, ce_o) → ∀ ls : Array Slot, lv_has ls 10 [(0, .ref (ma 0)), (1, .int p1), (2, .int p2), (3, .int p3), (4, .int x4_38)] → gW p l e rmX3_stow s m [.ref (ma 0), .int p1, .int p2, .int p3] below meth c (qcX3_stow D k ma mi_o st rp tp cr cw ik ln lg ce_o r A) A 0 0 H locs 38 ls [] := by
          intro nn38
          induction nn38 with
          | zero =>
            intro mi_38 ce_38 x4_38 H locs hP hD hS hf
            rw [fX3_stow_L38] at hf; cases hf
          | succ nn38 ih38 =>
            intro mi_38 ce_38 x4_38 H locs hP hD hS hf ls hl
            rw [fX3_stow_L38] at hf
            refine lv_aload_n hx hb dX3_stow_38 rfl (lv_at hl 0 rfl) ?_
            refine va_get (D := D) (cl := vwCl) (ci := 3) (v := .int (mi_38 8)) (C := RX3) (T := TX3) (N := 18) hx hb hts in_X3 hown hK.1 hP 0 rfl rfl 17 (by decide) (hts _ q955) (fun _ h9 => h9) rfl dX3_stow_39 ?_
            refine lv_if_ne (tgt := 165) hx hb dX3_stow_42 (by decide) (fun c8 => ?_) (fun c8 => ?_)
            · have hf := oi_f c8 hf
              refine lv_iload hx hb dX3_stow_165 (lv_at hl 4 rfl) ?_
              obtain ⟨he1, he2, he3⟩ := prod3 hf
              rw [he2] at hP
              rw [he3] at hP
              exact wr_iret hx hb hr hlk he1 hP hS dX3_stow_167
            · have hf := oi_t c8 hf
              refine lv_iload hx hb dX3_stow_45 (lv_at hl 4 rfl) ?_
              refine lv_aload_n hx hb dX3_stow_47 rfl (lv_at hl 0 rfl) ?_
              obtain ⟨v9, ev9, hf⟩ := ob hf
              refine rd_callV (As := []) (rest := [.int x4_38]) ⟨hx, hb, hml, hown, hts⟩ (mX3_places l D k ma mi_38 st rp tp cr cw ik ln lg ce_38  _ ev9) (cwV 0 hts (lw_V q1036 q1038 qs58 q94 q1039) rfl rfl rfl ⟨rfl, hdX3_places⟩ ⟨Nat.le_of_ble_eq_true rfl, Nat.le_of_ble_eq_true rfl⟩) hK hP [0, 1, 2, 3, 4, 5, 6, 7, 8, 9] rfl 0 3 rfl rfl rfl hl.1 rfl (Nat.le_of_ble_eq_true rfl) dX3_stow_48 ⟨Nat.le_of_ble_eq_true rfl, Nat.le_of_ble_eq_true rfl⟩ ?_
              refine lv_icmp_ge (tgt := 165) hx hb dX3_stow_51 (by decide) (fun c11 => ?_) (fun c11 => ?_)
              · have hf := oi_t c11 hf
                refine lv_iload hx hb dX3_stow_165 (lv_at hl 4 rfl) ?_
                obtain ⟨he1, he2, he3⟩ := prod3 hf
                rw [he2] at hP
                rw [he3] at hP
                exact wr_iret hx hb hr hlk he1 hP hS dX3_stow_167
              · have hf := oi_f c11 hf
                refine lv_iload_n hx hb dX3_stow_54 rfl (lv_at hl 3 rfl) ?_
                refine lv_i2l hx hb dX3_stow_55 rfl ?_
                refine lv_iload hx hb dX3_stow_56 (lv_at hl 4 rfl) ?_
                refine lv_i2l hx hb dX3_stow_58 rfl ?_
                refine lv_ladd hx hb dX3_stow_59 ?_
                obtain ⟨y12, ey12, hf⟩ := ob hf
                refine x_asL ey12 ?_
                refine lv_lstore (lv' := [(5, .long y12), (0, .ref (ma 0)), (1, .int p1), (2, .int p2), (3, .int p3), (4, .int x4_38)]) hx hb dX3_stow_60 hl (by decide) rfl (fun ls hl => ?_)
                refine lv_aload_n hx hb dX3_stow_62 rfl (lv_at hl 1 rfl) ?_
                refine lv_aload_n hx hb dX3_stow_63 rfl (lv_at hl 1 rfl) ?_
                refine lv_iload_n hx hb dX3_stow_64 rfl (lv_at hl 2 rfl) ?_
                refine lv_iload_n hx hb dX3_stow_65 rfl (lv_at hl 3 rfl) ?_
                refine lv_lload hx hb dX3_stow_66 (lv_at hl 0 rfl) ?_
                obtain ⟨v13, ev13, hf⟩ := ob hf
                refine rd_callV (As := [.int p1, .int p2, .long y12]) (rest := [.ref (ma 0)]) ⟨hx, hb, hml, hown, hts⟩ (mX3_foundAt l D k ma mi_38 st rp tp cr cw ik ln lg ce_38 p1 p2 y12 _ ev13) (cwV 3 hts (lw_V q1312 q1314 qs87 q94 q1315) rfl rfl rfl ⟨rfl, hdX3_foundAt⟩ ⟨Nat.le_of_ble_eq_true rfl, Nat.le_of_ble_eq_true rfl⟩) hK hP [0, 1, 2, 3, 4, 5, 6, 7, 8, 9] rfl 0 3 rfl rfl rfl hl.1 rfl (Nat.le_of_ble_eq_true rfl) dX3_stow_68 ⟨Nat.le_of_ble_eq_true rfl, Nat.le_of_ble_eq_true rfl⟩ ?_
                refine va_put (D := D) (cl := vwCl) (ci := 3) (v := .int v13) (ty := .int) (C := RX3) (T := TX3) (N := 18) hx hb hts in_X3 tyX3 tyX3_ok nmX3 hown hK.1 hP hD hS 0 rfl rfl 17 (by decide) (hts _ q955) (fun _ h9 => h9) rfl (by decide +kernel) rfl rfl (Nat.le_of_ble_eq_true rfl) dX3_stow_71 (fun H locs hP hD hS => ?_)
                have hP : va_P D vwCl (wM k ma (upd mi_38 8 v13) st rp tp cr cw ik ln lg ce_38) H := hP
                have hD : va_D A (wM k ma (upd mi_38 8 v13) st rp tp cr cw ik ln lg ce_38) := hD
                refine lv_aload_n hx hb dX3_stow_74 rfl (lv_at hl 1 rfl) ?_
                refine va_get (D := D) (cl := vwCl) (ci := 3) (v := .int ((upd mi_38 8 v13) 8)) (C := RX3) (T := TX3) (N := 18) hx hb hts in_X3 hown hK.1 hP 0 rfl rfl 17 (by decide) (hts _ q955) (fun _ h9 => h9) rfl dX3_stow_75 ?_
                have hB162 : ∀ (mi_162 : Nat → Int32) (ce_162 : Nat → Int64) (x4_162 : Int32), ∀ (H : Heap) (locs : List Loc), va_P D vwCl (wM k ma mi_162 st rp tp cr cw ik ln lg ce_162) H → va_D A (wM k ma mi_162 st rp tp cr cw ik ln lg ce_162) → va_S A s.heap H locs → fX3_stow_B162 st ln lg p1 p2 p3 (fX3_stow_L38 st ln lg p1 p2 p3 nn38) mi_162 ce_162 x4_162 = some (r, mi_o, ce_o) → ∀ ls : Array Slot, lv_has ls 10 [(0, .ref (ma 0)), (1, .int p1), (2, .int p2), (3, .int p3), (4, .int x4_162)] → gW p l e rmX3_stow s m [.ref (ma 0), .int p1, .int p2, .int p3] below meth c (qcX3_stow D k ma mi_o st rp tp cr cw ik ln lg ce_o r A) A 0 0 H locs 162 ls [] := by
                  intro mi_162 ce_162 x4_162 H locs hP hD hS hf ls hl
                  unfold fX3_stow_B162 at hf
                  refine lv_goto (tgt := 38) hx hb dX3_stow_162 (by decide) ?_
                  exact ih38 mi_162 ce_162 x4_162 H locs hP hD hS hf ls (lv_sub hl [0, 1, 2, 3, 4] rfl)
                refine lv_if_ne (tgt := 162) hx hb dX3_stow_78 (by decide) (fun c15 => ?_) (fun c15 => ?_)
                · have hf := oi_f c15 hf
                  exact hB162 (upd mi_38 8 v13) ce_38 x4_38 H locs hP hD hS hf ls (lv_sub hl [1, 2, 3, 4, 5] rfl)
                · have hf := oi_t c15 hf
                  refine lv_bipush (v := 40) hx hb dX3_stow_81 (by decide) ?_
                  refine lv_iload_n hx hb dX3_stow_83 rfl (lv_at hl 2 rfl) ?_
                  refine lv_imul hx hb dX3_stow_84 ?_
                  refine lv_lload hx hb dX3_stow_85 (lv_at hl 0 rfl) ?_
                  refine lv_iload_n hx hb dX3_stow_87 rfl (lv_at hl 3 rfl) ?_
                  obtain ⟨v16, ev16, hf⟩ := ob hf
                  refine rd_callS (As := [.int p2]) (rest := [.long y12, .int ((40 : Int32) * p1)]) ⟨hx, hb, hml, hown, hts⟩ (mX3_wide l D k   p2 _ ev16) (va_cwS 1 hts (lw_S q1316 q1317 q94 q1318) rfl rfl rfl hdX3_wide ⟨Nat.le_of_ble_eq_true rfl, Nat.le_of_ble_eq_true rfl⟩) hK rfl hl.1 rfl (Nat.le_of_ble_eq_true rfl) dX3_stow_88 ⟨Nat.le_of_ble_eq_true rfl, Nat.le_of_ble_eq_true rfl⟩ ?_
                  refine lv_i2l hx hb dX3_stow_91 rfl ?_
                  have c18 := on_zL hf
                  have hf := oi_f c18 hf
                  refine lv_ldiv hx hb dX3_stow_92 c18 ?_
                  refine lv_l2i hx hb dX3_stow_93 rfl ?_
                  refine lv_iadd hx hb dX3_stow_94 ?_
                  obtain ⟨y19, ey19, hf⟩ := ob hf
                  refine x_asI ey19 ?_
                  refine lv_istore (lv' := [(7, .int y19), (5, .long y12), (0, .ref (ma 0)), (1, .int p1), (2, .int p2), (3, .int p3), (4, .int x4_38)]) hx hb dX3_stow_95 hl (by decide) rfl (fun ls hl => ?_)
                  refine lv_lconst (v := 1) hx hb dX3_stow_97 (by decide) ?_
                  refine lv_lload hx hb dX3_stow_98 (lv_at hl 1 rfl) ?_
                  refine lv_iload_n hx hb dX3_stow_100 rfl (lv_at hl 4 rfl) ?_
                  obtain ⟨v20, ev20, hf⟩ := ob hf
                  refine rd_callS (As := [.int p2]) (rest := [.long y12, .long (1 : Int64)]) ⟨hx, hb, hml, hown, hts⟩ (mX3_wide l D k   p2 _ ev20) (va_cwS 1 hts (lw_S q1316 q1317 q94 q1318) rfl rfl rfl hdX3_wide ⟨Nat.le_of_ble_eq_true rfl, Nat.le_of_ble_eq_true rfl⟩) hK rfl hl.1 rfl (Nat.le_of_ble_eq_true rfl) dX3_stow_101 ⟨Nat.le_of_ble_eq_true rfl, Nat.le_of_ble_eq_true rfl⟩ ?_
                  refine lv_i2l hx hb dX3_stow_104 rfl ?_
                  have c22 := on_zL hf
                  have hf := oi_f c22 hf
                  refine lv_lrem hx hb dX3_stow_105 c22 ?_
                  refine lv_l2i hx hb dX3_stow_106 rfl ?_
                  refine lv_lshl hx hb dX3_stow_107 rfl ?_
                  obtain ⟨y23, ey23, hf⟩ := ob hf
                  refine x_asL ey23 ?_
                  refine lv_lstore (lv' := [(8, .long y23), (7, .int y19), (5, .long y12), (0, .ref (ma 0)), (1, .int p1), (2, .int p2), (3, .int p3), (4, .int x4_38)]) hx hb dX3_stow_108 hl (by decide) rfl (fun ls hl => ?_)
                  refine lv_aload_n hx hb dX3_stow_110 rfl (lv_at hl 3 rfl) ?_
                  refine va_get (D := D) (cl := vwCl) (ci := 3) (v := .ref (ma 9)) (C := RX3) (T := TX3) (N := 18) hx hb hts in_X3 hown hK.1 hP 0 rfl rfl 16 (by decide) (hts _ q954) (fun _ h9 => h9) rfl dX3_stow_111 ?_
                  refine lv_iload hx hb dX3_stow_114 (lv_at hl 1 rfl) ?_
                  refine lv_iload_n hx hb dX3_stow_116 rfl (lv_at hl 5 rfl) ?_
                  refine lv_aload_n hx hb dX3_stow_117 rfl (lv_at hl 3 rfl) ?_
                  refine va_get (D := D) (cl := vwCl) (ci := 3) (v := .ref (ma 1)) (C := RX3) (T := TX3) (N := 18) hx hb hts in_X3 hown hK.1 hP 0 rfl rfl 0 (by decide) (hts _ q938) (fun _ h9 => h9) rfl dX3_stow_118 ?_
                  refine lv_iload hx hb dX3_stow_121 (lv_at hl 7 rfl) ?_
                  obtain ⟨v24, ev24, hf⟩ := ob hf
                  refine x_iald hx hb hK hP 1 1 ev24 rfl rfl dX3_stow_123 ?_
                  refine lv_iconst (v := 1) hx hb dX3_stow_124 (by decide) ?_
                  have hB155 : ∀ (mi_155 : Nat → Int32) (ce_155 : Nat → Int64) (x4_155 : Int32) (s0_155 : Int64) (s1_155 : Int32) (s2_155 : Int32), ∀ (H : Heap) (locs : List Loc), va_P D vwCl (wM k ma mi_155 st rp tp cr cw ik ln lg ce_155) H → va_D A (wM k ma mi_155 st rp tp cr cw ik ln lg ce_155) → va_S A s.heap H locs → fX3_stow_B155 st ln lg p1 p2 p3 (fX3_stow_L38 st ln lg p1 p2 p3 nn38) mi_155 ce_155 x4_155 s0_155 s1_155 s2_155 = some (r, mi_o, ce_o) → ∀ ls : Array Slot, lv_has ls 10 [(0, .ref (ma 0)), (1, .int p1), (2, .int p2), (3, .int p3), (4, .int x4_155)] → gW p l e rmX3_stow s m [.ref (ma 0), .int p1, .int p2, .int p3] below meth c (qcX3_stow D k ma mi_o st rp tp cr cw ik ln lg ce_o r A) A 0 0 H locs 155 ls [.long s0_155, .int s1_155, .int s2_155, .ref (ma 9)] := by
                    intro mi_155 ce_155 x4_155 s0_155 s1_155 s2_155 H locs hP hD hS hf ls hl
                    unfold fX3_stow_B155 at hf
                    obtain ⟨v26, ev26, hf⟩ := ob hf
                    refine rd_callSL (As := [.int s1_155, .long s0_155]) (rest := [.int s2_155, .ref (ma 9)]) ⟨hx, hb, hml, hown, hts⟩ (mX3_narrowed l D k   s1_155 s0_155 _ ev26) (va_cwS 2 hts (lw_S q1300 q1301 q94 q1302) rfl rfl rfl hdX3_narrowed ⟨Nat.le_of_ble_eq_true rfl, Nat.le_of_ble_eq_true rfl⟩) hK rfl hl.1 rfl (Nat.le_of_ble_eq_true rfl) dX3_stow_155 ⟨Nat.le_of_ble_eq_true rfl, Nat.le_of_ble_eq_true rfl⟩ ?_
                    obtain ⟨u28, eu28, hf⟩ := ob hf
                    refine x_last hx hb hK hP hD hS 9 0 eu28 rfl rfl (wM k ma mi_155 st rp tp cr cw ik ln lg u28) rfl dX3_stow_158 (fun H locs hP hD hS => ?_)
                    refine lv_iinc (v := (x4_155 + 1)) (lv' := [(4, .int (x4_155 + 1)), (0, .ref (ma 0)), (1, .int p1), (2, .int p2), (3, .int p3)]) hx hb dX3_stow_159 hl (k := 4) rfl rfl (by decide) rfl (fun ls hl => ?_)
                    exact hB162 mi_155 u28 (x4_155 + 1) H locs hP hD hS hf ls (lv_sub hl [1, 2, 3, 4, 0] rfl)
                  refine lv_icmp_ne (tgt := 141) hx hb dX3_stow_125 (by decide) (fun c25 => ?_) (fun c25 => ?_)
                  · have hf := oi_f c25 hf
                    refine lv_aload_n hx hb dX3_stow_141 rfl (lv_at hl 3 rfl) ?_
                    refine va_get (D := D) (cl := vwCl) (ci := 3) (v := .ref (ma 9)) (C := RX3) (T := TX3) (N := 18) hx hb hts in_X3 hown hK.1 hP 0 rfl rfl 16 (by decide) (hts _ q954) (fun _ h9 => h9) rfl dX3_stow_142 ?_
                    refine lv_iload hx hb dX3_stow_145 (lv_at hl 1 rfl) ?_
                    obtain ⟨v29, ev29, hf⟩ := ob hf
                    refine x_lald hx hb hK hP 9 0 ev29 rfl rfl dX3_stow_147 ?_
                    refine lv_lload hx hb dX3_stow_148 (lv_at hl 0 rfl) ?_
                    refine lv_ldc2 hx hb hown (hts _ q1327) dX3_stow_150 ?_
                    refine lv_lxor hx hb dX3_stow_153 ?_
                    refine lv_land hx hb dX3_stow_154 ?_
                    exact hB155 (upd mi_38 8 v13) ce_38 x4_38 (v29 &&& (y23 ^^^ (-1 : Int64))) p2 y19 H locs hP hD hS hf ls (lv_sub hl [3, 4, 5, 6, 7] rfl)
                  · have hf := oi_t c25 hf
                    refine lv_aload_n hx hb dX3_stow_128 rfl (lv_at hl 3 rfl) ?_
                    refine va_get (D := D) (cl := vwCl) (ci := 3) (v := .ref (ma 9)) (C := RX3) (T := TX3) (N := 18) hx hb hts in_X3 hown hK.1 hP 0 rfl rfl 16 (by decide) (hts _ q954) (fun _ h9 => h9) rfl dX3_stow_129 ?_
                    refine lv_iload hx hb dX3_stow_132 (lv_at hl 1 rfl) ?_
                    obtain ⟨v30, ev30, hf⟩ := ob hf
                    refine x_lald hx hb hK hP 9 0 ev30 rfl rfl dX3_stow_134 ?_
                    refine lv_lload hx hb dX3_stow_135 (lv_at hl 0 rfl) ?_
                    refine lv_lor hx hb dX3_stow_137 ?_
                    refine lv_goto (tgt := 155) hx hb dX3_stow_138 (by decide) ?_
                    exact hB155 (upd mi_38 8 v13) ce_38 x4_38 (v30 ||| y23) p2 y19 H locs hP hD hS hf ls (lv_sub hl [3, 4, 5, 6, 7] rfl)
        exact hL38 FU (upd mi 8 (0 : Int32)) ce (0 : Int32) H locs hP hD hS hf ls (lv_sub hl [1, 2, 3, 4, 0] rfl)
      · have hf := oi_f c7 hf
        refine lv_iconst (v := (-1)) hx hb dX3_stow_28 (by decide) ?_
        obtain ⟨he1, he2, he3⟩ := prod3 hf
        rw [he2] at hP
        rw [he3] at hP
        exact wr_iret hx hb hr hlk he1 hP hS dX3_stow_29

abbrev rmX3_torn : Room := { frames := 0, cells := 0, slots := 0, locals := 0 }
theorem hdX3_torn : yX3_torn.cls ≠ "java/lang/invoke/MethodHandle" ∧ yX3_torn.cls ≠ "java/lang/invoke/VarHandle" ∧ (parseMethodDescriptor yX3_torn.desc).map (fun d => d.parameters.length) = some 0 := by decide +kernel
set_option maxHeartbeats 4000000 in
theorem mX3_torn (l : Launch) (D : va_G) (k : Nat → ClassId) (ma : Nat → Nat) (mi : Nat → Int32) (st : Nat → Int32) (rp : Nat → Int32) (tp : Nat → Int32) (cr : Nat → Int32) (cw : Nat → Int32) (ik : Nat → Int32) (ln : Nat → Int32) (lg : Nat → Int32) (ce : Nat → Int64) (r : Int32) (hf : fX3_torn mi = some r) : CtI l yX3_torn cX3_torn 1 rmX3_torn [.ref (ma 0)] D k (wM k ma mi st rp tp cr cw ik ln lg ce) r := by
  refine rd_start (by decide +kernel) (Nat.le_of_ble_eq_true rfl) ?_
  intro p e s m below meth c ls hx hb hr hlk hml hown hts hP hK hl
  have hl : lv_has ls 1 [(0, .ref (ma 0))] := hl
  have hown : s.vm.findClass RX3 = some m.cls := hown
  unfold fX3_torn at hf
  refine lv_aload_n hx hb dX3_torn_0 rfl (lv_at hl 0 rfl) ?_
  refine va_get (D := D) (cl := vwCl) (ci := 3) (v := .int (mi 8)) (C := RX3) (T := TX3) (N := 18) hx hb hts in_X3 hown hK.1 hP 0 rfl rfl 17 (by decide) (hts _ q955) (fun _ h9 => h9) rfl dX3_torn_1 ?_
  exact rd_iret hx hb hr hlk (Option.some.inj hf) dX3_torn_4

abbrev rmX3_count : Room := { frames := 1, cells := 0, slots := 0, locals := 20 }
theorem hdX3_count : yX3_count.cls ≠ "java/lang/invoke/MethodHandle" ∧ yX3_count.cls ≠ "java/lang/invoke/VarHandle" ∧ (parseMethodDescriptor yX3_count.desc).map (fun d => d.parameters.length) = some 1 := by decide +kernel
set_option maxHeartbeats 4000000 in
theorem mX3_count (l : Launch) (D : va_G) (k : Nat → ClassId) (ma : Nat → Nat) (mi : Nat → Int32) (st : Nat → Int32) (rp : Nat → Int32) (tp : Nat → Int32) (cr : Nat → Int32) (cw : Nat → Int32) (ik : Nat → Int32) (ln : Nat → Int32) (lg : Nat → Int32) (ce : Nat → Int64) (p1 : Int32) (r : Int32) (hf : fX3_count mi st ik ln lg p1 = some r) : CtI l yX3_count cX3_count 4 rmX3_count [.ref (ma 0), .int p1] D k (wM k ma mi st rp tp cr cw ik ln lg ce) r := by
  refine rd_start (by decide +kernel) (Nat.le_of_ble_eq_true rfl) ?_
  intro p e s m below meth c ls hx hb hr hlk hml hown hts hP hK hl
  have hl : lv_has ls 4 [(0, .ref (ma 0)), (1, .int p1)] := hl
  have hown : s.vm.findClass RX3 = some m.cls := hown
  unfold fX3_count at hf
  refine lv_iconst (v := 0) hx hb dX3_count_0 (by decide) ?_
  refine lv_istore_n (lv' := [(2, .int (0 : Int32)), (0, .ref (ma 0)), (1, .int p1)]) hx hb dX3_count_1 rfl hl (by decide) rfl (fun ls hl => ?_)
  refine lv_iconst (v := 1) hx hb dX3_count_2 (by decide) ?_
  refine lv_istore_n (lv' := [(3, .int (1 : Int32)), (2, .int (0 : Int32)), (0, .ref (ma 0)), (1, .int p1)]) hx hb dX3_count_3 rfl hl (by decide) rfl (fun ls hl => ?_)
  have hL4 : ∀ (nn : Nat) (x2_4 : Int32) (x3_4 : Int32), fX3_count_L4 mi st ik ln lg p1 nn x2_4 x3_4 = some r → ∀ ls : Array Slot, lv_has ls 4 [(0, .ref (ma 0)), (1, .int p1), (2, .int x2_4), (3, .int x3_4)] → gR p l e rmX3_count s m [.ref (ma 0), .int p1] below meth c (vp_Si (fun x => x = r)) 4 ls [] := by
    intro nn4
    induction nn4 with
    | zero =>
      intro x2_4 x3_4 hf
      rw [fX3_count_L4] at hf; cases hf
    | succ nn4 ih4 =>
      intro x2_4 x3_4 hf ls hl
      rw [fX3_count_L4] at hf
      refine lv_iload_n hx hb dX3_count_4 rfl (lv_at hl 3 rfl) ?_
      refine lv_aload_n hx hb dX3_count_5 rfl (lv_at hl 0 rfl) ?_
      obtain ⟨v1, ev1, hf⟩ := ob hf
      refine rd_callV (As := []) (rest := [.int x3_4]) ⟨hx, hb, hml, hown, hts⟩ (mX3_places l D k ma mi st rp tp cr cw ik ln lg ce  _ ev1) (cwV 0 hts (lw_V q1036 q1038 qs58 q94 q1039) rfl rfl rfl ⟨rfl, hdX3_places⟩ ⟨Nat.le_of_ble_eq_true rfl, Nat.le_of_ble_eq_true rfl⟩) hK hP [0, 1, 2, 3, 4, 5, 6, 7, 8, 9] rfl 0 3 rfl rfl rfl hl.1 rfl (Nat.le_of_ble_eq_true rfl) dX3_count_6 ⟨Nat.le_of_ble_eq_true rfl, Nat.le_of_ble_eq_true rfl⟩ ?_
      refine lv_icmp_ge (tgt := 27) hx hb dX3_count_9 (by decide) (fun c3 => ?_) (fun c3 => ?_)
      · have hf := oi_t c3 hf
        refine lv_iload_n hx hb dX3_count_27 rfl (lv_at hl 1 rfl) ?_
        by_cases c4 : p1 = 0
        · have hf := oi_t c4 hf
          refine lv_tableIn (off := 32) (tgt := 60) hx hb dX3_count_28 (by rw [c4]; decide) (by rw [c4]; decide) (by rw [c4]; rfl) (by decide) ?_
          refine lv_aload_n hx hb dX3_count_60 rfl (lv_at hl 0 rfl) ?_
          refine va_get (D := D) (cl := vwCl) (ci := 3) (v := .ref (ma 6)) (C := RX3) (T := TX3) (N := 18) hx hb hts in_X3 hown hK.1 hP 0 rfl rfl 13 (by decide) (hts _ q951) (fun _ h9 => h9) rfl dX3_count_61 ?_
          refine lv_iconst (v := 0) hx hb dX3_count_64 (by decide) ?_
          obtain ⟨v5, ev5, hf⟩ := ob hf
          refine x_zald hx hb hK hP 6 4 ev5 rfl rfl dX3_count_65 ?_
          have hB74 : ∀ (s0_74 : Int32), fX3_count_B74 mi st ik ln lg p1 s0_74 = some r → ∀ ls : Array Slot, lv_has ls 4 [(0, .ref (ma 0))] → gR p l e rmX3_count s m [.ref (ma 0), .int p1] below meth c (vp_Si (fun x => x = r)) 74 ls [.int s0_74] := by
            intro s0_74 hf ls hl
            unfold fX3_count_B74 at hf
            refine lv_aload_n hx hb dX3_count_74 rfl (lv_at hl 0 rfl) ?_
            refine va_get (D := D) (cl := vwCl) (ci := 3) (v := .ref (ma 6)) (C := RX3) (T := TX3) (N := 18) hx hb hts in_X3 hown hK.1 hP 0 rfl rfl 13 (by decide) (hts _ q951) (fun _ h9 => h9) rfl dX3_count_75 ?_
            refine lv_iconst (v := 1) hx hb dX3_count_78 (by decide) ?_
            obtain ⟨v7, ev7, hf⟩ := ob hf
            refine x_zald hx hb hK hP 6 4 ev7 rfl rfl dX3_count_79 ?_
            refine lv_if_eq (tgt := 87) hx hb dX3_count_80 (by decide) (fun c8 => ?_) (fun c8 => ?_)
            · have hf := oi_t c8 hf
              refine lv_iconst (v := 0) hx hb dX3_count_87 (by decide) ?_
              refine lv_iadd hx hb dX3_count_88 ?_
              exact rd_iret hx hb hr hlk (Option.some.inj hf) dX3_count_89
            · have hf := oi_f c8 hf
              refine lv_iconst (v := 1) hx hb dX3_count_83 (by decide) ?_
              refine lv_goto (tgt := 88) hx hb dX3_count_84 (by decide) ?_
              refine lv_iadd hx hb dX3_count_88 ?_
              exact rd_iret hx hb hr hlk (Option.some.inj hf) dX3_count_89
          refine lv_if_eq (tgt := 73) hx hb dX3_count_66 (by decide) (fun c6 => ?_) (fun c6 => ?_)
          · have hf := oi_t c6 hf
            refine lv_iconst (v := 0) hx hb dX3_count_73 (by decide) ?_
            exact hB74 (0 : Int32) hf ls (lv_sub hl [0] rfl)
          · have hf := oi_f c6 hf
            refine lv_iconst (v := 1) hx hb dX3_count_69 (by decide) ?_
            refine lv_goto (tgt := 74) hx hb dX3_count_70 (by decide) ?_
            exact hB74 (1 : Int32) hf ls (lv_sub hl [0] rfl)
        have hf := oi_f c4 hf
        by_cases c9 : p1 = 1
        · have hf := oi_t c9 hf
          refine lv_tableIn (off := 62) (tgt := 90) hx hb dX3_count_28 (by rw [c9]; decide) (by rw [c9]; decide) (by rw [c9]; rfl) (by decide) ?_
          refine lv_aload_n hx hb dX3_count_90 rfl (lv_at hl 0 rfl) ?_
          refine va_get (D := D) (cl := vwCl) (ci := 3) (v := .int (mi 0)) (C := RX3) (T := TX3) (N := 18) hx hb hts in_X3 hown hK.1 hP 0 rfl rfl 3 (by decide) (hts _ q941) (fun _ h9 => h9) rfl dX3_count_91 ?_
          exact rd_iret hx hb hr hlk (Option.some.inj hf) dX3_count_94
        have hf := oi_f c9 hf
        by_cases c10 : p1 = 2
        · have hf := oi_t c10 hf
          refine lv_tableIn (off := 67) (tgt := 95) hx hb dX3_count_28 (by rw [c10]; decide) (by rw [c10]; decide) (by rw [c10]; rfl) (by decide) ?_
          refine lv_aload_n hx hb dX3_count_95 rfl (lv_at hl 0 rfl) ?_
          refine va_get (D := D) (cl := vwCl) (ci := 3) (v := .ref (ma 7)) (C := RX3) (T := TX3) (N := 18) hx hb hts in_X3 hown hK.1 hP 0 rfl rfl 14 (by decide) (hts _ q952) (fun _ h9 => h9) rfl dX3_count_96 ?_
          refine lv_iconst (v := 0) hx hb dX3_count_99 (by decide) ?_
          obtain ⟨v11, ev11, hf⟩ := ob hf
          refine x_iald hx hb hK hP 7 1 ev11 rfl rfl dX3_count_100 ?_
          refine lv_bipush (v := (-4)) hx hb dX3_count_101 (by decide) ?_
          refine lv_icmp_ne (tgt := 111) hx hb dX3_count_103 (by decide) (fun c12 => ?_) (fun c12 => ?_)
          · have hf := oi_f c12 hf
            refine lv_aload_n hx hb dX3_count_111 rfl (lv_at hl 0 rfl) ?_
            refine va_get (D := D) (cl := vwCl) (ci := 3) (v := .ref (ma 8)) (C := RX3) (T := TX3) (N := 18) hx hb hts in_X3 hown hK.1 hP 0 rfl rfl 15 (by decide) (hts _ q953) (fun _ h9 => h9) rfl dX3_count_112 ?_
            refine lv_iconst (v := 0) hx hb dX3_count_115 (by decide) ?_
            obtain ⟨v13, ev13, hf⟩ := ob hf
            refine x_iald hx hb hK hP 8 1 ev13 rfl rfl dX3_count_116 ?_
            exact rd_iret hx hb hr hlk (Option.some.inj hf) dX3_count_117
          · have hf := oi_t c12 hf
            refine lv_bipush (v := (-4)) hx hb dX3_count_106 (by decide) ?_
            refine lv_goto (tgt := 117) hx hb dX3_count_108 (by decide) ?_
            exact rd_iret hx hb hr hlk (Option.some.inj hf) dX3_count_117
        have hf := oi_f c10 hf
        by_cases c14 : p1 = 3
        · have hf := oi_t c14 hf
          refine lv_tableIn (off := 90) (tgt := 118) hx hb dX3_count_28 (by rw [c14]; decide) (by rw [c14]; decide) (by rw [c14]; rfl) (by decide) ?_
          refine lv_iload_n hx hb dX3_count_118 rfl (lv_at hl 2 rfl) ?_
          exact rd_iret hx hb hr hlk (Option.some.inj hf) dX3_count_119
        have hf := oi_f c14 hf
        refine lv_tableOut (tgt := 120) hx hb dX3_count_28 (tb_out4 c4 c9 c10 c14) (by decide) ?_
        refine lv_iconst (v := (-1)) hx hb dX3_count_120 (by decide) ?_
        exact rd_iret hx hb hr hlk (Option.some.inj hf) dX3_count_121
      · have hf := oi_f c3 hf
        refine lv_iload_n hx hb dX3_count_12 rfl (lv_at hl 2 rfl) ?_
        refine lv_aload_n hx hb dX3_count_13 rfl (lv_at hl 0 rfl) ?_
        refine va_get (D := D) (cl := vwCl) (ci := 3) (v := .ref (ma 1)) (C := RX3) (T := TX3) (N := 18) hx hb hts in_X3 hown hK.1 hP 0 rfl rfl 0 (by decide) (hts _ q938) (fun _ h9 => h9) rfl dX3_count_14 ?_
        refine lv_iload_n hx hb dX3_count_17 rfl (lv_at hl 3 rfl) ?_
        obtain ⟨v15, ev15, hf⟩ := ob hf
        refine x_iald hx hb hK hP 1 1 ev15 rfl rfl dX3_count_18 ?_
        refine lv_iadd hx hb dX3_count_19 ?_
        obtain ⟨y16, ey16, hf⟩ := ob hf
        refine x_asI ey16 ?_
        refine lv_istore_n (lv' := [(2, .int y16), (0, .ref (ma 0)), (1, .int p1), (3, .int x3_4)]) hx hb dX3_count_20 rfl hl (by decide) rfl (fun ls hl => ?_)
        refine lv_iinc (v := (x3_4 + 2)) (lv' := [(3, .int (x3_4 + 2)), (2, .int y16), (0, .ref (ma 0)), (1, .int p1)]) hx hb dX3_count_21 hl (k := 3) rfl rfl (by decide) rfl (fun ls hl => ?_)
        refine lv_goto (tgt := 4) hx hb dX3_count_24 (by decide) ?_
        exact ih4 y16 (x3_4 + 2) hf ls (lv_sub hl [2, 3, 1, 0] rfl)
  exact hL4 FU (0 : Int32) (1 : Int32) hf ls (lv_sub hl [2, 3, 1, 0] rfl)
