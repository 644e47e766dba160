/-! walks of the model, by program -/
set_option maxRecDepth 100000
abbrev rmX3_in : Room := { frames := 0, cells := 0, slots := 0, locals := 0 }
theorem hdX3_in : yX3_in.cls ≠ "java/lang/invoke/MethodHandle" ∧ yX3_in.cls ≠ "java/lang/invoke/VarHandle" ∧ (parseMethodDescriptor yX3_in.desc).map (fun d => d.parameters.length) = some 3 := by decide +kernel
set_option maxHeartbeats 4000000 in
theorem mX3_in (l : Launch) (D : va_G) (k : Nat → ClassId) (p1 : Int64) (p2 : Int64) (p3 : Int64) (r : Int32) (hf : fX3_in p1 p2 p3 = some r) : CtZ l yX3_in cX3_in 6 rmX3_in [.long p1, .long p2, .long p3] D k [] r := by
  refine rd_start (by decide +kernel) (Nat.le_of_ble_eq_true rfl) ?_
  intro p e s m below meth c ls hx hb hr hlk hml hown hts hP hK hl
  have hl : lv_has ls 6 [(0, .long p1), (2, .long p2), (4, .long p3)] := hl
  have hown : s.vm.findClass RX3 = some m.cls := hown
  unfold fX3_in at hf
  refine lv_lload_n hx hb dX3_in_0 rfl (lv_at hl 0 rfl) ?_
  refine lv_lload_n hx hb dX3_in_1 rfl (lv_at hl 1 rfl) ?_
  refine W.lcmp hx hb dX3_in_2 ?_
  refine lv_if_lt (tgt := 17) hx hb dX3_in_3 (by decide) (fun c1 => ?_) (fun c1 => ?_)
  · have hf := oi_t c1 hf
    refine lv_iconst (v := 0) hx hb dX3_in_17 (by decide) ?_
    exact rd_zret hx hb hr hlk (Or.inl rfl) (Option.some.inj hf) dX3_in_18
  · have hf := oi_f c1 hf
    refine lv_lload_n hx hb dX3_in_6 rfl (lv_at hl 0 rfl) ?_
    refine lv_lload hx hb dX3_in_7 (lv_at hl 2 rfl) ?_
    refine W.lcmp hx hb dX3_in_9 ?_
    refine lv_if_gt (tgt := 17) hx hb dX3_in_10 (by decide) (fun c2 => ?_) (fun c2 => ?_)
    · have hf := oi_t c2 hf
      refine lv_iconst (v := 0) hx hb dX3_in_17 (by decide) ?_
      exact rd_zret hx hb hr hlk (Or.inl rfl) (Option.some.inj hf) dX3_in_18
    · have hf := oi_f c2 hf
      refine lv_iconst (v := 1) hx hb dX3_in_13 (by decide) ?_
      refine lv_goto (tgt := 18) hx hb dX3_in_14 (by decide) ?_
      exact rd_zret hx hb hr hlk (Or.inr rfl) (Option.some.inj hf) dX3_in_18

abbrev rmX3_feed : Room := { frames := 1, cells := 0, slots := 0, locals := 25 }
theorem hdX3_feed : yX3_feed.cls ≠ "java/lang/invoke/MethodHandle" ∧ yX3_feed.cls ≠ "java/lang/invoke/VarHandle" ∧ (parseMethodDescriptor yX3_feed.desc).map (fun d => d.parameters.length) = some 1 := by decide +kernel
abbrev qcX3_feed (D : va_G) (k : Nat → ClassId) (ma : Nat → Nat) (mi : Nat → Int32) (st : Nat → Int32) (rp : Nat → Int32) (tp : Nat → Int32) (cr : Nat → Int32) (cw : Nat → Int32) (ik : Nat → Int32) (ln : Nat → Int32) (lg : Nat → Int32) (ce : Nat → Int64) (r : Int32) (A : Nat → Prop) : Array Value → State → Outcome → State → Prop := va_Qi (fun x (_ : Unit) => x = r) (fun _ t => va_P D vwCl (wM k ma mi st rp tp cr cw ik ln lg ce) t.heap) A
set_option maxHeartbeats 4000000 in
theorem mX3_feed (l : Launch) (D : va_G) (k : Nat → ClassId) (ma : Nat → Nat) (mi : Nat → Int32) (st : Nat → Int32) (rp : Nat → Int32) (tp : Nat → Int32) (cr : Nat → Int32) (cw : Nat → Int32) (ik : Nat → Int32) (ln : Nat → Int32) (lg : Nat → Int32) (ce : Nat → Int64) (p1 : Int32) (sz : Nat) (r : Int32) (mi_o : Nat → Int32) (tp_o : Nat → Int32) (hf : fX3_feed mi tp p1 = some (r, mi_o, tp_o)) : Met l yX3_feed (ws_ yX3_feed cX3_feed 2 (some .int)) rmX3_feed (wrP D k (wM k ma mi st rp tp cr cw ik ln lg ce) sz [.ref (ma 0), .int p1]) (qcX3_feed D k ma mi_o st rp tp_o cr cw ik ln lg ce r (va_A (wM k ma mi st rp tp cr cw ik ln lg ce) sz)) 0 0 (va_A (wM k ma mi st rp tp cr cw ik ln lg ce) sz) := by
  refine wr_start (Qc := fun A => qcX3_feed D k ma mi_o st rp tp_o cr cw ik ln lg ce r A) (by decide +kernel) (Nat.le_of_ble_eq_true rfl) ?_
  intro p e s m below meth c ls A hA hx hb hr hlk hml hown hts hP hK hD hl
  have hl : lv_has ls 2 [(0, .ref (ma 0)), (1, .int p1)] := hl
  have hown : s.vm.findClass RX3 = some m.cls := hown
  have hS : va_S A s.heap s.heap [] := va_S.rf
  suffices hw : ∀ (H : Heap) (locs : List Loc), va_P D vwCl (wM k ma mi st rp tp cr cw ik ln lg ce) H → va_S A s.heap H locs → gW p l e rmX3_feed s m [.ref (ma 0), .int p1] below meth c (qcX3_feed D k ma mi_o st rp tp_o cr cw ik ln lg ce r A) A 0 0 H locs 0 ls [] from hw s.heap [] hP hS
  clear hP hS
  intro H locs hP hS
  unfold fX3_feed at hf
  refine lv_iload_n hx hb dX3_feed_0 rfl (lv_at hl 1 rfl) ?_
  refine lv_i2l hx hb dX3_feed_1 rfl ?_
  refine lv_lconst (v := 0) hx hb dX3_feed_2 (by decide) ?_
  refine lv_ldc2 hx hb hown (hts _ q998) dX3_feed_3 ?_
  obtain ⟨v1, ev1, hf⟩ := ob hf
  refine rd_callSZ (As := [.long ((p1).toInt64), .long (0 : Int64), .long (127 : Int64)]) (rest := []) ⟨hx, hb, hml, hown, hts⟩ (mX3_in l D k   ((p1).toInt64) (0 : Int64) (127 : Int64) _ ev1) (va_cwS 3 hts (lw_S q999 q1000 q94 q1001) rfl rfl rfl hdX3_in ⟨Nat.le_of_ble_eq_true rfl, Nat.le_of_ble_eq_true rfl⟩) hK rfl hl.1 rfl (Nat.le_of_ble_eq_true rfl) dX3_feed_6 ⟨Nat.le_of_ble_eq_true rfl, Nat.le_of_ble_eq_true rfl⟩ (fun zv1 => ?_)
  refine lv_if_ne (tgt := 14) hx hb dX3_feed_9 (by decide) (fun c3 => ?_) (fun c3 => ?_)
  · have hf := oi_f c3 hf
    refine lv_aload_n hx hb dX3_feed_14 rfl (lv_at hl 0 rfl) ?_
    refine va_get (D := D) (cl := vwCl) (ci := 3) (v := .int (mi 0)) (C := RX3) (T := TX3) (N := 18) hx hb hts in_X3 hown hK.1 hP 0 rfl rfl 3 (by decide) (hts _ q941) (fun _ h9 => h9) rfl dX3_feed_15 ?_
    refine lv_sipush (v := 160) hx hb dX3_feed_18 (by decide) ?_
    refine lv_icmp_ne (tgt := 27) hx hb dX3_feed_21 (by decide) (fun c4 => ?_) (fun c4 => ?_)
    · have hf := oi_f c4 hf
      refine lv_aload_n hx hb dX3_feed_27 rfl (lv_at hl 0 rfl) ?_
      refine va_get (D := D) (cl := vwCl) (ci := 3) (v := .ref (ma 3)) (C := RX3) (T := TX3) (N := 18) hx hb hts in_X3 hown hK.1 hP 0 rfl rfl 2 (by decide) (hts _ q940) (fun _ h9 => h9) rfl dX3_feed_28 ?_
      refine lv_aload_n hx hb dX3_feed_31 rfl (lv_at hl 0 rfl) ?_
      refine va_get (D := D) (cl := vwCl) (ci := 3) (v := .int (mi 0)) (C := RX3) (T := TX3) (N := 18) hx hb hts in_X3 hown hK.1 hP 0 rfl rfl 3 (by decide) (hts _ q941) (fun _ h9 => h9) rfl dX3_feed_32 ?_
      refine lv_iload_n hx hb dX3_feed_35 rfl (lv_at hl 1 rfl) ?_
      obtain ⟨u5, eu5, hf⟩ := ob hf
      refine x_iast hx hb hK hP hD hS 3 1 eu5 rfl rfl (wM k ma mi st rp u5 cr cw ik ln lg ce) rfl dX3_feed_36 (fun H locs hP hD hS => ?_)
      refine lv_aload_n hx hb dX3_feed_37 rfl (lv_at hl 0 rfl) ?_
      refine lv_dup hx hb dX3_feed_38 rfl ?_
      refine va_get (D := D) (cl := vwCl) (ci := 3) (v := .int (mi 0)) (C := RX3) (T := TX3) (N := 18) hx hb hts in_X3 hown hK.1 hP 0 rfl rfl 3 (by decide) (hts _ q941) (fun _ h9 => h9) rfl dX3_feed_39 ?_
      refine lv_iconst (v := 1) hx hb dX3_feed_42 (by decide) ?_
      refine lv_iadd hx hb dX3_feed_43 ?_
      refine va_put (D := D) (cl := vwCl) (ci := 3) (v := .int ((mi 0) + (1 : Int32))) (ty := .int) (C := RX3) (T := TX3) (N := 18) hx hb hts in_X3 tyX3 tyX3_ok nmX3 hown hK.1 hP hD hS 0 rfl rfl 3 (by decide) (hts _ q941) (fun _ h9 => h9) rfl (by decide +kernel) rfl rfl (Nat.le_of_ble_eq_true rfl) dX3_feed_44 (fun H locs hP hD hS => ?_)
      have hP : va_P D vwCl (wM k ma (upd mi 0 ((mi 0) + (1 : Int32))) st rp u5 cr cw ik ln lg ce) H := hP
      have hD : va_D A (wM k ma (upd mi 0 ((mi 0) + (1 : Int32))) st rp u5 cr cw ik ln lg ce) := hD
      refine lv_aload_n hx hb dX3_feed_47 rfl (lv_at hl 0 rfl) ?_
      refine va_get (D := D) (cl := vwCl) (ci := 3) (v := .int ((upd mi 0 ((mi 0) + (1 : Int32))) 0)) (C := RX3) (T := TX3) (N := 18) hx hb hts in_X3 hown hK.1 hP 0 rfl rfl 3 (by decide) (hts _ q941) (fun _ h9 => h9) rfl dX3_feed_48 ?_
      obtain ⟨he1, he2, he3⟩ := prod3 hf
      rw [he2] at hP
      rw [he3] at hP
      exact wr_iret hx hb hr hlk he1 hP hS dX3_feed_51
    · have hf := oi_t c4 hf
      refine lv_bipush (v := (-3)) hx hb dX3_feed_24 (by decide) ?_
      obtain ⟨he1, he2, he3⟩ := prod3 hf
      rw [he2] at hP
      rw [he3] at hP
      exact wr_iret hx hb hr hlk he1 hP hS dX3_feed_26
  · have hf := oi_t c3 hf
    refine lv_iconst (v := (-1)) hx hb dX3_feed_12 (by decide) ?_
    obtain ⟨he1, he2, he3⟩ := prod3 hf
    rw [he2] at hP
    rw [he3] at hP
    exact wr_iret hx hb hr hlk he1 hP hS dX3_feed_13

abbrev rmX3_end : Room := { frames := 1, cells := 0, slots := 0, locals := 25 }
theorem hdX3_end : yX3_end.cls ≠ "java/lang/invoke/MethodHandle" ∧ yX3_end.cls ≠ "java/lang/invoke/VarHandle" ∧ (parseMethodDescriptor yX3_end.desc).map (fun d => d.parameters.length) = some 1 := by decide +kernel
abbrev qcX3_end (D : va_G) (k : Nat → ClassId) (ma : Nat → Nat) (mi : Nat → Int32) (st : Nat → Int32) (rp : Nat → Int32) (tp : Nat → Int32) (cr : Nat → Int32) (cw : Nat → Int32) (ik : Nat → Int32) (ln : Nat → Int32) (lg : Nat → Int32) (ce : Nat → Int64) (r : Int32) (A : Nat → Prop) : Array Value → State → Outcome → State → Prop := va_Qi (fun x (_ : Unit) => x = r) (fun _ t => va_P D vwCl (wM k ma mi st rp tp cr cw ik ln lg ce) t.heap) A
set_option maxHeartbeats 4000000 in
theorem mX3_end (l : Launch) (D : va_G) (k : Nat → ClassId) (ma : Nat → Nat) (mi : Nat → Int32) (st : Nat → Int32) (rp : Nat → Int32) (tp : Nat → Int32) (cr : Nat → Int32) (cw : Nat → Int32) (ik : Nat → Int32) (ln : Nat → Int32) (lg : Nat → Int32) (ce : Nat → Int64) (p1 : Int32) (sz : Nat) (r : Int32) (mi_o : Nat → Int32) (hf : fX3_end mi p1 = some (r, mi_o)) : Met l yX3_end (ws_ yX3_end cX3_end 3 (some .int)) rmX3_end (wrP D k (wM k ma mi st rp tp cr cw ik ln lg ce) sz [.ref (ma 0), .int p1]) (qcX3_end D k ma mi_o st rp tp cr cw ik ln lg ce r (va_A (wM k ma mi st rp tp cr cw ik ln lg ce) sz)) 0 0 (va_A (wM k ma mi st rp tp cr cw ik ln lg ce) sz) := by
  refine wr_start (Qc := fun A => qcX3_end D k ma mi_o st rp tp cr cw ik ln lg ce r A) (by decide +kernel) (Nat.le_of_ble_eq_true rfl) ?_
  intro p e s m below meth c ls A hA hx hb hr hlk hml hown hts hP hK hD hl
  have hl : lv_has ls 3 [(0, .ref (ma 0)), (1, .int p1)] := hl
  have hown : s.vm.findClass RX3 = some m.cls := hown
  have hS : va_S A s.heap s.heap [] := va_S.rf
  suffices hw : ∀ (H : Heap) (locs : List Loc), va_P D vwCl (wM k ma mi st rp tp cr cw ik ln lg ce) H → va_S A s.heap H locs → gW p l e rmX3_end s m [.ref (ma 0), .int p1] below meth c (qcX3_end D k ma mi_o st rp tp cr cw ik ln lg ce r A) A 0 0 H locs 0 ls [] from hw s.heap [] hP hS
  clear hP hS
  intro H locs hP hS
  unfold fX3_end at hf
  refine lv_iload_n hx hb dX3_end_0 rfl (lv_at hl 1 rfl) ?_
  refine lv_i2l hx hb dX3_end_1 rfl ?_
  refine lv_lconst (v := 0) hx hb dX3_end_2 (by decide) ?_
  refine lv_aload_n hx hb dX3_end_3 rfl (lv_at hl 0 rfl) ?_
  refine va_get (D := D) (cl := vwCl) (ci := 3) (v := .int (mi 0)) (C := RX3) (T := TX3) (N := 18) hx hb hts in_X3 hown hK.1 hP 0 rfl rfl 3 (by decide) (hts _ q941) (fun _ h9 => h9) rfl dX3_end_4 ?_
  refine lv_i2l hx hb dX3_end_7 rfl ?_
  obtain ⟨v1, ev1, hf⟩ := ob hf
  refine rd_callSZ (As := [.long ((p1).toInt64), .long (0 : Int64), .long (((mi 0)).toInt64)]) (rest := []) ⟨hx, hb, hml, hown, hts⟩ (mX3_in l D k   ((p1).toInt64) (0 : Int64) (((mi 0)).toInt64) _ ev1) (va_cwS 3 hts (lw_S q999 q1000 q94 q1001) rfl rfl rfl hdX3_in ⟨Nat.le_of_ble_eq_true rfl, Nat.le_of_ble_eq_true rfl⟩) hK rfl hl.1 rfl (Nat.le_of_ble_eq_true rfl) dX3_end_8 ⟨Nat.le_of_ble_eq_true rfl, Nat.le_of_ble_eq_true rfl⟩ (fun zv1 => ?_)
  refine lv_if_ne (tgt := 16) hx hb dX3_end_11 (by decide) (fun c3 => ?_) (fun c3 => ?_)
  · have hf := oi_f c3 hf
    refine lv_aload_n hx hb dX3_end_16 rfl (lv_at hl 0 rfl) ?_
    refine va_get (D := D) (cl := vwCl) (ci := 3) (v := .int (mi 0)) (C := RX3) (T := TX3) (N := 18) hx hb hts in_X3 hown hK.1 hP 0 rfl rfl 3 (by decide) (hts _ q941) (fun _ h9 => h9) rfl dX3_end_17 ?_
    obtain ⟨y4, ey4, hf⟩ := ob hf
    refine x_asI ey4 ?_
    refine lv_istore_n (lv' := [(2, .int y4), (0, .ref (ma 0)), (1, .int p1)]) hx hb dX3_end_20 rfl hl (by decide) rfl (fun ls hl => ?_)
    refine lv_aload_n hx hb dX3_end_21 rfl (lv_at hl 1 rfl) ?_
    refine lv_iload_n hx hb dX3_end_22 rfl (lv_at hl 2 rfl) ?_
    refine va_put (D := D) (cl := vwCl) (ci := 3) (v := .int p1) (ty := .int) (C := RX3) (T := TX3) (N := 18) hx hb hts in_X3 tyX3 tyX3_ok nmX3 hown hK.1 hP hD hS 0 rfl rfl 3 (by decide) (hts _ q941) (fun _ h9 => h9) rfl (by decide +kernel) rfl rfl (Nat.le_of_ble_eq_true rfl) dX3_end_23 (fun H locs hP hD hS => ?_)
    have hP : va_P D vwCl (wM k ma (upd mi 0 p1) st rp tp cr cw ik ln lg ce) H := hP
    have hD : va_D A (wM k ma (upd mi 0 p1) st rp tp cr cw ik ln lg ce) := hD
    refine lv_iload_n hx hb dX3_end_26 rfl (lv_at hl 0 rfl) ?_
    obtain ⟨he1, he2⟩ := prod2 hf
    rw [he2] at hP
    exact wr_iret hx hb hr hlk he1 hP hS dX3_end_27
  · have hf := oi_t c3 hf
    refine lv_iconst (v := (-1)) hx hb dX3_end_14 (by decide) ?_
    obtain ⟨he1, he2⟩ := prod2 hf
    rw [he2] at hP
    exact wr_iret hx hb hr hlk he1 hP hS dX3_end_15

abbrev rmX3_byteAt : Room := { frames := 0, cells := 0, slots := 0, locals := 0 }
theorem hdX3_byteAt : yX3_byteAt.cls ≠ "java/lang/invoke/MethodHandle" ∧ yX3_byteAt.cls ≠ "java/lang/invoke/VarHandle" ∧ (parseMethodDescriptor yX3_byteAt.desc).map (fun d => d.parameters.length) = some 1 := by decide +kernel
set_option maxHeartbeats 4000000 in
theorem mX3_byteAt (l : Launch) (D : va_G) (k : Nat → ClassId) (ma : Nat → Nat) (mi : Nat → Int32) (st : Nat → Int32) (rp : Nat → Int32) (tp : Nat → Int32) (cr : Nat → Int32) (cw : Nat → Int32) (ik : Nat → Int32) (ln : Nat → Int32) (lg : Nat → Int32) (ce : Nat → Int64) (p1 : Int32) (r : Int32) (hf : fX3_byteAt mi tp p1 = some r) : CtI l yX3_byteAt cX3_byteAt 2 rmX3_byteAt [.ref (ma 0), .int p1] D k (wM k ma mi st rp tp cr cw ik ln lg ce) r := by
  refine rd_start (by decide +kernel) (Nat.le_of_ble_eq_true rfl) ?_
  intro p e s m below meth c ls hx hb hr hlk hml hown hts hP hK hl
  have hl : lv_has ls 2 [(0, .ref (ma 0)), (1, .int p1)] := hl
  have hown : s.vm.findClass RX3 = some m.cls := hown
  unfold fX3_byteAt at hf
  refine lv_iload_n hx hb dX3_byteAt_0 rfl (lv_at hl 1 rfl) ?_
  refine lv_aload_n hx hb dX3_byteAt_1 rfl (lv_at hl 0 rfl) ?_
  refine va_get (D := D) (cl := vwCl) (ci := 3) (v := .int (mi 0)) (C := RX3) (T := TX3) (N := 18) hx hb hts in_X3 hown hK.1 hP 0 rfl rfl 3 (by decide) (hts _ q941) (fun _ h9 => h9) rfl dX3_byteAt_2 ?_
  refine lv_icmp_ge (tgt := 17) hx hb dX3_byteAt_5 (by decide) (fun c1 => ?_) (fun c1 => ?_)
  · have hf := oi_t c1 hf
    refine lv_bipush (v := (-4)) hx hb dX3_byteAt_17 (by decide) ?_
    exact rd_iret hx hb hr hlk (Option.some.inj hf) dX3_byteAt_19
  · have hf := oi_f c1 hf
    refine lv_aload_n hx hb dX3_byteAt_8 rfl (lv_at hl 0 rfl) ?_
    refine va_get (D := D) (cl := vwCl) (ci := 3) (v := .ref (ma 3)) (C := RX3) (T := TX3) (N := 18) hx hb hts in_X3 hown hK.1 hP 0 rfl rfl 2 (by decide) (hts _ q940) (fun _ h9 => h9) rfl dX3_byteAt_9 ?_
    refine lv_iload_n hx hb dX3_byteAt_12 rfl (lv_at hl 1 rfl) ?_
    obtain ⟨v2, ev2, hf⟩ := ob hf
    refine x_iald hx hb hK hP 3 1 ev2 rfl rfl dX3_byteAt_13 ?_
    refine lv_goto (tgt := 19) hx hb dX3_byteAt_14 (by decide) ?_
    exact rd_iret hx hb hr hlk (Option.some.inj hf) dX3_byteAt_19

abbrev rmX3_fails : Room := { frames := 0, cells := 0, slots := 0, locals := 0 }
theorem hdX3_fails : yX3_fails.cls ≠ "java/lang/invoke/MethodHandle" ∧ yX3_fails.cls ≠ "java/lang/invoke/VarHandle" ∧ (parseMethodDescriptor yX3_fails.desc).map (fun d => d.parameters.length) = some 1 := by decide +kernel
abbrev qcX3_fails (D : va_G) (k : Nat → ClassId) (ma : Nat → Nat) (mi : Nat → Int32) (st : Nat → Int32) (rp : Nat → Int32) (tp : Nat → Int32) (cr : Nat → Int32) (cw : Nat → Int32) (ik : Nat → Int32) (ln : Nat → Int32) (lg : Nat → Int32) (ce : Nat → Int64) (A : Nat → Prop) : Array Value → State → Outcome → State → Prop := va_Qv (fun (_ : Unit) => True) (fun _ t => va_P D vwCl (wM k ma mi st rp tp cr cw ik ln lg ce) t.heap) A
set_option maxHeartbeats 4000000 in
theorem mX3_fails (l : Launch) (D : va_G) (k : Nat → ClassId) (ma : Nat → Nat) (mi : Nat → Int32) (st : Nat → Int32) (rp : Nat → Int32) (tp : Nat → Int32) (cr : Nat → Int32) (cw : Nat → Int32) (ik : Nat → Int32) (ln : Nat → Int32) (lg : Nat → Int32) (ce : Nat → Int64) (p1 : Int32) (sz : Nat) (mi_o : Nat → Int32) (hf : fX3_fails mi p1 = some mi_o) : Met l yX3_fails (ws_ yX3_fails cX3_fails 2 none) rmX3_fails (wrP D k (wM k ma mi st rp tp cr cw ik ln lg ce) sz [.ref (ma 0), .int p1]) (qcX3_fails D k ma mi_o st rp tp cr cw ik ln lg ce (va_A (wM k ma mi st rp tp cr cw ik ln lg ce) sz)) 0 0 (va_A (wM k ma mi st rp tp cr cw ik ln lg ce) sz) := by
  refine wr_start (Qc := fun A => qcX3_fails D k ma mi_o st rp tp cr cw ik ln lg ce A) (by decide +kernel) (Nat.le_of_ble_eq_true rfl) ?_
  intro p e s m below meth c ls A hA hx hb hr hlk hml hown hts hP hK hD hl
  have hl : lv_has ls 2 [(0, .ref (ma 0)), (1, .int p1)] := hl
  have hown : s.vm.findClass RX3 = some m.cls := hown
  have hS : va_S A s.heap s.heap [] := va_S.rf
  suffices hw : ∀ (H : Heap) (locs : List Loc), va_P D vwCl (wM k ma mi st rp tp cr cw ik ln lg ce) H → va_S A s.heap H locs → gW p l e rmX3_fails s m [.ref (ma 0), .int p1] below meth c (qcX3_fails D k ma mi_o st rp tp cr cw ik ln lg ce A) A 0 0 H locs 0 ls [] from hw s.heap [] hP hS
  clear hP hS
  intro H locs hP hS
  unfold fX3_fails at hf
  refine lv_aload_n hx hb dX3_fails_0 rfl (lv_at hl 0 rfl) ?_
  refine va_get (D := D) (cl := vwCl) (ci := 3) (v := .int (mi 2)) (C := RX3) (T := TX3) (N := 18) hx hb hts in_X3 hown hK.1 hP 0 rfl rfl 5 (by decide) (hts _ q943) (fun _ h9 => h9) rfl dX3_fails_1 ?_
  refine lv_if_ne (tgt := 20) hx hb dX3_fails_4 (by decide) (fun c1 => ?_) (fun c1 => ?_)
  · have hf := oi_f c1 hf
    have he1 := Option.some.inj hf
    rw [he1] at hP
    exact wr_vret hx hb hr hlk hP hS dX3_fails_20
  · have hf := oi_t c1 hf
    refine lv_aload_n hx hb dX3_fails_7 rfl (lv_at hl 0 rfl) ?_
    refine lv_iload_n hx hb dX3_fails_8 rfl (lv_at hl 1 rfl) ?_
    refine va_put (D := D) (cl := vwCl) (ci := 3) (v := .int p1) (ty := .int) (C := RX3) (T := TX3) (N := 18) hx hb hts in_X3 tyX3 tyX3_ok nmX3 hown hK.1 hP hD hS 0 rfl rfl 5 (by decide) (hts _ q943) (fun _ h9 => h9) rfl (by decide +kernel) rfl rfl (Nat.le_of_ble_eq_true rfl) dX3_fails_9 (fun H locs hP hD hS => ?_)
    have hP : va_P D vwCl (wM k ma (upd mi 2 p1) st rp tp cr cw ik ln lg ce) H := hP
    have hD : va_D A (wM k ma (upd mi 2 p1) st rp tp cr cw ik ln lg ce) := hD
    refine lv_aload_n hx hb dX3_fails_12 rfl (lv_at hl 0 rfl) ?_
    refine lv_aload_n hx hb dX3_fails_13 rfl (lv_at hl 0 rfl) ?_
    refine va_get (D := D) (cl := vwCl) (ci := 3) (v := .int ((upd mi 2 p1) 5)) (C := RX3) (T := TX3) (N := 18) hx hb hts in_X3 hown hK.1 hP 0 rfl rfl 8 (by decide) (hts _ q946) (fun _ h9 => h9) rfl dX3_fails_14 ?_
    refine va_put (D := D) (cl := vwCl) (ci := 3) (v := .int ((upd mi 2 p1) 5)) (ty := .int) (C := RX3) (T := TX3) (N := 18) hx hb hts in_X3 tyX3 tyX3_ok nmX3 hown hK.1 hP hD hS 0 rfl rfl 6 (by decide) (hts _ q944) (fun _ h9 => h9) rfl (by decide +kernel) rfl rfl (Nat.le_of_ble_eq_true rfl) dX3_fails_17 (fun H locs hP hD hS => ?_)
    have hP : va_P D vwCl (wM k ma (upd (upd mi 2 p1) 3 ((upd mi 2 p1) 5)) st rp tp cr cw ik ln lg ce) H := hP
    have hD : va_D A (wM k ma (upd (upd mi 2 p1) 3 ((upd mi 2 p1) 5)) st rp tp cr cw ik ln lg ce) := hD
    have he1 := Option.some.inj hf
    rw [he1] at hP
    exact wr_vret hx hb hr hlk hP hS dX3_fails_20

abbrev rmX3_readsOn : Room := { frames := 1, cells := 0, slots := 0, locals := 25 }
theorem hdX3_readsOn : yX3_readsOn.cls ≠ "java/lang/invoke/MethodHandle" ∧ yX3_readsOn.cls ≠ "java/lang/invoke/VarHandle" ∧ (parseMethodDescriptor yX3_readsOn.desc).map (fun d => d.parameters.length) = some 0 := by decide +kernel
abbrev qcX3_readsOn (D : va_G) (k : Nat → ClassId) (ma : Nat → Nat) (mi : Nat → Int32) (st : Nat → Int32) (rp : Nat → Int32) (tp : Nat → Int32) (cr : Nat → Int32) (cw : Nat → Int32) (ik : Nat → Int32) (ln : Nat → Int32) (lg : Nat → Int32) (ce : Nat → Int64) (A : Nat → Prop) : Array Value → State → Outcome → State → Prop := va_Qv (fun (_ : Unit) => True) (fun _ t => va_P D vwCl (wM k ma mi st rp tp cr cw ik ln lg ce) t.heap) A
set_option maxHeartbeats 4000000 in
theorem mX3_readsOn (l : Launch) (D : va_G) (k : Nat → ClassId) (ma : Nat → Nat) (mi : Nat → Int32) (st : Nat → Int32) (rp : Nat → Int32) (tp : Nat → Int32) (cr : Nat → Int32) (cw : Nat → Int32) (ik : Nat → Int32) (ln : Nat → Int32) (lg : Nat → Int32) (ce : Nat → Int64) (sz : Nat) (mi_o : Nat → Int32) (hf : fX3_readsOn mi tp = some mi_o) : Met l yX3_readsOn (ws_ yX3_readsOn cX3_readsOn 2 none) rmX3_readsOn (wrP D k (wM k ma mi st rp tp cr cw ik ln lg ce) sz [.ref (ma 0)]) (qcX3_readsOn D k ma mi_o st rp tp cr cw ik ln lg ce (va_A (wM k ma mi st rp tp cr cw ik ln lg ce) sz)) 0 0 (va_A (wM k ma mi st rp tp cr cw ik ln lg ce) sz) := by
  refine wr_start (Qc := fun A => qcX3_readsOn D k ma mi_o st rp tp cr cw ik ln lg ce A) (by decide +kernel) (Nat.le_of_ble_eq_true rfl) ?_
  intro p e s m below meth c ls A hA hx hb hr hlk hml hown hts hP hK hD hl
  have hl : lv_has ls 2 [(0, .ref (ma 0))] := hl
  have hown : s.vm.findClass RX3 = some m.cls := hown
  have hS : va_S A s.heap s.heap [] := va_S.rf
  suffices hw : ∀ (H : Heap) (locs : List Loc), va_P D vwCl (wM k ma mi st rp tp cr cw ik ln lg ce) H → va_S A s.heap H locs → gW p l e rmX3_readsOn s m [.ref (ma 0)] below meth c (qcX3_readsOn D k ma mi_o st rp tp cr cw ik ln lg ce A) A 0 0 H locs 0 ls [] from hw s.heap [] hP hS
  clear hP hS
  intro H locs hP hS
  unfold fX3_readsOn at hf
  refine lv_aload_n hx hb dX3_readsOn_0 rfl (lv_at hl 0 rfl) ?_
  refine va_get (D := D) (cl := vwCl) (ci := 3) (v := .int (mi 2)) (C := RX3) (T := TX3) (N := 18) hx hb hts in_X3 hown hK.1 hP 0 rfl rfl 5 (by decide) (hts _ q943) (fun _ h9 => h9) rfl dX3_readsOn_1 ?_
  refine lv_if_le (tgt := 8) hx hb dX3_readsOn_4 (by decide) (fun c1 => ?_) (fun c1 => ?_)
  · have hf := oi_t c1 hf
    have hL8 : ∀ (nn : Nat) (mi_8 : Nat → Int32), ∀ (H : Heap) (locs : List Loc), va_P D vwCl (wM k ma mi_8 st rp tp cr cw ik ln lg ce) H → va_D A (wM k ma mi_8 st rp tp cr cw ik ln lg ce) → va_S A s.heap H locs → fX3_readsOn_L8 tp nn mi_8 = some mi_o → ∀ ls : Array Slot, lv_has ls 2 [(0, .ref (ma 0))] → gW p l e rmX3_readsOn s m [.ref (ma 0)] below meth c (qcX3_readsOn D k ma mi_o st rp tp cr cw ik ln lg ce A) A 0 0 H locs 8 ls [] := by
      intro nn8
      induction nn8 with
      | zero =>
        intro mi_8 H locs hP hD hS hf
        rw [fX3_readsOn_L8] at hf; cases hf
      | succ nn8 ih8 =>
        intro mi_8 H locs hP hD hS hf ls hl
        rw [fX3_readsOn_L8] at hf
        refine lv_aload_n hx hb dX3_readsOn_8 rfl (lv_at hl 0 rfl) ?_
        refine lv_aload_n hx hb dX3_readsOn_9 rfl (lv_at hl 0 rfl) ?_
        refine va_get (D := D) (cl := vwCl) (ci := 3) (v := .int (mi_8 4)) (C := RX3) (T := TX3) (N := 18) hx hb hts in_X3 hown hK.1 hP 0 rfl rfl 7 (by decide) (hts _ q945) (fun _ h9 => h9) rfl dX3_readsOn_10 ?_
        obtain ⟨v2, ev2, hf⟩ := ob hf
        refine rd_callV (As := [.int (mi_8 4)]) (rest := []) ⟨hx, hb, hml, hown, hts⟩ (mX3_byteAt l D k ma mi_8 st rp tp cr cw ik ln lg ce (mi_8 4) _ ev2) (cwV 1 hts (lw_V q1014 q1016 qs55 q94 q1017) rfl rfl rfl ⟨rfl, hdX3_byteAt⟩ ⟨Nat.le_of_ble_eq_true rfl, Nat.le_of_ble_eq_true rfl⟩) hK hP [0, 1, 2, 3, 4, 5, 6, 7, 8, 9] rfl 0 3 rfl rfl rfl hl.1 rfl (Nat.le_of_ble_eq_true rfl) dX3_readsOn_13 ⟨Nat.le_of_ble_eq_true rfl, Nat.le_of_ble_eq_true rfl⟩ ?_
        refine lv_bipush (v := 32) hx hb dX3_readsOn_16 (by decide) ?_
        refine lv_icmp_ne (tgt := 34) hx hb dX3_readsOn_18 (by decide) (fun c4 => ?_) (fun c4 => ?_)
        · have hf := oi_f c4 hf
          refine lv_aload_n hx hb dX3_readsOn_34 rfl (lv_at hl 0 rfl) ?_
          refine lv_aload_n hx hb dX3_readsOn_35 rfl (lv_at hl 0 rfl) ?_
          refine va_get (D := D) (cl := vwCl) (ci := 3) (v := .int (mi_8 4)) (C := RX3) (T := TX3) (N := 18) hx hb hts in_X3 hown hK.1 hP 0 rfl rfl 7 (by decide) (hts _ q945) (fun _ h9 => h9) rfl dX3_readsOn_36 ?_
          refine va_put (D := D) (cl := vwCl) (ci := 3) (v := .int (mi_8 4)) (ty := .int) (C := RX3) (T := TX3) (N := 18) hx hb hts in_X3 tyX3 tyX3_ok nmX3 hown hK.1 hP hD hS 0 rfl rfl 8 (by decide) (hts _ q946) (fun _ h9 => h9) rfl (by decide +kernel) rfl rfl (Nat.le_of_ble_eq_true rfl) dX3_readsOn_39 (fun H locs hP hD hS => ?_)
          have hP : va_P D vwCl (wM k ma (upd mi_8 5 (mi_8 4)) st rp tp cr cw ik ln lg ce) H := hP
          have hD : va_D A (wM k ma (upd mi_8 5 (mi_8 4)) st rp tp cr cw ik ln lg ce) := hD
          refine lv_aload_n hx hb dX3_readsOn_42 rfl (lv_at hl 0 rfl) ?_
          refine lv_aload_n hx hb dX3_readsOn_43 rfl (lv_at hl 0 rfl) ?_
          refine va_get (D := D) (cl := vwCl) (ci := 3) (v := .int ((upd mi_8 5 (mi_8 4)) 4)) (C := RX3) (T := TX3) (N := 18) hx hb hts in_X3 hown hK.1 hP 0 rfl rfl 7 (by decide) (hts _ q945) (fun _ h9 => h9) rfl dX3_readsOn_44 ?_
          obtain ⟨v5, ev5, hf⟩ := ob hf
          refine rd_callV (As := [.int ((upd mi_8 5 (mi_8 4)) 4)]) (rest := []) ⟨hx, hb, hml, hown, hts⟩ (mX3_byteAt l D k ma (upd mi_8 5 (mi_8 4)) st rp tp cr cw ik ln lg ce ((upd mi_8 5 (mi_8 4)) 4) _ ev5) (cwV 1 hts (lw_V q1014 q1016 qs55 q94 q1017) rfl rfl rfl ⟨rfl, hdX3_byteAt⟩ ⟨Nat.le_of_ble_eq_true rfl, Nat.le_of_ble_eq_true rfl⟩) hK hP [0, 1, 2, 3, 4, 5, 6, 7, 8, 9] rfl 0 3 rfl rfl rfl hl.1 rfl (Nat.le_of_ble_eq_true rfl) dX3_readsOn_47 ⟨Nat.le_of_ble_eq_true rfl, Nat.le_of_ble_eq_true rfl⟩ ?_
          refine lv_istore_n (lv' := [(1, .int v5), (0, .ref (ma 0))]) hx hb dX3_readsOn_50 rfl hl (by decide) rfl (fun ls hl => ?_)
          refine lv_aload_n hx hb dX3_readsOn_51 rfl (lv_at hl 1 rfl) ?_
          refine lv_iconst (v := 0) hx hb dX3_readsOn_52 (by decide) ?_
          refine va_put (D := D) (cl := vwCl) (ci := 3) (v := .int (0 : Int32)) (ty := .int) (C := RX3) (T := TX3) (N := 18) hx hb hts in_X3 tyX3 tyX3_ok nmX3 hown hK.1 hP hD hS 0 rfl rfl 10 (by decide) (hts _ q948) (fun _ h9 => h9) rfl (by decide +kernel) rfl rfl (Nat.le_of_ble_eq_true rfl) dX3_readsOn_53 (fun H locs hP hD hS => ?_)
          have hP : va_P D vwCl (wM k ma (upd (upd mi_8 5 (mi_8 4)) 7 (0 : Int32)) st rp tp cr cw ik ln lg ce) H := hP
          have hD : va_D A (wM k ma (upd (upd mi_8 5 (mi_8 4)) 7 (0 : Int32)) st rp tp cr cw ik ln lg ce) := hD
          refine lv_iload_n hx hb dX3_readsOn_56 rfl (lv_at hl 0 rfl) ?_
          refine lv_bipush (v := (-4)) hx hb dX3_readsOn_57 (by decide) ?_
          refine lv_icmp_ne (tgt := 70) hx hb dX3_readsOn_59 (by decide) (fun c7 => ?_) (fun c7 => ?_)
          · have hf := oi_f c7 hf
            refine lv_iload_n hx hb dX3_readsOn_70 rfl (lv_at hl 0 rfl) ?_
            refine lv_i2l hx hb dX3_readsOn_71 rfl ?_
            refine lv_ldc2 hx hb hown (hts _ q1018) dX3_readsOn_72 ?_
            refine lv_ldc2 hx hb hown (hts _ q1019) dX3_readsOn_75 ?_
            obtain ⟨v8, ev8, hf⟩ := ob hf
            refine rd_callSZ (As := [.long ((v5).toInt64), .long (48 : Int64), .long (57 : Int64)]) (rest := []) ⟨hx, hb, hml, hown, hts⟩ (mX3_in l D k   ((v5).toInt64) (48 : Int64) (57 : Int64) _ ev8) (va_cwS 3 hts (lw_S q999 q1000 q94 q1001) rfl rfl rfl hdX3_in ⟨Nat.le_of_ble_eq_true rfl, Nat.le_of_ble_eq_true rfl⟩) hK rfl hl.1 rfl (Nat.le_of_ble_eq_true rfl) dX3_readsOn_78 ⟨Nat.le_of_ble_eq_true rfl, Nat.le_of_ble_eq_true rfl⟩ (fun zv8 => ?_)
            refine lv_if_eq (tgt := 187) hx hb dX3_readsOn_81 (by decide) (fun c10 => ?_) (fun c10 => ?_)
            · have hf := oi_t c10 hf
              refine lv_aload_n hx hb dX3_readsOn_187 rfl (lv_at hl 1 rfl) ?_
              refine lv_iload_n hx hb dX3_readsOn_188 rfl (lv_at hl 0 rfl) ?_
              refine lv_bipush (v := 40) hx hb dX3_readsOn_189 (by decide) ?_
              have hB199 : ∀ (mi_199 : Nat → Int32) (x1_199 : Int32) (s0_199 : Int32), ∀ (H : Heap) (locs : List Loc), va_P D vwCl (wM k ma mi_199 st rp tp cr cw ik ln lg ce) H → va_D A (wM k ma mi_199 st rp tp cr cw ik ln lg ce) → va_S A s.heap H locs → fX3_readsOn_B199 tp mi_199 x1_199 s0_199 = some mi_o → ∀ ls : Array Slot, lv_has ls 2 [(0, .ref (ma 0)), (1, .int x1_199)] → gW p l e rmX3_readsOn s m [.ref (ma 0)] below meth c (qcX3_readsOn D k ma mi_o st rp tp cr cw ik ln lg ce A) A 0 0 H locs 199 ls [.int s0_199, .ref (ma 0)] := by
                intro mi_199 x1_199 s0_199 H locs hP hD hS hf ls hl
                unfold fX3_readsOn_B199 at hf
                refine va_put (D := D) (cl := vwCl) (ci := 3) (v := .int s0_199) (ty := .int) (C := RX3) (T := TX3) (N := 18) hx hb hts in_X3 tyX3 tyX3_ok nmX3 hown hK.1 hP hD hS 0 rfl rfl 9 (by decide) (hts _ q947) (fun _ h9 => h9) rfl (by decide +kernel) rfl rfl (Nat.le_of_ble_eq_true rfl) dX3_readsOn_199 (fun H locs hP hD hS => ?_)
                have hP : va_P D vwCl (wM k ma (upd mi_199 6 s0_199) st rp tp cr cw ik ln lg ce) H := hP
                have hD : va_D A (wM k ma (upd mi_199 6 s0_199) st rp tp cr cw ik ln lg ce) := hD
                refine lv_aload_n hx hb dX3_readsOn_202 rfl (lv_at hl 0 rfl) ?_
                refine lv_dup hx hb dX3_readsOn_203 rfl ?_
                refine va_get (D := D) (cl := vwCl) (ci := 3) (v := .int ((upd mi_199 6 s0_199) 4)) (C := RX3) (T := TX3) (N := 18) hx hb hts in_X3 hown hK.1 hP 0 rfl rfl 7 (by decide) (hts _ q945) (fun _ h9 => h9) rfl dX3_readsOn_204 ?_
                refine lv_iconst (v := 1) hx hb dX3_readsOn_207 (by decide) ?_
                refine lv_iadd hx hb dX3_readsOn_208 ?_
                refine va_put (D := D) (cl := vwCl) (ci := 3) (v := .int (((upd mi_199 6 s0_199) 4) + (1 : Int32))) (ty := .int) (C := RX3) (T := TX3) (N := 18) hx hb hts in_X3 tyX3 tyX3_ok nmX3 hown hK.1 hP hD hS 0 rfl rfl 7 (by decide) (hts _ q945) (fun _ h9 => h9) rfl (by decide +kernel) rfl rfl (Nat.le_of_ble_eq_true rfl) dX3_readsOn_209 (fun H locs hP hD hS => ?_)
                have hP : va_P D vwCl (wM k ma (upd (upd mi_199 6 s0_199) 4 (((upd mi_199 6 s0_199) 4) + (1 : Int32))) st rp tp cr cw ik ln lg ce) H := hP
                have hD : va_D A (wM k ma (upd (upd mi_199 6 s0_199) 4 (((upd mi_199 6 s0_199) 4) + (1 : Int32))) st rp tp cr cw ik ln lg ce) := hD
                refine lv_iload_n hx hb dX3_readsOn_212 rfl (lv_at hl 1 rfl) ?_
                refine lv_bipush (v := 40) hx hb dX3_readsOn_213 (by decide) ?_
                refine lv_icmp_eq (tgt := 229) hx hb dX3_readsOn_215 (by decide) (fun c12 => ?_) (fun c12 => ?_)
                · have hf := oi_t c12 hf
                  have he1 := Option.some.inj hf
                  rw [he1] at hP
                  exact wr_vret hx hb hr hlk hP hS dX3_readsOn_229
                · have hf := oi_f c12 hf
                  refine lv_iload_n hx hb dX3_readsOn_218 rfl (lv_at hl 1 rfl) ?_
                  refine lv_bipush (v := 41) hx hb dX3_readsOn_219 (by decide) ?_
                  refine lv_icmp_eq (tgt := 229) hx hb dX3_readsOn_221 (by decide) (fun c13 => ?_) (fun c13 => ?_)
                  · have hf := oi_t c13 hf
                    have he1 := Option.some.inj hf
                    rw [he1] at hP
                    exact wr_vret hx hb hr hlk hP hS dX3_readsOn_229
                  · have hf := oi_f c13 hf
                    refine lv_aload_n hx hb dX3_readsOn_224 rfl (lv_at hl 0 rfl) ?_
                    refine lv_iconst (v := 1) hx hb dX3_readsOn_225 (by decide) ?_
                    obtain ⟨g14, et15, hf⟩ := ob hf
                    refine wr_callVv (As := [.int (1 : Int32)]) (rest := []) ⟨hx, hb, hml, hown, hts⟩ (mX3_fails l D k ma (upd (upd mi_199 6 s0_199) 4 (((upd mi_199 6 s0_199) 4) + (1 : Int32))) st rp tp cr cw ik ln lg ce (1 : Int32) _ _ et15) (cwV 1 hts (lw_V q1020 q1022 qs56 q94 q1023) rfl rfl rfl ⟨rfl, hdX3_fails⟩ ⟨Nat.le_of_ble_eq_true rfl, Nat.le_of_ble_eq_true rfl⟩) hK hP hD hS hA [0, 1, 2, 3, 4, 5, 6, 7, 8, 9] [] (wM k ma g14 st rp tp cr cw ik ln lg ce) rfl rfl fm_n 10 rfl (by decide) (by decide) [(ma 0), (ma 1), (ma 2), (ma 3), (ma 4), (ma 5), (ma 6), (ma 7), (ma 8), (ma 9)] rfl rfl 0 3 rfl rfl rfl hl.1 rfl (Nat.le_of_ble_eq_true rfl) dX3_readsOn_226 ⟨Nat.le_of_ble_eq_true rfl, Nat.le_of_ble_eq_true rfl⟩ (fun H locs hP hD hS => ?_)
                    have he1 := Option.some.inj hf
                    rw [he1] at hP
                    exact wr_vret hx hb hr hlk hP hS dX3_readsOn_229
              refine lv_icmp_ne (tgt := 198) hx hb dX3_readsOn_191 (by decide) (fun c11 => ?_) (fun c11 => ?_)
              · have hf := oi_f c11 hf
                refine lv_iconst (v := 3) hx hb dX3_readsOn_198 (by decide) ?_
                exact hB199 (upd (upd mi_8 5 (mi_8 4)) 7 (0 : Int32)) v5 (3 : Int32) H locs hP hD hS hf ls (lv_sub hl [1, 0] rfl)
              · have hf := oi_t c11 hf
                refine lv_iconst (v := 2) hx hb dX3_readsOn_194 (by decide) ?_
                refine lv_goto (tgt := 199) hx hb dX3_readsOn_195 (by decide) ?_
                exact hB199 (upd (upd mi_8 5 (mi_8 4)) 7 (0 : Int32)) v5 (2 : Int32) H locs hP hD hS hf ls (lv_sub hl [1, 0] rfl)
            · have hf := oi_f c10 hf
              have hL84 : ∀ (nn : Nat) (mi_84 : Nat → Int32), ∀ (H : Heap) (locs : List Loc), va_P D vwCl (wM k ma mi_84 st rp tp cr cw ik ln lg ce) H → va_D A (wM k ma mi_84 st rp tp cr cw ik ln lg ce) → va_S A s.heap H locs → fX3_readsOn_L84 tp nn mi_84 = some mi_o → ∀ ls : Array Slot, lv_has ls 2 [(0, .ref (ma 0))] → gW p l e rmX3_readsOn s m [.ref (ma 0)] below meth c (qcX3_readsOn D k ma mi_o st rp tp cr cw ik ln lg ce A) A 0 0 H locs 84 ls [] := by
                intro nn84
                induction nn84 with
                | zero =>
                  intro mi_84 H locs hP hD hS hf
                  rw [fX3_readsOn_L84] at hf; cases hf
                | succ nn84 ih84 =>
                  intro mi_84 H locs hP hD hS hf ls hl
                  rw [fX3_readsOn_L84] at hf
                  refine lv_aload_n hx hb dX3_readsOn_84 rfl (lv_at hl 0 rfl) ?_
                  refine lv_aload_n hx hb dX3_readsOn_85 rfl (lv_at hl 0 rfl) ?_
                  refine va_get (D := D) (cl := vwCl) (ci := 3) (v := .int (mi_84 4)) (C := RX3) (T := TX3) (N := 18) hx hb hts in_X3 hown hK.1 hP 0 rfl rfl 7 (by decide) (hts _ q945) (fun _ h9 => h9) rfl dX3_readsOn_86 ?_
                  obtain ⟨v16, ev16, hf⟩ := ob hf
                  refine rd_callV (As := [.int (mi_84 4)]) (rest := []) ⟨hx, hb, hml, hown, hts⟩ (mX3_byteAt l D k ma mi_84 st rp tp cr cw ik ln lg ce (mi_84 4) _ ev16) (cwV 1 hts (lw_V q1014 q1016 qs55 q94 q1017) rfl rfl rfl ⟨rfl, hdX3_byteAt⟩ ⟨Nat.le_of_ble_eq_true rfl, Nat.le_of_ble_eq_true rfl⟩) hK hP [0, 1, 2, 3, 4, 5, 6, 7, 8, 9] rfl 0 3 rfl rfl rfl hl.1 rfl (Nat.le_of_ble_eq_true rfl) dX3_readsOn_89 ⟨Nat.le_of_ble_eq_true rfl, Nat.le_of_ble_eq_true rfl⟩ ?_
                  refine lv_i2l hx hb dX3_readsOn_92 rfl ?_
                  refine lv_ldc2 hx hb hown (hts _ q1018) dX3_readsOn_93 ?_
                  refine lv_ldc2 hx hb hown (hts _ q1019) dX3_readsOn_96 ?_
                  obtain ⟨v18, ev18, hf⟩ := ob hf
                  refine rd_callSZ (As := [.long ((v16).toInt64), .long (48 : Int64), .long (57 : Int64)]) (rest := []) ⟨hx, hb, hml, hown, hts⟩ (mX3_in l D k   ((v16).toInt64) (48 : Int64) (57 : Int64) _ ev18) (va_cwS 3 hts (lw_S q999 q1000 q94 q1001) rfl rfl rfl hdX3_in ⟨Nat.le_of_ble_eq_true rfl, Nat.le_of_ble_eq_true rfl⟩) hK rfl hl.1 rfl (Nat.le_of_ble_eq_true rfl) dX3_readsOn_99 ⟨Nat.le_of_ble_eq_true rfl, Nat.le_of_ble_eq_true rfl⟩ (fun zv18 => ?_)
                  refine lv_if_eq (tgt := 161) hx hb dX3_readsOn_102 (by decide) (fun c20 => ?_) (fun c20 => ?_)
                  · have hf := oi_t c20 hf
                    refine lv_aload_n hx hb dX3_readsOn_161 rfl (lv_at hl 0 rfl) ?_
                    refine lv_iconst (v := 1) hx hb dX3_readsOn_162 (by decide) ?_
                    refine va_put (D := D) (cl := vwCl) (ci := 3) (v := .int (1 : Int32)) (ty := .int) (C := RX3) (T := TX3) (N := 18) hx hb hts in_X3 tyX3 tyX3_ok nmX3 hown hK.1 hP hD hS 0 rfl rfl 9 (by decide) (hts _ q947) (fun _ h9 => h9) rfl (by decide +kernel) rfl rfl (Nat.le_of_ble_eq_true rfl) dX3_readsOn_163 (fun H locs hP hD hS => ?_)
                    have hP : va_P D vwCl (wM k ma (upd mi_84 6 (1 : Int32)) st rp tp cr cw ik ln lg ce) H := hP
                    have hD : va_D A (wM k ma (upd mi_84 6 (1 : Int32)) st rp tp cr cw ik ln lg ce) := hD
                    refine lv_aload_n hx hb dX3_readsOn_166 rfl (lv_at hl 0 rfl) ?_
                    refine va_get (D := D) (cl := vwCl) (ci := 3) (v := .int ((upd mi_84 6 (1 : Int32)) 4)) (C := RX3) (T := TX3) (N := 18) hx hb hts in_X3 hown hK.1 hP 0 rfl rfl 7 (by decide) (hts _ q945) (fun _ h9 => h9) rfl dX3_readsOn_167 ?_
                    refine lv_aload_n hx hb dX3_readsOn_170 rfl (lv_at hl 0 rfl) ?_
                    refine va_get (D := D) (cl := vwCl) (ci := 3) (v := .int ((upd mi_84 6 (1 : Int32)) 5)) (C := RX3) (T := TX3) (N := 18) hx hb hts in_X3 hown hK.1 hP 0 rfl rfl 8 (by decide) (hts _ q946) (fun _ h9 => h9) rfl dX3_readsOn_171 ?_
                    refine lv_isub hx hb dX3_readsOn_174 ?_
                    refine lv_iconst (v := 4) hx hb dX3_readsOn_175 (by decide) ?_
                    refine lv_icmp_le (tgt := 229) hx hb dX3_readsOn_176 (by decide) (fun c21 => ?_) (fun c21 => ?_)
                    · have hf := oi_t c21 hf
                      have he1 := Option.some.inj hf
                      rw [he1] at hP
                      exact wr_vret hx hb hr hlk hP hS dX3_readsOn_229
                    · have hf := oi_f c21 hf
                      refine lv_aload_n hx hb dX3_readsOn_179 rfl (lv_at hl 0 rfl) ?_
                      refine lv_iconst (v := 1) hx hb dX3_readsOn_180 (by decide) ?_
                      obtain ⟨g22, et23, hf⟩ := ob hf
                      refine wr_callVv (As := [.int (1 : Int32)]) (rest := []) ⟨hx, hb, hml, hown, hts⟩ (mX3_fails l D k ma (upd mi_84 6 (1 : Int32)) st rp tp cr cw ik ln lg ce (1 : Int32) _ _ et23) (cwV 1 hts (lw_V q1020 q1022 qs56 q94 q1023) rfl rfl rfl ⟨rfl, hdX3_fails⟩ ⟨Nat.le_of_ble_eq_true rfl, Nat.le_of_ble_eq_true rfl⟩) hK hP hD hS hA [0, 1, 2, 3, 4, 5, 6, 7, 8, 9] [] (wM k ma g22 st rp tp cr cw ik ln lg ce) rfl rfl fm_n 10 rfl (by decide) (by decide) [(ma 0), (ma 1), (ma 2), (ma 3), (ma 4), (ma 5), (ma 6), (ma 7), (ma 8), (ma 9)] rfl rfl 0 3 rfl rfl rfl hl.1 rfl (Nat.le_of_ble_eq_true rfl) dX3_readsOn_181 ⟨Nat.le_of_ble_eq_true rfl, Nat.le_of_ble_eq_true rfl⟩ (fun H locs hP hD hS => ?_)
                      refine lv_goto (tgt := 229) hx hb dX3_readsOn_184 (by decide) ?_
                      have he1 := Option.some.inj hf
                      rw [he1] at hP
                      exact wr_vret hx hb hr hlk hP hS dX3_readsOn_229
                  · have hf := oi_f c20 hf
                    refine lv_aload_n hx hb dX3_readsOn_105 rfl (lv_at hl 0 rfl) ?_
                    refine lv_aload_n hx hb dX3_readsOn_106 rfl (lv_at hl 0 rfl) ?_
                    refine va_get (D := D) (cl := vwCl) (ci := 3) (v := .int (mi_84 4)) (C := RX3) (T := TX3) (N := 18) hx hb hts in_X3 hown hK.1 hP 0 rfl rfl 7 (by decide) (hts _ q945) (fun _ h9 => h9) rfl dX3_readsOn_107 ?_
                    refine lv_aload_n hx hb dX3_readsOn_110 rfl (lv_at hl 0 rfl) ?_
                    refine va_get (D := D) (cl := vwCl) (ci := 3) (v := .int (mi_84 5)) (C := RX3) (T := TX3) (N := 18) hx hb hts in_X3 hown hK.1 hP 0 rfl rfl 8 (by decide) (hts _ q946) (fun _ h9 => h9) rfl dX3_readsOn_111 ?_
                    refine lv_isub hx hb dX3_readsOn_114 ?_
                    refine lv_iconst (v := 4) hx hb dX3_readsOn_115 (by decide) ?_
                    have hB145 : ∀ (mi_145 : Nat → Int32) (s0_145 : Int32), ∀ (H : Heap) (locs : List Loc), va_P D vwCl (wM k ma mi_145 st rp tp cr cw ik ln lg ce) H → va_D A (wM k ma mi_145 st rp tp cr cw ik ln lg ce) → va_S A s.heap H locs → fX3_readsOn_B145 tp (fX3_readsOn_L84 tp nn84) mi_145 s0_145 = some mi_o → ∀ ls : Array Slot, lv_has ls 2 [(0, .ref (ma 0))] → gW p l e rmX3_readsOn s m [.ref (ma 0)] below meth c (qcX3_readsOn D k ma mi_o st rp tp cr cw ik ln lg ce A) A 0 0 H locs 145 ls [.int s0_145, .ref (ma 0)] := by
                      intro mi_145 s0_145 H locs hP hD hS hf ls hl
                      unfold fX3_readsOn_B145 at hf
                      refine va_put (D := D) (cl := vwCl) (ci := 3) (v := .int s0_145) (ty := .int) (C := RX3) (T := TX3) (N := 18) hx hb hts in_X3 tyX3 tyX3_ok nmX3 hown hK.1 hP hD hS 0 rfl rfl 10 (by decide) (hts _ q948) (fun _ h9 => h9) rfl (by decide +kernel) rfl rfl (Nat.le_of_ble_eq_true rfl) dX3_readsOn_145 (fun H locs hP hD hS => ?_)
                      have hP : va_P D vwCl (wM k ma (upd mi_145 7 s0_145) st rp tp cr cw ik ln lg ce) H := hP
                      have hD : va_D A (wM k ma (upd mi_145 7 s0_145) st rp tp cr cw ik ln lg ce) := hD
                      refine lv_aload_n hx hb dX3_readsOn_148 rfl (lv_at hl 0 rfl) ?_
                      refine lv_dup hx hb dX3_readsOn_149 rfl ?_
                      refine va_get (D := D) (cl := vwCl) (ci := 3) (v := .int ((upd mi_145 7 s0_145) 4)) (C := RX3) (T := TX3) (N := 18) hx hb hts in_X3 hown hK.1 hP 0 rfl rfl 7 (by decide) (hts _ q945) (fun _ h9 => h9) rfl dX3_readsOn_150 ?_
                      refine lv_iconst (v := 1) hx hb dX3_readsOn_153 (by decide) ?_
                      refine lv_iadd hx hb dX3_readsOn_154 ?_
                      refine va_put (D := D) (cl := vwCl) (ci := 3) (v := .int (((upd mi_145 7 s0_145) 4) + (1 : Int32))) (ty := .int) (C := RX3) (T := TX3) (N := 18) hx hb hts in_X3 tyX3 tyX3_ok nmX3 hown hK.1 hP hD hS 0 rfl rfl 7 (by decide) (hts _ q945) (fun _ h9 => h9) rfl (by decide +kernel) rfl rfl (Nat.le_of_ble_eq_true rfl) dX3_readsOn_155 (fun H locs hP hD hS => ?_)
                      have hP : va_P D vwCl (wM k ma (upd (upd mi_145 7 s0_145) 4 (((upd mi_145 7 s0_145) 4) + (1 : Int32))) st rp tp cr cw ik ln lg ce) H := hP
                      have hD : va_D A (wM k ma (upd (upd mi_145 7 s0_145) 4 (((upd mi_145 7 s0_145) 4) + (1 : Int32))) st rp tp cr cw ik ln lg ce) := hD
                      refine lv_goto (tgt := 84) hx hb dX3_readsOn_158 (by decide) ?_
                      exact ih84 (upd (upd mi_145 7 s0_145) 4 (((upd mi_145 7 s0_145) 4) + (1 : Int32))) H locs hP hD hS hf ls (lv_sub hl [0] rfl)
                    refine lv_icmp_ge (tgt := 141) hx hb dX3_readsOn_116 (by decide) (fun c24 => ?_) (fun c24 => ?_)
                    · have hf := oi_t c24 hf
                      refine lv_aload_n hx hb dX3_readsOn_141 rfl (lv_at hl 0 rfl) ?_
                      refine va_get (D := D) (cl := vwCl) (ci := 3) (v := .int (mi_84 7)) (C := RX3) (T := TX3) (N := 18) hx hb hts in_X3 hown hK.1 hP 0 rfl rfl 10 (by decide) (hts _ q948) (fun _ h9 => h9) rfl dX3_readsOn_142 ?_
                      exact hB145 mi_84 (mi_84 7) H locs hP hD hS hf ls (lv_sub hl [0] rfl)
                    · have hf := oi_f c24 hf
                      refine lv_bipush (v := 10) hx hb dX3_readsOn_119 (by decide) ?_
                      refine lv_aload_n hx hb dX3_readsOn_121 rfl (lv_at hl 0 rfl) ?_
                      refine va_get (D := D) (cl := vwCl) (ci := 3) (v := .int (mi_84 7)) (C := RX3) (T := TX3) (N := 18) hx hb hts in_X3 hown hK.1 hP 0 rfl rfl 10 (by decide) (hts _ q948) (fun _ h9 => h9) rfl dX3_readsOn_122 ?_
                      refine lv_imul hx hb dX3_readsOn_125 ?_
                      refine lv_aload_n hx hb dX3_readsOn_126 rfl (lv_at hl 0 rfl) ?_
                      refine lv_aload_n hx hb dX3_readsOn_127 rfl (lv_at hl 0 rfl) ?_
                      refine va_get (D := D) (cl := vwCl) (ci := 3) (v := .int (mi_84 4)) (C := RX3) (T := TX3) (N := 18) hx hb hts in_X3 hown hK.1 hP 0 rfl rfl 7 (by decide) (hts _ q945) (fun _ h9 => h9) rfl dX3_readsOn_128 ?_
                      obtain ⟨v25, ev25, hf⟩ := ob hf
                      refine rd_callV (As := [.int (mi_84 4)]) (rest := [.int ((10 : Int32) * (mi_84 7)), .ref (ma 0)]) ⟨hx, hb, hml, hown, hts⟩ (mX3_byteAt l D k ma mi_84 st rp tp cr cw ik ln lg ce (mi_84 4) _ ev25) (cwV 1 hts (lw_V q1014 q1016 qs55 q94 q1017) rfl rfl rfl ⟨rfl, hdX3_byteAt⟩ ⟨Nat.le_of_ble_eq_true rfl, Nat.le_of_ble_eq_true rfl⟩) hK hP [0, 1, 2, 3, 4, 5, 6, 7, 8, 9] rfl 0 3 rfl rfl rfl hl.1 rfl (Nat.le_of_ble_eq_true rfl) dX3_readsOn_131 ⟨Nat.le_of_ble_eq_true rfl, Nat.le_of_ble_eq_true rfl⟩ ?_
                      refine lv_iadd hx hb dX3_readsOn_134 ?_
                      refine lv_bipush (v := 48) hx hb dX3_readsOn_135 (by decide) ?_
                      refine lv_isub hx hb dX3_readsOn_137 ?_
                      refine lv_goto (tgt := 145) hx hb dX3_readsOn_138 (by decide) ?_
                      exact hB145 mi_84 ((((10 : Int32) * (mi_84 7)) + v25) - (48 : Int32)) H locs hP hD hS hf ls (lv_sub hl [0] rfl)
              exact hL84 FU (upd (upd mi_8 5 (mi_8 4)) 7 (0 : Int32)) H locs hP hD hS hf ls (lv_sub hl [1] rfl)
          · have hf := oi_t c7 hf
            refine lv_aload_n hx hb dX3_readsOn_62 rfl (lv_at hl 1 rfl) ?_
            refine lv_iconst (v := 0) hx hb dX3_readsOn_63 (by decide) ?_
            refine va_put (D := D) (cl := vwCl) (ci := 3) (v := .int (0 : Int32)) (ty := .int) (C := RX3) (T := TX3) (N := 18) hx hb hts in_X3 tyX3 tyX3_ok nmX3 hown hK.1 hP hD hS 0 rfl rfl 9 (by decide) (hts _ q947) (fun _ h9 => h9) rfl (by decide +kernel) rfl rfl (Nat.le_of_ble_eq_true rfl) dX3_readsOn_64 (fun H locs hP hD hS => ?_)
            have hP : va_P D vwCl (wM k ma (upd (upd (upd mi_8 5 (mi_8 4)) 7 (0 : Int32)) 6 (0 : Int32)) st rp tp cr cw ik ln lg ce) H := hP
            have hD : va_D A (wM k ma (upd (upd (upd mi_8 5 (mi_8 4)) 7 (0 : Int32)) 6 (0 : Int32)) st rp tp cr cw ik ln lg ce) := hD
            refine lv_goto (tgt := 229) hx hb dX3_readsOn_67 (by decide) ?_
            have he1 := Option.some.inj hf
            rw [he1] at hP
            exact wr_vret hx hb hr hlk hP hS dX3_readsOn_229
        · have hf := oi_t c4 hf
          refine lv_aload_n hx hb dX3_readsOn_21 rfl (lv_at hl 0 rfl) ?_
          refine lv_dup hx hb dX3_readsOn_22 rfl ?_
          refine va_get (D := D) (cl := vwCl) (ci := 3) (v := .int (mi_8 4)) (C := RX3) (T := TX3) (N := 18) hx hb hts in_X3 hown hK.1 hP 0 rfl rfl 7 (by decide) (hts _ q945) (fun _ h9 => h9) rfl dX3_readsOn_23 ?_
          refine lv_iconst (v := 1) hx hb dX3_readsOn_26 (by decide) ?_
          refine lv_iadd hx hb dX3_readsOn_27 ?_
          refine va_put (D := D) (cl := vwCl) (ci := 3) (v := .int ((mi_8 4) + (1 : Int32))) (ty := .int) (C := RX3) (T := TX3) (N := 18) hx hb hts in_X3 tyX3 tyX3_ok nmX3 hown hK.1 hP hD hS 0 rfl rfl 7 (by decide) (hts _ q945) (fun _ h9 => h9) rfl (by decide +kernel) rfl rfl (Nat.le_of_ble_eq_true rfl) dX3_readsOn_28 (fun H locs hP hD hS => ?_)
          have hP : va_P D vwCl (wM k ma (upd mi_8 4 ((mi_8 4) + (1 : Int32))) st rp tp cr cw ik ln lg ce) H := hP
          have hD : va_D A (wM k ma (upd mi_8 4 ((mi_8 4) + (1 : Int32))) st rp tp cr cw ik ln lg ce) := hD
          refine lv_goto (tgt := 8) hx hb dX3_readsOn_31 (by decide) ?_
          exact ih8 (upd mi_8 4 ((mi_8 4) + (1 : Int32))) H locs hP hD hS hf ls (lv_sub hl [0] rfl)
    exact hL8 FU mi H locs hP hD hS hf ls (lv_sub hl [0] rfl)
  · have hf := oi_f c1 hf
    have he1 := Option.some.inj hf
    rw [he1] at hP
    exact wr_vret hx hb hr hlk hP hS dX3_readsOn_7

abbrev rmX3_takes : Room := { frames := 2, cells := 0, slots := 0, locals := 46 }
theorem hdX3_takes : yX3_takes.cls ≠ "java/lang/invoke/MethodHandle" ∧ yX3_takes.cls ≠ "java/lang/invoke/VarHandle" ∧ (parseMethodDescriptor yX3_takes.desc).map (fun d => d.parameters.length) = some 2 := by decide +kernel
abbrev qcX3_takes (D : va_G) (k : Nat → ClassId) (ma : Nat → Nat) (mi : Nat → Int32) (st : Nat → Int32) (rp : Nat → Int32) (tp : Nat → Int32) (cr : Nat → Int32) (cw : Nat → Int32) (ik : Nat → Int32) (ln : Nat → Int32) (lg : Nat → Int32) (ce : Nat → Int64) (r : Int32) (A : Nat → Prop) : Array Value → State → Outcome → State → Prop := va_Qi (fun x (_ : Unit) => x = r) (fun _ t => va_P D vwCl (wM k ma mi st rp tp cr cw ik ln lg ce) t.heap) A
set_option maxHeartbeats 4000000 in
theorem mX3_takes (l : Launch) (D : va_G) (k : Nat → ClassId) (ma : Nat → Nat) (mi : Nat → Int32) (st : Nat → Int32) (rp : Nat → Int32) (tp : Nat → Int32) (cr : Nat → Int32) (cw : Nat → Int32) (ik : Nat → Int32) (ln : Nat → Int32) (lg : Nat → Int32) (ce : Nat → Int64) (p1 : Int32) (p2 : Int32) (sz : Nat) (r : Int32) (mi_o : Nat → Int32) (rp_o : Nat → Int32) (hf : fX3_takes mi rp tp p1 p2 = some (r, mi_o, rp_o)) : Met l yX3_takes (ws_ yX3_takes cX3_takes 3 (some .int)) rmX3_takes (wrP D k (wM k ma mi st rp tp cr cw ik ln lg ce) sz [.ref (ma 0), .int p1, .int p2]) (qcX3_takes D k ma mi_o st rp_o tp cr cw ik ln lg ce r (va_A (wM k ma mi st rp tp cr cw ik ln lg ce) sz)) 0 0 (va_A (wM k ma mi st rp tp cr cw ik ln lg ce) sz) := by
  refine wr_start (Qc := fun A => qcX3_takes D k ma mi_o st rp_o tp cr cw ik ln lg ce r A) (by decide +kernel) (Nat.le_of_ble_eq_true rfl) ?_
  intro p e s m below meth c ls A hA hx hb hr hlk hml hown hts hP hK hD hl
  have hl : lv_has ls 3 [(0, .ref (ma 0)), (1, .int p1), (2, .int p2)] := hl
  have hown : s.vm.findClass RX3 = some m.cls := hown
  have hS : va_S A s.heap s.heap [] := va_S.rf
  suffices hw : ∀ (H : Heap) (locs : List Loc), va_P D vwCl (wM k ma mi st rp tp cr cw ik ln lg ce) H → va_S A s.heap H locs → gW p l e rmX3_takes s m [.ref (ma 0), .int p1, .int p2] below meth c (qcX3_takes D k ma mi_o st rp_o tp cr cw ik ln lg ce r A) A 0 0 H locs 0 ls [] from hw s.heap [] hP hS
  clear hP hS
  intro H locs hP hS
  unfold fX3_takes at hf
  refine lv_aload_n hx hb dX3_takes_0 rfl (lv_at hl 0 rfl) ?_
  refine va_get (D := D) (cl := vwCl) (ci := 3) (v := .int (mi 6)) (C := RX3) (T := TX3) (N := 18) hx hb hts in_X3 hown hK.1 hP 0 rfl rfl 9 (by decide) (hts _ q947) (fun _ h9 => h9) rfl dX3_takes_1 ?_
  refine lv_iconst (v := 3) hx hb dX3_takes_4 (by decide) ?_
  refine lv_icmp_ne (tgt := 32) hx hb dX3_takes_5 (by decide) (fun c1 => ?_) (fun c1 => ?_)
  · have hf := oi_f c1 hf
    refine lv_aload_n hx hb dX3_takes_32 rfl (lv_at hl 0 rfl) ?_
    refine va_get (D := D) (cl := vwCl) (ci := 3) (v := .int (mi 6)) (C := RX3) (T := TX3) (N := 18) hx hb hts in_X3 hown hK.1 hP 0 rfl rfl 9 (by decide) (hts _ q947) (fun _ h9 => h9) rfl dX3_takes_33 ?_
    refine lv_iconst (v := 2) hx hb dX3_takes_36 (by decide) ?_
    have hB48 : ∀ (mi_48 : Nat → Int32) (rp_48 : Nat → Int32), ∀ (H : Heap) (locs : List Loc), va_P D vwCl (wM k ma mi_48 st rp_48 tp cr cw ik ln lg ce) H → va_D A (wM k ma mi_48 st rp_48 tp cr cw ik ln lg ce) → va_S A s.heap H locs → fX3_takes_B48 tp p1 p2 mi_48 rp_48 = some (r, mi_o, rp_o) → ∀ ls : Array Slot, lv_has ls 3 [(0, .ref (ma 0)), (1, .int p1)] → gW p l e rmX3_takes s m [.ref (ma 0), .int p1, .int p2] below meth c (qcX3_takes D k ma mi_o st rp_o tp cr cw ik ln lg ce r A) A 0 0 H locs 48 ls [] := by
      intro mi_48 rp_48 H locs hP hD hS hf ls hl
      unfold fX3_takes_B48 at hf
      refine lv_aload_n hx hb dX3_takes_48 rfl (lv_at hl 0 rfl) ?_
      refine lv_iconst (v := 2) hx hb dX3_takes_49 (by decide) ?_
      obtain ⟨g3, et4, hf⟩ := ob hf
      refine wr_callVv (As := [.int (2 : Int32)]) (rest := []) ⟨hx, hb, hml, hown, hts⟩ (mX3_fails l D k ma mi_48 st rp_48 tp cr cw ik ln lg ce (2 : Int32) _ _ et4) (cwV 1 hts (lw_V q1020 q1022 qs56 q94 q1023) rfl rfl rfl ⟨rfl, hdX3_fails⟩ ⟨Nat.le_of_ble_eq_true rfl, Nat.le_of_ble_eq_true rfl⟩) hK hP hD hS hA [0, 1, 2, 3, 4, 5, 6, 7, 8, 9] [] (wM k ma g3 st rp_48 tp cr cw ik ln lg ce) rfl rfl fm_n 10 rfl (by decide) (by decide) [(ma 0), (ma 1), (ma 2), (ma 3), (ma 4), (ma 5), (ma 6), (ma 7), (ma 8), (ma 9)] rfl rfl 0 3 rfl rfl rfl hl.1 rfl (Nat.le_of_ble_eq_true rfl) dX3_takes_50 ⟨Nat.le_of_ble_eq_true rfl, Nat.le_of_ble_eq_true rfl⟩ (fun H locs hP hD hS => ?_)
      refine lv_iload_n hx hb dX3_takes_53 rfl (lv_at hl 1 rfl) ?_
      obtain ⟨he1, he2, he3⟩ := prod3 hf
      rw [he2] at hP
      rw [he3] at hP
      exact wr_iret hx hb hr hlk he1 hP hS dX3_takes_54
    refine lv_icmp_ne (tgt := 48) hx hb dX3_takes_37 (by decide) (fun c2 => ?_) (fun c2 => ?_)
    · have hf := oi_f c2 hf
      exact hB48 mi rp H locs hP hD hS hf ls (lv_sub hl [0, 1] rfl)
    · have hf := oi_t c2 hf
      refine lv_iload_n hx hb dX3_takes_40 rfl (lv_at hl 1 rfl) ?_
      have hB55 : ∀ (mi_55 : Nat → Int32) (rp_55 : Nat → Int32), ∀ (H : Heap) (locs : List Loc), va_P D vwCl (wM k ma mi_55 st rp_55 tp cr cw ik ln lg ce) H → va_D A (wM k ma mi_55 st rp_55 tp cr cw ik ln lg ce) → va_S A s.heap H locs → fX3_takes_B55 tp p1 p2 mi_55 rp_55 = some (r, mi_o, rp_o) → ∀ ls : Array Slot, lv_has ls 3 [(0, .ref (ma 0)), (1, .int p1), (2, .int p2)] → gW p l e rmX3_takes s m [.ref (ma 0), .int p1, .int p2] below meth c (qcX3_takes D k ma mi_o st rp_o tp cr cw ik ln lg ce r A) A 0 0 H locs 55 ls [] := by
        intro mi_55 rp_55 H locs hP hD hS hf ls hl
        unfold fX3_takes_B55 at hf
        refine lv_aload_n hx hb dX3_takes_55 rfl (lv_at hl 0 rfl) ?_
        refine va_get (D := D) (cl := vwCl) (ci := 3) (v := .ref (ma 2)) (C := RX3) (T := TX3) (N := 18) hx hb hts in_X3 hown hK.1 hP 0 rfl rfl 1 (by decide) (hts _ q939) (fun _ h9 => h9) rfl dX3_takes_56 ?_
        refine lv_sipush (v := 192) hx hb dX3_takes_59 (by decide) ?_
        obtain ⟨v6, ev6, hf⟩ := ob hf
        refine x_iald hx hb hK hP 2 1 ev6 rfl rfl dX3_takes_62 ?_
        refine lv_bipush (v := 64) hx hb dX3_takes_63 (by decide) ?_
        refine lv_icmp_ne (tgt := 75) hx hb dX3_takes_65 (by decide) (fun c7 => ?_) (fun c7 => ?_)
        · have hf := oi_f c7 hf
          refine lv_aload_n hx hb dX3_takes_75 rfl (lv_at hl 0 rfl) ?_
          refine va_get (D := D) (cl := vwCl) (ci := 3) (v := .ref (ma 2)) (C := RX3) (T := TX3) (N := 18) hx hb hts in_X3 hown hK.1 hP 0 rfl rfl 1 (by decide) (hts _ q939) (fun _ h9 => h9) rfl dX3_takes_76 ?_
          refine lv_iload_n hx hb dX3_takes_79 rfl (lv_at hl 2 rfl) ?_
          refine lv_iconst (v := 1) hx hb dX3_takes_80 (by decide) ?_
          obtain ⟨u8, eu8, hf⟩ := ob hf
          refine x_iast hx hb hK hP hD hS 2 1 eu8 rfl rfl (wM k ma mi_55 st u8 tp cr cw ik ln lg ce) rfl dX3_takes_81 (fun H locs hP hD hS => ?_)
          refine lv_aload_n hx hb dX3_takes_82 rfl (lv_at hl 0 rfl) ?_
          refine va_get (D := D) (cl := vwCl) (ci := 3) (v := .ref (ma 2)) (C := RX3) (T := TX3) (N := 18) hx hb hts in_X3 hown hK.1 hP 0 rfl rfl 1 (by decide) (hts _ q939) (fun _ h9 => h9) rfl dX3_takes_83 ?_
          refine lv_sipush (v := 128) hx hb dX3_takes_86 (by decide) ?_
          refine lv_aload_n hx hb dX3_takes_89 rfl (lv_at hl 0 rfl) ?_
          refine va_get (D := D) (cl := vwCl) (ci := 3) (v := .ref (ma 2)) (C := RX3) (T := TX3) (N := 18) hx hb hts in_X3 hown hK.1 hP 0 rfl rfl 1 (by decide) (hts _ q939) (fun _ h9 => h9) rfl dX3_takes_90 ?_
          refine lv_sipush (v := 192) hx hb dX3_takes_93 (by decide) ?_
          obtain ⟨v9, ev9, hf⟩ := ob hf
          refine x_iald hx hb hK hP 2 1 ev9 rfl rfl dX3_takes_96 ?_
          refine lv_iadd hx hb dX3_takes_97 ?_
          refine lv_iconst (v := 0) hx hb dX3_takes_98 (by decide) ?_
          obtain ⟨u10, eu10, hf⟩ := ob hf
          refine x_iast hx hb hK hP hD hS 2 1 eu10 rfl rfl (wM k ma mi_55 st u10 tp cr cw ik ln lg ce) rfl dX3_takes_99 (fun H locs hP hD hS => ?_)
          refine lv_aload_n hx hb dX3_takes_100 rfl (lv_at hl 0 rfl) ?_
          obtain ⟨g11, et12, hf⟩ := ob hf
          refine wr_callVv (As := []) (rest := []) ⟨hx, hb, hml, hown, hts⟩ (mX3_readsOn l D k ma mi_55 st u10 tp cr cw ik ln lg ce  _ _ et12) (cwV 0 hts (lw_V q1010 q1012 qs54 q94 q1013) rfl rfl rfl ⟨rfl, hdX3_readsOn⟩ ⟨Nat.le_of_ble_eq_true rfl, Nat.le_of_ble_eq_true rfl⟩) hK hP hD hS hA [0, 1, 2, 3, 4, 5, 6, 7, 8, 9] [] (wM k ma g11 st u10 tp cr cw ik ln lg ce) rfl rfl fm_n 10 rfl (by decide) (by decide) [(ma 0), (ma 1), (ma 2), (ma 3), (ma 4), (ma 5), (ma 6), (ma 7), (ma 8), (ma 9)] rfl rfl 0 3 rfl rfl rfl hl.1 rfl (Nat.le_of_ble_eq_true rfl) dX3_takes_101 ⟨Nat.le_of_ble_eq_true rfl, Nat.le_of_ble_eq_true rfl⟩ (fun H locs hP hD hS => ?_)
          refine lv_aload_n hx hb dX3_takes_104 rfl (lv_at hl 0 rfl) ?_
          refine va_get (D := D) (cl := vwCl) (ci := 3) (v := .int (g11 2)) (C := RX3) (T := TX3) (N := 18) hx hb hts in_X3 hown hK.1 hP 0 rfl rfl 5 (by decide) (hts _ q943) (fun _ h9 => h9) rfl dX3_takes_105 ?_
          have hB144 : ∀ (mi_144 : Nat → Int32) (rp_144 : Nat → Int32), ∀ (H : Heap) (locs : List Loc), va_P D vwCl (wM k ma mi_144 st rp_144 tp cr cw ik ln lg ce) H → va_D A (wM k ma mi_144 st rp_144 tp cr cw ik ln lg ce) → va_S A s.heap H locs → fX3_takes_B144 tp p1 p2 mi_144 rp_144 = some (r, mi_o, rp_o) → ∀ ls : Array Slot, lv_has ls 3 [(0, .ref (ma 0)), (1, .int p1)] → gW p l e rmX3_takes s m [.ref (ma 0), .int p1, .int p2] below meth c (qcX3_takes D k ma mi_o st rp_o tp cr cw ik ln lg ce r A) A 0 0 H locs 144 ls [] := by
            intro mi_144 rp_144 H locs hP hD hS hf ls hl
            unfold fX3_takes_B144 at hf
            refine lv_aload_n hx hb dX3_takes_144 rfl (lv_at hl 0 rfl) ?_
            refine va_get (D := D) (cl := vwCl) (ci := 3) (v := .ref (ma 2)) (C := RX3) (T := TX3) (N := 18) hx hb hts in_X3 hown hK.1 hP 0 rfl rfl 1 (by decide) (hts _ q939) (fun _ h9 => h9) rfl dX3_takes_145 ?_
            refine lv_sipush (v := 192) hx hb dX3_takes_148 (by decide) ?_
            refine lv_dup2_11 hx hb dX3_takes_151 rfl rfl ?_
            obtain ⟨v14, ev14, hf⟩ := ob hf
            refine x_iald hx hb hK hP 2 1 ev14 rfl rfl dX3_takes_152 ?_
            refine lv_iconst (v := 1) hx hb dX3_takes_153 (by decide) ?_
            refine lv_iadd hx hb dX3_takes_154 ?_
            obtain ⟨u15, eu15, hf⟩ := ob hf
            refine x_iast hx hb hK hP hD hS 2 1 eu15 rfl rfl (wM k ma mi_144 st u15 tp cr cw ik ln lg ce) rfl dX3_takes_155 (fun H locs hP hD hS => ?_)
            refine lv_iload_n hx hb dX3_takes_156 rfl (lv_at hl 1 rfl) ?_
            refine lv_iconst (v := 1) hx hb dX3_takes_157 (by decide) ?_
            refine lv_iadd hx hb dX3_takes_158 ?_
            obtain ⟨he1, he2, he3⟩ := prod3 hf
            rw [he2] at hP
            rw [he3] at hP
            exact wr_iret hx hb hr hlk he1 hP hS dX3_takes_159
          refine lv_if_ne (tgt := 144) hx hb dX3_takes_108 (by decide) (fun c13 => ?_) (fun c13 => ?_)
          · have hf := oi_f c13 hf
            exact hB144 g11 u10 H locs hP hD hS hf ls (lv_sub hl [0, 1] rfl)
          · have hf := oi_t c13 hf
            refine lv_aload_n hx hb dX3_takes_111 rfl (lv_at hl 0 rfl) ?_
            refine va_get (D := D) (cl := vwCl) (ci := 3) (v := .int (g11 6)) (C := RX3) (T := TX3) (N := 18) hx hb hts in_X3 hown hK.1 hP 0 rfl rfl 9 (by decide) (hts _ q947) (fun _ h9 => h9) rfl dX3_takes_112 ?_
            refine lv_iconst (v := 1) hx hb dX3_takes_115 (by decide) ?_
            refine lv_icmp_ne (tgt := 144) hx hb dX3_takes_116 (by decide) (fun c16 => ?_) (fun c16 => ?_)
            · have hf := oi_f c16 hf
              exact hB144 g11 u10 H locs hP hD hS hf ls (lv_sub hl [0, 1] rfl)
            · have hf := oi_t c16 hf
              refine lv_aload_n hx hb dX3_takes_119 rfl (lv_at hl 0 rfl) ?_
              refine va_get (D := D) (cl := vwCl) (ci := 3) (v := .ref (ma 2)) (C := RX3) (T := TX3) (N := 18) hx hb hts in_X3 hown hK.1 hP 0 rfl rfl 1 (by decide) (hts _ q939) (fun _ h9 => h9) rfl dX3_takes_120 ?_
              refine lv_sipush (v := 128) hx hb dX3_takes_123 (by decide) ?_
              refine lv_aload_n hx hb dX3_takes_126 rfl (lv_at hl 0 rfl) ?_
              refine va_get (D := D) (cl := vwCl) (ci := 3) (v := .ref (ma 2)) (C := RX3) (T := TX3) (N := 18) hx hb hts in_X3 hown hK.1 hP 0 rfl rfl 1 (by decide) (hts _ q939) (fun _ h9 => h9) rfl dX3_takes_127 ?_
              refine lv_sipush (v := 192) hx hb dX3_takes_130 (by decide) ?_
              obtain ⟨v17, ev17, hf⟩ := ob hf
              refine x_iald hx hb hK hP 2 1 ev17 rfl rfl dX3_takes_133 ?_
              refine lv_iadd hx hb dX3_takes_134 ?_
              refine lv_aload_n hx hb dX3_takes_135 rfl (lv_at hl 0 rfl) ?_
              refine va_get (D := D) (cl := vwCl) (ci := 3) (v := .int (g11 7)) (C := RX3) (T := TX3) (N := 18) hx hb hts in_X3 hown hK.1 hP 0 rfl rfl 10 (by decide) (hts _ q948) (fun _ h9 => h9) rfl dX3_takes_136 ?_
              obtain ⟨u18, eu18, hf⟩ := ob hf
              refine x_iast hx hb hK hP hD hS 2 1 eu18 rfl rfl (wM k ma g11 st u18 tp cr cw ik ln lg ce) rfl dX3_takes_139 (fun H locs hP hD hS => ?_)
              refine lv_aload_n hx hb dX3_takes_140 rfl (lv_at hl 0 rfl) ?_
              obtain ⟨g19, et20, hf⟩ := ob hf
              refine wr_callVv (As := []) (rest := []) ⟨hx, hb, hml, hown, hts⟩ (mX3_readsOn l D k ma g11 st u18 tp cr cw ik ln lg ce  _ _ et20) (cwV 0 hts (lw_V q1010 q1012 qs54 q94 q1013) rfl rfl rfl ⟨rfl, hdX3_readsOn⟩ ⟨Nat.le_of_ble_eq_true rfl, Nat.le_of_ble_eq_true rfl⟩) hK hP hD hS hA [0, 1, 2, 3, 4, 5, 6, 7, 8, 9] [] (wM k ma g19 st u18 tp cr cw ik ln lg ce) rfl rfl fm_n 10 rfl (by decide) (by decide) [(ma 0), (ma 1), (ma 2), (ma 3), (ma 4), (ma 5), (ma 6), (ma 7), (ma 8), (ma 9)] rfl rfl 0 3 rfl rfl rfl hl.1 rfl (Nat.le_of_ble_eq_true rfl) dX3_takes_141 ⟨Nat.le_of_ble_eq_true rfl, Nat.le_of_ble_eq_true rfl⟩ (fun H locs hP hD hS => ?_)
              exact hB144 g19 u18 H locs hP hD hS hf ls (lv_sub hl [0, 1] rfl)
        · have hf := oi_t c7 hf
          refine lv_aload_n hx hb dX3_takes_68 rfl (lv_at hl 0 rfl) ?_
          refine lv_iconst (v := 5) hx hb dX3_takes_69 (by decide) ?_
          obtain ⟨g21, et22, hf⟩ := ob hf
          refine wr_callVv (As := [.int (5 : Int32)]) (rest := []) ⟨hx, hb, hml, hown, hts⟩ (mX3_fails l D k ma mi_55 st rp_55 tp cr cw ik ln lg ce (5 : Int32) _ _ et22) (cwV 1 hts (lw_V q1020 q1022 qs56 q94 q1023) rfl rfl rfl ⟨rfl, hdX3_fails⟩ ⟨Nat.le_of_ble_eq_true rfl, Nat.le_of_ble_eq_true rfl⟩) hK hP hD hS hA [0, 1, 2, 3, 4, 5, 6, 7, 8, 9] [] (wM k ma g21 st rp_55 tp cr cw ik ln lg ce) rfl rfl fm_n 10 rfl (by decide) (by decide) [(ma 0), (ma 1), (ma 2), (ma 3), (ma 4), (ma 5), (ma 6), (ma 7), (ma 8), (ma 9)] rfl rfl 0 3 rfl rfl rfl hl.1 rfl (Nat.le_of_ble_eq_true rfl) dX3_takes_70 ⟨Nat.le_of_ble_eq_true rfl, Nat.le_of_ble_eq_true rfl⟩ (fun H locs hP hD hS => ?_)
          refine lv_iload_n hx hb dX3_takes_73 rfl (lv_at hl 1 rfl) ?_
          obtain ⟨he1, he2, he3⟩ := prod3 hf
          rw [he2] at hP
          rw [he3] at hP
          exact wr_iret hx hb hr hlk he1 hP hS dX3_takes_74
      refine lv_if_ne (tgt := 55) hx hb dX3_takes_41 (by decide) (fun c5 => ?_) (fun c5 => ?_)
      · have hf := oi_f c5 hf
        exact hB55 mi rp H locs hP hD hS hf ls (lv_sub hl [0, 1, 2] rfl)
      · have hf := oi_t c5 hf
        refine lv_iload_n hx hb dX3_takes_44 rfl (lv_at hl 2 rfl) ?_
        refine lv_if_le (tgt := 55) hx hb dX3_takes_45 (by decide) (fun c23 => ?_) (fun c23 => ?_)
        · have hf := oi_t c23 hf
          exact hB55 mi rp H locs hP hD hS hf ls (lv_sub hl [0, 1, 2] rfl)
        · have hf := oi_f c23 hf
          exact hB48 mi rp H locs hP hD hS hf ls (lv_sub hl [0, 1] rfl)
  · have hf := oi_t c1 hf
    refine lv_iload_n hx hb dX3_takes_8 rfl (lv_at hl 1 rfl) ?_
    have hB17 : ∀ (mi_17 : Nat → Int32) (rp_17 : Nat → Int32), ∀ (H : Heap) (locs : List Loc), va_P D vwCl (wM k ma mi_17 st rp_17 tp cr cw ik ln lg ce) H → va_D A (wM k ma mi_17 st rp_17 tp cr cw ik ln lg ce) → va_S A s.heap H locs → fX3_takes_B17 tp p1 p2 mi_17 rp_17 = some (r, mi_o, rp_o) → ∀ ls : Array Slot, lv_has ls 3 [(0, .ref (ma 0)), (1, .int p1), (2, .int p2)] → gW p l e rmX3_takes s m [.ref (ma 0), .int p1, .int p2] below meth c (qcX3_takes D k ma mi_o st rp_o tp cr cw ik ln lg ce r A) A 0 0 H locs 17 ls [] := by
      intro mi_17 rp_17 H locs hP hD hS hf ls hl
      unfold fX3_takes_B17 at hf
      refine lv_aload_n hx hb dX3_takes_17 rfl (lv_at hl 0 rfl) ?_
      refine va_get (D := D) (cl := vwCl) (ci := 3) (v := .ref (ma 2)) (C := RX3) (T := TX3) (N := 18) hx hb hts in_X3 hown hK.1 hP 0 rfl rfl 1 (by decide) (hts _ q939) (fun _ h9 => h9) rfl dX3_takes_18 ?_
      refine lv_iload_n hx hb dX3_takes_21 rfl (lv_at hl 2 rfl) ?_
      refine lv_iconst (v := 0) hx hb dX3_takes_22 (by decide) ?_
      obtain ⟨u25, eu25, hf⟩ := ob hf
      refine x_iast hx hb hK hP hD hS 2 1 eu25 rfl rfl (wM k ma mi_17 st u25 tp cr cw ik ln lg ce) rfl dX3_takes_23 (fun H locs hP hD hS => ?_)
      refine lv_aload_n hx hb dX3_takes_24 rfl (lv_at hl 0 rfl) ?_
      obtain ⟨g26, et27, hf⟩ := ob hf
      refine wr_callVv (As := []) (rest := []) ⟨hx, hb, hml, hown, hts⟩ (mX3_readsOn l D k ma mi_17 st u25 tp cr cw ik ln lg ce  _ _ et27) (cwV 0 hts (lw_V q1010 q1012 qs54 q94 q1013) rfl rfl rfl ⟨rfl, hdX3_readsOn⟩ ⟨Nat.le_of_ble_eq_true rfl, Nat.le_of_ble_eq_true rfl⟩) hK hP hD hS hA [0, 1, 2, 3, 4, 5, 6, 7, 8, 9] [] (wM k ma g26 st u25 tp cr cw ik ln lg ce) rfl rfl fm_n 10 rfl (by decide) (by decide) [(ma 0), (ma 1), (ma 2), (ma 3), (ma 4), (ma 5), (ma 6), (ma 7), (ma 8), (ma 9)] rfl rfl 0 3 rfl rfl rfl hl.1 rfl (Nat.le_of_ble_eq_true rfl) dX3_takes_25 ⟨Nat.le_of_ble_eq_true rfl, Nat.le_of_ble_eq_true rfl⟩ (fun H locs hP hD hS => ?_)
      refine lv_iload_n hx hb dX3_takes_28 rfl (lv_at hl 1 rfl) ?_
      refine lv_iconst (v := 1) hx hb dX3_takes_29 (by decide) ?_
      refine lv_isub hx hb dX3_takes_30 ?_
      obtain ⟨he1, he2, he3⟩ := prod3 hf
      rw [he2] at hP
      rw [he3] at hP
      exact wr_iret hx hb hr hlk he1 hP hS dX3_takes_31
    refine lv_if_ne (tgt := 17) hx hb dX3_takes_9 (by decide) (fun c24 => ?_) (fun c24 => ?_)
    · have hf := oi_f c24 hf
      exact hB17 mi rp H locs hP hD hS hf ls (lv_sub hl [0, 1, 2] rfl)
    · have hf := oi_t c24 hf
      refine lv_aload_n hx hb dX3_takes_12 rfl (lv_at hl 0 rfl) ?_
      refine lv_iconst (v := 2) hx hb dX3_takes_13 (by decide) ?_
      obtain ⟨g28, et29, hf⟩ := ob hf
      refine wr_callVv (As := [.int (2 : Int32)]) (rest := []) ⟨hx, hb, hml, hown, hts⟩ (mX3_fails l D k ma mi st rp tp cr cw ik ln lg ce (2 : Int32) _ _ et29) (cwV 1 hts (lw_V q1020 q1022 qs56 q94 q1023) rfl rfl rfl ⟨rfl, hdX3_fails⟩ ⟨Nat.le_of_ble_eq_true rfl, Nat.le_of_ble_eq_true rfl⟩) hK hP hD hS hA [0, 1, 2, 3, 4, 5, 6, 7, 8, 9] [] (wM k ma g28 st rp tp cr cw ik ln lg ce) rfl rfl fm_n 10 rfl (by decide) (by decide) [(ma 0), (ma 1), (ma 2), (ma 3), (ma 4), (ma 5), (ma 6), (ma 7), (ma 8), (ma 9)] rfl rfl 0 3 rfl rfl rfl hl.1 rfl (Nat.le_of_ble_eq_true rfl) dX3_takes_14 ⟨Nat.le_of_ble_eq_true rfl, Nat.le_of_ble_eq_true rfl⟩ (fun H locs hP hD hS => ?_)
      exact hB17 g28 rp H locs hP hD hS hf ls (lv_sub hl [0, 1, 2] rfl)

abbrev rmX3_text : Room := { frames := 3, cells := 0, slots := 0, locals := 68 }
theorem hdX3_text : yX3_text.cls ≠ "java/lang/invoke/MethodHandle" ∧ yX3_text.cls ≠ "java/lang/invoke/VarHandle" ∧ (parseMethodDescriptor yX3_text.desc).map (fun d => d.parameters.length) = some 0 := by decide +kernel
abbrev qcX3_text (D : va_G) (k : Nat → ClassId) (ma : Nat → Nat) (mi : Nat → Int32) (st : Nat → Int32) (rp : Nat → Int32) (tp : Nat → Int32) (cr : Nat → Int32) (cw : Nat → Int32) (ik : Nat → Int32) (ln : Nat → Int32) (lg : Nat → Int32) (ce : Nat → Int64) (r : Int32) (A : Nat → Prop) : Array Value → State → Outcome → State → Prop := va_Qi (fun x (_ : Unit) => x = r) (fun _ t => va_P D vwCl (wM k ma mi st rp tp cr cw ik ln lg ce) t.heap) A
set_option maxHeartbeats 4000000 in
theorem mX3_text (l : Launch) (D : va_G) (k : Nat → ClassId) (ma : Nat → Nat) (mi : Nat → Int32) (st : Nat → Int32) (rp : Nat → Int32) (tp : Nat → Int32) (cr : Nat → Int32) (cw : Nat → Int32) (ik : Nat → Int32) (ln : Nat → Int32) (lg : Nat → Int32) (ce : Nat → Int64) (sz : Nat) (r : Int32) (mi_o : Nat → Int32) (st_o : Nat → Int32) (rp_o : Nat → Int32) (ik_o : Nat → Int32) (hf : fX3_text mi st rp tp ik = some (r, mi_o, st_o, rp_o, ik_o)) : Met l yX3_text (ws_ yX3_text cX3_text 4 (some .int)) rmX3_text (wrP D k (wM k ma mi st rp tp cr cw ik ln lg ce) sz [.ref (ma 0)]) (qcX3_text D k ma mi_o st_o rp_o tp cr cw ik_o ln lg ce r (va_A (wM k ma mi st rp tp cr cw ik ln lg ce) sz)) 0 0 (va_A (wM k ma mi st rp tp cr cw ik ln lg ce) sz) := by
  refine wr_start (Qc := fun A => qcX3_text D k ma mi_o st_o rp_o tp cr cw ik_o ln lg ce r A) (by decide +kernel) (Nat.le_of_ble_eq_true rfl) ?_
  intro p e s m below meth c ls A hA hx hb hr hlk hml hown hts hP hK hD hl
  have hl : lv_has ls 4 [(0, .ref (ma 0))] := hl
  have hown : s.vm.findClass RX3 = some m.cls := hown
  have hS : va_S A s.heap s.heap [] := va_S.rf
  suffices hw : ∀ (H : Heap) (locs : List Loc), va_P D vwCl (wM k ma mi st rp tp cr cw ik ln lg ce) H → va_S A s.heap H locs → gW p l e rmX3_text s m [.ref (ma 0)] below meth c (qcX3_text D k ma mi_o st_o rp_o tp cr cw ik_o ln lg ce r A) A 0 0 H locs 0 ls [] from hw s.heap [] hP hS
  clear hP hS
  intro H locs hP hS
  unfold fX3_text at hf
  refine lv_aload_n hx hb dX3_text_0 rfl (lv_at hl 0 rfl) ?_
  refine lv_iconst (v := 0) hx hb dX3_text_1 (by decide) ?_
  refine va_put (D := D) (cl := vwCl) (ci := 3) (v := .int (0 : Int32)) (ty := .int) (C := RX3) (T := TX3) (N := 18) hx hb hts in_X3 tyX3 tyX3_ok nmX3 hown hK.1 hP hD hS 0 rfl rfl 5 (by decide) (hts _ q943) (fun _ h9 => h9) rfl (by decide +kernel) rfl rfl (Nat.le_of_ble_eq_true rfl) dX3_text_2 (fun H locs hP hD hS => ?_)
  have hP : va_P D vwCl (wM k ma (upd mi 2 (0 : Int32)) st rp tp cr cw ik ln lg ce) H := hP
  have hD : va_D A (wM k ma (upd mi 2 (0 : Int32)) st rp tp cr cw ik ln lg ce) := hD
  refine lv_aload_n hx hb dX3_text_5 rfl (lv_at hl 0 rfl) ?_
  refine lv_iconst (v := 0) hx hb dX3_text_6 (by decide) ?_
  refine va_put (D := D) (cl := vwCl) (ci := 3) (v := .int (0 : Int32)) (ty := .int) (C := RX3) (T := TX3) (N := 18) hx hb hts in_X3 tyX3 tyX3_ok nmX3 hown hK.1 hP hD hS 0 rfl rfl 7 (by decide) (hts _ q945) (fun _ h9 => h9) rfl (by decide +kernel) rfl rfl (Nat.le_of_ble_eq_true rfl) dX3_text_7 (fun H locs hP hD hS => ?_)
  have hP : va_P D vwCl (wM k ma (upd (upd mi 2 (0 : Int32)) 4 (0 : Int32)) st rp tp cr cw ik ln lg ce) H := hP
  have hD : va_D A (wM k ma (upd (upd mi 2 (0 : Int32)) 4 (0 : Int32)) st rp tp cr cw ik ln lg ce) := hD
  refine lv_iconst (v := 0) hx hb dX3_text_10 (by decide) ?_
  refine lv_istore_n (lv' := [(1, .int (0 : Int32)), (0, .ref (ma 0))]) hx hb dX3_text_11 rfl hl (by decide) rfl (fun ls hl => ?_)
  refine lv_iconst (v := 0) hx hb dX3_text_12 (by decide) ?_
  refine lv_istore_n (lv' := [(2, .int (0 : Int32)), (1, .int (0 : Int32)), (0, .ref (ma 0))]) hx hb dX3_text_13 rfl hl (by decide) rfl (fun ls hl => ?_)
  refine lv_aload_n hx hb dX3_text_14 rfl (lv_at hl 2 rfl) ?_
  refine va_get (D := D) (cl := vwCl) (ci := 3) (v := .ref (ma 2)) (C := RX3) (T := TX3) (N := 18) hx hb hts in_X3 hown hK.1 hP 0 rfl rfl 1 (by decide) (hts _ q939) (fun _ h9 => h9) rfl dX3_text_15 ?_
  refine lv_sipush (v := 192) hx hb dX3_text_18 (by decide) ?_
  refine lv_iconst (v := 0) hx hb dX3_text_21 (by decide) ?_
  obtain ⟨u1, eu1, hf⟩ := ob hf
  refine x_iast hx hb hK hP hD hS 2 1 eu1 rfl rfl (wM k ma (upd (upd mi 2 (0 : Int32)) 4 (0 : Int32)) st u1 tp cr cw ik ln lg ce) rfl dX3_text_22 (fun H locs hP hD hS => ?_)
  refine lv_aload_n hx hb dX3_text_23 rfl (lv_at hl 2 rfl) ?_
  obtain ⟨g2, et3, hf⟩ := ob hf
  refine wr_callVv (As := []) (rest := []) ⟨hx, hb, hml, hown, hts⟩ (mX3_readsOn l D k ma (upd (upd mi 2 (0 : Int32)) 4 (0 : Int32)) st u1 tp cr cw ik ln lg ce  _ _ et3) (cwV 0 hts (lw_V q1010 q1012 qs54 q94 q1013) rfl rfl rfl ⟨rfl, hdX3_readsOn⟩ ⟨Nat.le_of_ble_eq_true rfl, Nat.le_of_ble_eq_true rfl⟩) hK hP hD hS hA [0, 1, 2, 3, 4, 5, 6, 7, 8, 9] [] (wM k ma g2 st u1 tp cr cw ik ln lg ce) rfl rfl fm_n 10 rfl (by decide) (by decide) [(ma 0), (ma 1), (ma 2), (ma 3), (ma 4), (ma 5), (ma 6), (ma 7), (ma 8), (ma 9)] rfl rfl 0 3 rfl rfl rfl hl.1 rfl (Nat.le_of_ble_eq_true rfl) dX3_text_24 ⟨Nat.le_of_ble_eq_true rfl, Nat.le_of_ble_eq_true rfl⟩ (fun H locs hP hD hS => ?_)
  have hL27 : ∀ (nn : Nat) (mi_27 : Nat → Int32) (st_27 : Nat → Int32) (rp_27 : Nat → Int32) (ik_27 : Nat → Int32) (x1_27 : Int32) (x2_27 : Int32), ∀ (H : Heap) (locs : List Loc), va_P D vwCl (wM k ma mi_27 st_27 rp_27 tp cr cw ik_27 ln lg ce) H → va_D A (wM k ma mi_27 st_27 rp_27 tp cr cw ik_27 ln lg ce) → va_S A s.heap H locs → fX3_text_L27 tp nn mi_27 st_27 rp_27 ik_27 x1_27 x2_27 = some (r, mi_o, st_o, rp_o, ik_o) → ∀ ls : Array Slot, lv_has ls 4 [(0, .ref (ma 0)), (1, .int x1_27), (2, .int x2_27)] → gW p l e rmX3_text s m [.ref (ma 0)] below meth c (qcX3_text D k ma mi_o st_o rp_o tp cr cw ik_o ln lg ce r A) A 0 0 H locs 27 ls [] := by
    intro nn27
    induction nn27 with
    | zero =>
      intro mi_27 st_27 rp_27 ik_27 x1_27 x2_27 H locs hP hD hS hf
      rw [fX3_text_L27] at hf; cases hf
    | succ nn27 ih27 =>
      intro mi_27 st_27 rp_27 ik_27 x1_27 x2_27 H locs hP hD hS hf ls hl
      rw [fX3_text_L27] at hf
      refine lv_aload_n hx hb dX3_text_27 rfl (lv_at hl 0 rfl) ?_
      refine va_get (D := D) (cl := vwCl) (ci := 3) (v := .int (mi_27 2)) (C := RX3) (T := TX3) (N := 18) hx hb hts in_X3 hown hK.1 hP 0 rfl rfl 5 (by decide) (hts _ q943) (fun _ h9 => h9) rfl dX3_text_28 ?_
      have hB58 : ∀ (mi_58 : Nat → Int32) (st_58 : Nat → Int32) (rp_58 : Nat → Int32) (ik_58 : Nat → Int32), ∀ (H : Heap) (locs : List Loc), va_P D vwCl (wM k ma mi_58 st_58 rp_58 tp cr cw ik_58 ln lg ce) H → va_D A (wM k ma mi_58 st_58 rp_58 tp cr cw ik_58 ln lg ce) → va_S A s.heap H locs → fX3_text_B58 tp mi_58 st_58 rp_58 ik_58 = some (r, mi_o, st_o, rp_o, ik_o) → ∀ ls : Array Slot, lv_has ls 4 [(0, .ref (ma 0))] → gW p l e rmX3_text s m [.ref (ma 0)] below meth c (qcX3_text D k ma mi_o st_o rp_o tp cr cw ik_o ln lg ce r A) A 0 0 H locs 58 ls [] := by
        intro mi_58 st_58 rp_58 ik_58 H locs hP hD hS hf ls hl
        unfold fX3_text_B58 at hf
        refine lv_aload_n hx hb dX3_text_58 rfl (lv_at hl 0 rfl) ?_
        refine lv_iconst (v := 0) hx hb dX3_text_59 (by decide) ?_
        refine va_put (D := D) (cl := vwCl) (ci := 3) (v := .int (0 : Int32)) (ty := .int) (C := RX3) (T := TX3) (N := 18) hx hb hts in_X3 tyX3 tyX3_ok nmX3 hown hK.1 hP hD hS 0 rfl rfl 3 (by decide) (hts _ q941) (fun _ h9 => h9) rfl (by decide +kernel) rfl rfl (Nat.le_of_ble_eq_true rfl) dX3_text_60 (fun H locs hP hD hS => ?_)
        have hP : va_P D vwCl (wM k ma (upd mi_58 0 (0 : Int32)) st_58 rp_58 tp cr cw ik_58 ln lg ce) H := hP
        have hD : va_D A (wM k ma (upd mi_58 0 (0 : Int32)) st_58 rp_58 tp cr cw ik_58 ln lg ce) := hD
        refine lv_aload_n hx hb dX3_text_63 rfl (lv_at hl 0 rfl) ?_
        refine lv_aload_n hx hb dX3_text_64 rfl (lv_at hl 0 rfl) ?_
        refine va_get (D := D) (cl := vwCl) (ci := 3) (v := .int ((upd mi_58 0 (0 : Int32)) 2)) (C := RX3) (T := TX3) (N := 18) hx hb hts in_X3 hown hK.1 hP 0 rfl rfl 5 (by decide) (hts _ q943) (fun _ h9 => h9) rfl dX3_text_65 ?_
        refine va_put (D := D) (cl := vwCl) (ci := 3) (v := .int ((upd mi_58 0 (0 : Int32)) 2)) (ty := .int) (C := RX3) (T := TX3) (N := 18) hx hb hts in_X3 tyX3 tyX3_ok nmX3 hown hK.1 hP hD hS 0 rfl rfl 4 (by decide) (hts _ q942) (fun _ h9 => h9) rfl (by decide +kernel) rfl rfl (Nat.le_of_ble_eq_true rfl) dX3_text_68 (fun H locs hP hD hS => ?_)
        have hP : va_P D vwCl (wM k ma (upd (upd mi_58 0 (0 : Int32)) 1 ((upd mi_58 0 (0 : Int32)) 2)) st_58 rp_58 tp cr cw ik_58 ln lg ce) H := hP
        have hD : va_D A (wM k ma (upd (upd mi_58 0 (0 : Int32)) 1 ((upd mi_58 0 (0 : Int32)) 2)) st_58 rp_58 tp cr cw ik_58 ln lg ce) := hD
        refine lv_aload_n hx hb dX3_text_71 rfl (lv_at hl 0 rfl) ?_
        refine va_get (D := D) (cl := vwCl) (ci := 3) (v := .int ((upd (upd mi_58 0 (0 : Int32)) 1 ((upd mi_58 0 (0 : Int32)) 2)) 2)) (C := RX3) (T := TX3) (N := 18) hx hb hts in_X3 hown hK.1 hP 0 rfl rfl 5 (by decide) (hts _ q943) (fun _ h9 => h9) rfl dX3_text_72 ?_
        refine lv_if_le (tgt := 86) hx hb dX3_text_75 (by decide) (fun c5 => ?_) (fun c5 => ?_)
        · have hf := oi_t c5 hf
          refine lv_iconst (v := 0) hx hb dX3_text_86 (by decide) ?_
          refine lv_istore_n (lv' := [(3, .int (0 : Int32)), (0, .ref (ma 0))]) hx hb dX3_text_87 rfl hl (by decide) rfl (fun ls hl => ?_)
          have hL88 : ∀ (nn : Nat) (mi_88 : Nat → Int32) (st_88 : Nat → Int32) (rp_88 : Nat → Int32) (ik_88 : Nat → Int32) (x3_88 : Int32), ∀ (H : Heap) (locs : List Loc), va_P D vwCl (wM k ma mi_88 st_88 rp_88 tp cr cw ik_88 ln lg ce) H → va_D A (wM k ma mi_88 st_88 rp_88 tp cr cw ik_88 ln lg ce) → va_S A s.heap H locs → fX3_text_L88 tp nn mi_88 st_88 rp_88 ik_88 x3_88 = some (r, mi_o, st_o, rp_o, ik_o) → ∀ ls : Array Slot, lv_has ls 4 [(0, .ref (ma 0)), (3, .int x3_88)] → gW p l e rmX3_text s m [.ref (ma 0)] below meth c (qcX3_text D k ma mi_o st_o rp_o tp cr cw ik_o ln lg ce r A) A 0 0 H locs 88 ls [] := by
            intro nn88
            induction nn88 with
            | zero =>
              intro mi_88 st_88 rp_88 ik_88 x3_88 H locs hP hD hS hf
              rw [fX3_text_L88] at hf; cases hf
            | succ nn88 ih88 =>
              intro mi_88 st_88 rp_88 ik_88 x3_88 H locs hP hD hS hf ls hl
              rw [fX3_text_L88] at hf
              refine lv_iload_n hx hb dX3_text_88 rfl (lv_at hl 1 rfl) ?_
              refine lv_sipush (v := 193) hx hb dX3_text_89 (by decide) ?_
              refine lv_icmp_ge (tgt := 113) hx hb dX3_text_92 (by decide) (fun c6 => ?_) (fun c6 => ?_)
              · have hf := oi_t c6 hf
                refine lv_aload_n hx hb dX3_text_113 rfl (lv_at hl 0 rfl) ?_
                refine va_get (D := D) (cl := vwCl) (ci := 3) (v := .ref (ma 6)) (C := RX3) (T := TX3) (N := 18) hx hb hts in_X3 hown hK.1 hP 0 rfl rfl 13 (by decide) (hts _ q951) (fun _ h9 => h9) rfl dX3_text_114 ?_
                refine lv_iconst (v := 0) hx hb dX3_text_117 (by decide) ?_
                refine lv_iconst (v := 0) hx hb dX3_text_118 (by decide) ?_
                obtain ⟨u7, eu7, hf⟩ := ob hf
                refine x_zast hx hb hK hP hD hS 6 4 eu7 rfl rfl (wM k ma mi_88 st_88 rp_88 tp cr cw u7 ln lg ce) rfl dX3_text_119 (fun H locs hP hD hS => ?_)
                refine lv_aload_n hx hb dX3_text_120 rfl (lv_at hl 0 rfl) ?_
                refine va_get (D := D) (cl := vwCl) (ci := 3) (v := .ref (ma 6)) (C := RX3) (T := TX3) (N := 18) hx hb hts in_X3 hown hK.1 hP 0 rfl rfl 13 (by decide) (hts _ q951) (fun _ h9 => h9) rfl dX3_text_121 ?_
                refine lv_iconst (v := 1) hx hb dX3_text_124 (by decide) ?_
                refine lv_iconst (v := 0) hx hb dX3_text_125 (by decide) ?_
                obtain ⟨u8, eu8, hf⟩ := ob hf
                refine x_zast hx hb hK hP hD hS 6 4 eu8 rfl rfl (wM k ma mi_88 st_88 rp_88 tp cr cw u8 ln lg ce) rfl dX3_text_126 (fun H locs hP hD hS => ?_)
                refine lv_aload_n hx hb dX3_text_127 rfl (lv_at hl 0 rfl) ?_
                refine va_get (D := D) (cl := vwCl) (ci := 3) (v := .ref (ma 1)) (C := RX3) (T := TX3) (N := 18) hx hb hts in_X3 hown hK.1 hP 0 rfl rfl 0 (by decide) (hts _ q938) (fun _ h9 => h9) rfl dX3_text_128 ?_
                refine lv_sipush (v := 192) hx hb dX3_text_131 (by decide) ?_
                obtain ⟨v9, ev9, hf⟩ := ob hf
                refine x_iald hx hb hK hP 1 1 ev9 rfl rfl dX3_text_134 ?_
                obtain ⟨he1, he2, he3, he4, he5⟩ := prod5 hf
                rw [he2] at hP
                rw [he3] at hP
                rw [he4] at hP
                rw [he5] at hP
                exact wr_iret hx hb hr hlk he1 hP hS dX3_text_135
              · have hf := oi_f c6 hf
                refine lv_aload_n hx hb dX3_text_95 rfl (lv_at hl 0 rfl) ?_
                refine va_get (D := D) (cl := vwCl) (ci := 3) (v := .ref (ma 1)) (C := RX3) (T := TX3) (N := 18) hx hb hts in_X3 hown hK.1 hP 0 rfl rfl 0 (by decide) (hts _ q938) (fun _ h9 => h9) rfl dX3_text_96 ?_
                refine lv_iload_n hx hb dX3_text_99 rfl (lv_at hl 1 rfl) ?_
                refine lv_aload_n hx hb dX3_text_100 rfl (lv_at hl 0 rfl) ?_
                refine va_get (D := D) (cl := vwCl) (ci := 3) (v := .ref (ma 2)) (C := RX3) (T := TX3) (N := 18) hx hb hts in_X3 hown hK.1 hP 0 rfl rfl 1 (by decide) (hts _ q939) (fun _ h9 => h9) rfl dX3_text_101 ?_
                refine lv_iload_n hx hb dX3_text_104 rfl (lv_at hl 1 rfl) ?_
                obtain ⟨v10, ev10, hf⟩ := ob hf
                refine x_iald hx hb hK hP 2 1 ev10 rfl rfl dX3_text_105 ?_
                obtain ⟨u11, eu11, hf⟩ := ob hf
                refine x_iast hx hb hK hP hD hS 1 1 eu11 rfl rfl (wM k ma mi_88 u11 rp_88 tp cr cw ik_88 ln lg ce) rfl dX3_text_106 (fun H locs hP hD hS => ?_)
                refine lv_iinc (v := (x3_88 + 1)) (lv' := [(3, .int (x3_88 + 1)), (0, .ref (ma 0))]) hx hb dX3_text_107 hl (k := 1) rfl rfl (by decide) rfl (fun ls hl => ?_)
                refine lv_goto (tgt := 88) hx hb dX3_text_110 (by decide) ?_
                exact ih88 mi_88 u11 rp_88 ik_88 (x3_88 + 1) H locs hP hD hS hf ls (lv_sub hl [1, 0] rfl)
          exact hL88 FU (upd (upd mi_58 0 (0 : Int32)) 1 ((upd mi_58 0 (0 : Int32)) 2)) st_58 rp_58 ik_58 (0 : Int32) H locs hP hD hS hf ls (lv_sub hl [1, 0] rfl)
        · have hf := oi_f c5 hf
          refine lv_bipush (v := (-10)) hx hb dX3_text_78 (by decide) ?_
          refine lv_aload_n hx hb dX3_text_80 rfl (lv_at hl 0 rfl) ?_
          refine va_get (D := D) (cl := vwCl) (ci := 3) (v := .int ((upd (upd mi_58 0 (0 : Int32)) 1 ((upd mi_58 0 (0 : Int32)) 2)) 3)) (C := RX3) (T := TX3) (N := 18) hx hb hts in_X3 hown hK.1 hP 0 rfl rfl 6 (by decide) (hts _ q944) (fun _ h9 => h9) rfl dX3_text_81 ?_
          refine lv_isub hx hb dX3_text_84 ?_
          obtain ⟨he1, he2, he3, he4, he5⟩ := prod5 hf
          rw [he2] at hP
          rw [he3] at hP
          rw [he4] at hP
          rw [he5] at hP
          exact wr_iret hx hb hr hlk he1 hP hS dX3_text_85
      refine lv_if_ne (tgt := 58) hx hb dX3_text_31 (by decide) (fun c4 => ?_) (fun c4 => ?_)
      · have hf := oi_f c4 hf
        exact hB58 mi_27 st_27 rp_27 ik_27 H locs hP hD hS hf ls (lv_sub hl [0] rfl)
      · have hf := oi_t c4 hf
        refine lv_aload_n hx hb dX3_text_34 rfl (lv_at hl 0 rfl) ?_
        refine va_get (D := D) (cl := vwCl) (ci := 3) (v := .int (mi_27 6)) (C := RX3) (T := TX3) (N := 18) hx hb hts in_X3 hown hK.1 hP 0 rfl rfl 9 (by decide) (hts _ q947) (fun _ h9 => h9) rfl dX3_text_35 ?_
        have hB45 : ∀ (mi_45 : Nat → Int32) (st_45 : Nat → Int32) (rp_45 : Nat → Int32) (ik_45 : Nat → Int32) (x1_45 : Int32) (x2_45 : Int32), ∀ (H : Heap) (locs : List Loc), va_P D vwCl (wM k ma mi_45 st_45 rp_45 tp cr cw ik_45 ln lg ce) H → va_D A (wM k ma mi_45 st_45 rp_45 tp cr cw ik_45 ln lg ce) → va_S A s.heap H locs → fX3_text_B45 tp (fX3_text_L27 tp nn27) mi_45 st_45 rp_45 ik_45 x1_45 x2_45 = some (r, mi_o, st_o, rp_o, ik_o) → ∀ ls : Array Slot, lv_has ls 4 [(0, .ref (ma 0)), (1, .int x1_45), (2, .int x2_45)] → gW p l e rmX3_text s m [.ref (ma 0)] below meth c (qcX3_text D k ma mi_o st_o rp_o tp cr cw ik_o ln lg ce r A) A 0 0 H locs 45 ls [] := by
          intro mi_45 st_45 rp_45 ik_45 x1_45 x2_45 H locs hP hD hS hf ls hl
          unfold fX3_text_B45 at hf
          refine lv_aload_n hx hb dX3_text_45 rfl (lv_at hl 0 rfl) ?_
          refine lv_iload_n hx hb dX3_text_46 rfl (lv_at hl 1 rfl) ?_
          refine lv_iload_n hx hb dX3_text_47 rfl (lv_at hl 2 rfl) ?_
          obtain ⟨⟨v13, g14, g15⟩, et16, hf⟩ := ob hf
          refine wr_callV (As := [.int x1_45, .int x2_45]) (rest := []) ⟨hx, hb, hml, hown, hts⟩ (mX3_takes l D k ma mi_45 st_45 rp_45 tp cr cw ik_45 ln lg ce x1_45 x2_45 _ _ _ _ et16) (cwV 2 hts (lw_V q1024 q1026 qs57 q94 q1027) rfl rfl rfl ⟨rfl, hdX3_takes⟩ ⟨Nat.le_of_ble_eq_true rfl, Nat.le_of_ble_eq_true rfl⟩) hK hP hD hS hA [0, 1, 2, 3, 4, 5, 6, 7, 8, 9] [] (wM k ma g14 st_45 g15 tp cr cw ik_45 ln lg ce) rfl rfl fm_n 10 rfl (by decide) (by decide) [(ma 0), (ma 1), (ma 2), (ma 3), (ma 4), (ma 5), (ma 6), (ma 7), (ma 8), (ma 9)] rfl rfl 0 3 rfl rfl rfl hl.1 rfl (Nat.le_of_ble_eq_true rfl) dX3_text_48 ⟨Nat.le_of_ble_eq_true rfl, Nat.le_of_ble_eq_true rfl⟩ (fun H locs hP hD hS => ?_)
          refine lv_istore_n (lv' := [(1, .int v13), (0, .ref (ma 0)), (2, .int x2_45)]) hx hb dX3_text_51 rfl hl (by decide) rfl (fun ls hl => ?_)
          refine lv_iinc (v := (x2_45 + 1)) (lv' := [(2, .int (x2_45 + 1)), (1, .int v13), (0, .ref (ma 0))]) hx hb dX3_text_52 hl (k := 2) rfl rfl (by decide) rfl (fun ls hl => ?_)
          refine lv_goto (tgt := 27) hx hb dX3_text_55 (by decide) ?_
          exact ih27 g14 st_45 g15 ik_45 v13 (x2_45 + 1) H locs hP hD hS hf ls (lv_sub hl [2, 1, 0] rfl)
        refine lv_if_ne (tgt := 45) hx hb dX3_text_38 (by decide) (fun c12 => ?_) (fun c12 => ?_)
        · have hf := oi_f c12 hf
          exact hB45 mi_27 st_27 rp_27 ik_27 x1_27 x2_27 H locs hP hD hS hf ls (lv_sub hl [0, 1, 2] rfl)
        · have hf := oi_t c12 hf
          refine lv_iload_n hx hb dX3_text_41 rfl (lv_at hl 1 rfl) ?_
          refine lv_if_le (tgt := 58) hx hb dX3_text_42 (by decide) (fun c17 => ?_) (fun c17 => ?_)
          · have hf := oi_t c17 hf
            exact hB58 mi_27 st_27 rp_27 ik_27 H locs hP hD hS hf ls (lv_sub hl [0] rfl)
          · have hf := oi_f c17 hf
            exact hB45 mi_27 st_27 rp_27 ik_27 x1_27 x2_27 H locs hP hD hS hf ls (lv_sub hl [0, 1, 2] rfl)
  exact hL27 FU g2 st u1 ik (0 : Int32) (0 : Int32) H locs hP hD hS hf ls (lv_sub hl [2, 1, 0] rfl)

abbrev rmX3_fault : Room := { frames := 0, cells := 0, slots := 0, locals := 0 }
theorem hdX3_fault : yX3_fault.cls ≠ "java/lang/invoke/MethodHandle" ∧ yX3_fault.cls ≠ "java/lang/invoke/VarHandle" ∧ (parseMethodDescriptor yX3_fault.desc).map (fun d => d.parameters.length) = some 0 := by decide +kernel
set_option maxHeartbeats 4000000 in
theorem mX3_fault (l : Launch) (D : va_G) (k : Nat → ClassId) (ma : Nat → Nat) (mi : Nat → Int32) (st : Nat → Int32) (rp : Nat → Int32) (tp : Nat → Int32) (cr : Nat → Int32) (cw : Nat → Int32) (ik : Nat → Int32) (ln : Nat → Int32) (lg : Nat → Int32) (ce : Nat → Int64) (r : Int32) (hf : fX3_fault mi = some r) : CtI l yX3_fault cX3_fault 1 rmX3_fault [.ref (ma 0)] D k (wM k ma mi st rp tp cr cw ik ln lg ce) r := by
  refine rd_start (by decide +kernel) (Nat.le_of_ble_eq_true rfl) ?_
  intro p e s m below meth c ls hx hb hr hlk hml hown hts hP hK hl
  have hl : lv_has ls 1 [(0, .ref (ma 0))] := hl
  have hown : s.vm.findClass RX3 = some m.cls := hown
  unfold fX3_fault at hf
  refine lv_aload_n hx hb dX3_fault_0 rfl (lv_at hl 0 rfl) ?_
  refine va_get (D := D) (cl := vwCl) (ci := 3) (v := .int (mi 1)) (C := RX3) (T := TX3) (N := 18) hx hb hts in_X3 hown hK.1 hP 0 rfl rfl 4 (by decide) (hts _ q942) (fun _ h9 => h9) rfl dX3_fault_1 ?_
  exact rd_iret hx hb hr hlk (Option.some.inj hf) dX3_fault_4

abbrev rmX3_many : Room := { frames := 0, cells := 0, slots := 0, locals := 0 }
theorem hdX3_many : yX3_many.cls ≠ "java/lang/invoke/MethodHandle" ∧ yX3_many.cls ≠ "java/lang/invoke/VarHandle" ∧ (parseMethodDescriptor yX3_many.desc).map (fun d => d.parameters.length) = some 0 := by decide +kernel
set_option maxHeartbeats 4000000 in
theorem mX3_many (l : Launch) (D : va_G) (k : Nat → ClassId) (ma : Nat → Nat) (mi : Nat → Int32) (st : Nat → Int32) (rp : Nat → Int32) (tp : Nat → Int32) (cr : Nat → Int32) (cw : Nat → Int32) (ik : Nat → Int32) (ln : Nat → Int32) (lg : Nat → Int32) (ce : Nat → Int64) (r : Int32) (hf : fX3_many st = some r) : CtI l yX3_many cX3_many 1 rmX3_many [.ref (ma 0)] D k (wM k ma mi st rp tp cr cw ik ln lg ce) r := by
  refine rd_start (by decide +kernel) (Nat.le_of_ble_eq_true rfl) ?_
  intro p e s m below meth c ls hx hb hr hlk hml hown hts hP hK hl
  have hl : lv_has ls 1 [(0, .ref (ma 0))] := hl
  have hown : s.vm.findClass RX3 = some m.cls := hown
  unfold fX3_many at hf
  refine lv_aload_n hx hb dX3_many_0 rfl (lv_at hl 0 rfl) ?_
  refine va_get (D := D) (cl := vwCl) (ci := 3) (v := .ref (ma 1)) (C := RX3) (T := TX3) (N := 18) hx hb hts in_X3 hown hK.1 hP 0 rfl rfl 0 (by decide) (hts _ q938) (fun _ h9 => h9) rfl dX3_many_1 ?_
  refine lv_sipush (v := 192) hx hb dX3_many_4 (by decide) ?_
  obtain ⟨v1, ev1, hf⟩ := ob hf
  refine x_iald hx hb hK hP 1 1 ev1 rfl rfl dX3_many_7 ?_
  exact rd_iret hx hb hr hlk (Option.some.inj hf) dX3_many_8

abbrev rmX3_places : Room := { frames := 0, cells := 0, slots := 0, locals := 0 }
theorem hdX3_places : yX3_places.cls ≠ "java/lang/invoke/MethodHandle" ∧ yX3_places.cls ≠ "java/lang/invoke/VarHandle" ∧ (parseMethodDescriptor yX3_places.desc).map (fun d => d.parameters.length) = some 0 := by decide +kernel
set_option maxHeartbeats 4000000 in
theorem mX3_places (l : Launch) (D : va_G) (k : Nat → ClassId) (ma : Nat → Nat) (mi : Nat → Int32) (st : Nat → Int32) (rp : Nat → Int32) (tp : Nat → Int32) (cr : Nat → Int32) (cw : Nat → Int32) (ik : Nat → Int32) (ln : Nat → Int32) (lg : Nat → Int32) (ce : Nat → Int64) (r : Int32) (hf : fX3_places st = some r) : CtI l yX3_places cX3_places 1 rmX3_places [.ref (ma 0)] D k (wM k ma mi st rp tp cr cw ik ln lg ce) r := by
  refine rd_start (by decide +kernel) (Nat.le_of_ble_eq_true rfl) ?_
  intro p e s m below meth c ls hx hb hr hlk hml hown hts hP hK hl
  have hl : lv_has ls 1 [(0, .ref (ma 0))] := hl
  have hown : s.vm.findClass RX3 = some m.cls := hown
  unfold fX3_places at hf
  refine lv_iconst (v := 2) hx hb dX3_places_0 (by decide) ?_
  refine lv_aload_n hx hb dX3_places_1 rfl (lv_at hl 0 rfl) ?_
  refine va_get (D := D) (cl := vwCl) (ci := 3) (v := .ref (ma 1)) (C := RX3) (T := TX3) (N := 18) hx hb hts in_X3 hown hK.1 hP 0 rfl rfl 0 (by decide) (hts _ q938) (fun _ h9 => h9) rfl dX3_places_2 ?_
  refine lv_sipush (v := 192) hx hb dX3_places_5 (by decide) ?_
  obtain ⟨v1, ev1, hf⟩ := ob hf
  refine x_iald hx hb hK hP 1 1 ev1 rfl rfl dX3_places_8 ?_
  refine lv_imul hx hb dX3_places_9 ?_
  exact rd_iret hx hb hr hlk (Option.some.inj hf) dX3_places_10

abbrev rmX3_isNode : Room := { frames := 1, cells := 0, slots := 0, locals := 25 }
theorem hdX3_isNode : yX3_isNode.cls ≠ "java/lang/invoke/MethodHandle" ∧ yX3_isNode.cls ≠ "java/lang/invoke/VarHandle" ∧ (parseMethodDescriptor yX3_isNode.desc).map (fun d => d.parameters.length) = some 1 := by decide +kernel
set_option maxHeartbeats 4000000 in
theorem mX3_isNode (l : Launch) (D : va_G) (k : Nat → ClassId) (ma : Nat → Nat) (mi : Nat → Int32) (st : Nat → Int32) (rp : Nat → Int32) (tp : Nat → Int32) (cr : Nat → Int32) (cw : Nat → Int32) (ik : Nat → Int32) (ln : Nat → Int32) (lg : Nat → Int32) (ce : Nat → Int64) (p1 : Int32) (r : Int32) (hf : fX3_isNode st p1 = some r) : CtZ l yX3_isNode cX3_isNode 2 rmX3_isNode [.ref (ma 0), .int p1] D k (wM k ma mi st rp tp cr cw ik ln lg ce) r := by
  refine rd_start (by decide +kernel) (Nat.le_of_ble_eq_true rfl) ?_
  intro p e s m below meth c ls hx hb hr hlk hml hown hts hP hK hl
  have hl : lv_has ls 2 [(0, .ref (ma 0)), (1, .int p1)] := hl
  have hown : s.vm.findClass RX3 = some m.cls := hown
  unfold fX3_isNode at hf
  refine lv_iload_n hx hb dX3_isNode_0 rfl (lv_at hl 1 rfl) ?_
  refine lv_i2l hx hb dX3_isNode_1 rfl ?_
  refine lv_lconst (v := 0) hx hb dX3_isNode_2 (by decide) ?_
  refine lv_aload_n hx hb dX3_isNode_3 rfl (lv_at hl 0 rfl) ?_
  obtain ⟨v1, ev1, hf⟩ := ob hf
  refine rd_callV (As := []) (rest := [.long (0 : Int64), .long ((p1).toInt64)]) ⟨hx, hb, hml, hown, hts⟩ (mX3_many l D k ma mi st rp tp cr cw ik ln lg ce  _ ev1) (cwV 0 hts (lw_V q1048 q1050 qs61 q94 q1051) rfl rfl rfl ⟨rfl, hdX3_many⟩ ⟨Nat.le_of_ble_eq_true rfl, Nat.le_of_ble_eq_true rfl⟩) hK hP [0, 1, 2, 3, 4, 5, 6, 7, 8, 9] rfl 0 3 rfl rfl rfl hl.1 rfl (Nat.le_of_ble_eq_true rfl) dX3_isNode_4 ⟨Nat.le_of_ble_eq_true rfl, Nat.le_of_ble_eq_true rfl⟩ ?_
  refine lv_iconst (v := 1) hx hb dX3_isNode_7 (by decide) ?_
  refine lv_isub hx hb dX3_isNode_8 ?_
  refine lv_i2l hx hb dX3_isNode_9 rfl ?_
  obtain ⟨v3, ev3, hf⟩ := ob hf
  refine rd_callSZ (As := [.long ((p1).toInt64), .long (0 : Int64), .long (((v1 - (1 : Int32))).toInt64)]) (rest := []) ⟨hx, hb, hml, hown, hts⟩ (mX3_in l D k   ((p1).toInt64) (0 : Int64) (((v1 - (1 : Int32))).toInt64) _ ev3) (va_cwS 3 hts (lw_S q999 q1000 q94 q1001) rfl rfl rfl hdX3_in ⟨Nat.le_of_ble_eq_true rfl, Nat.le_of_ble_eq_true rfl⟩) hK rfl hl.1 rfl (Nat.le_of_ble_eq_true rfl) dX3_isNode_10 ⟨Nat.le_of_ble_eq_true rfl, Nat.le_of_ble_eq_true rfl⟩ (fun zv3 => ?_)
  exact rd_zret hx hb hr hlk zv3 (Option.some.inj hf) dX3_isNode_13

abbrev rmX3_isMark : Room := { frames := 1, cells := 0, slots := 0, locals := 25 }
theorem hdX3_isMark : yX3_isMark.cls ≠ "java/lang/invoke/MethodHandle" ∧ yX3_isMark.cls ≠ "java/lang/invoke/VarHandle" ∧ (parseMethodDescriptor yX3_isMark.desc).map (fun d => d.parameters.length) = some 1 := by decide +kernel
set_option maxHeartbeats 4000000 in
theorem mX3_isMark (l : Launch) (D : va_G) (k : Nat → ClassId) (ma : Nat → Nat) (mi : Nat → Int32) (st : Nat → Int32) (rp : Nat → Int32) (tp : Nat → Int32) (cr : Nat → Int32) (cw : Nat → Int32) (ik : Nat → Int32) (ln : Nat → Int32) (lg : Nat → Int32) (ce : Nat → Int64) (p1 : Int32) (r : Int32) (hf : fX3_isMark st p1 = some r) : CtZ l yX3_isMark cX3_isMark 2 rmX3_isMark [.ref (ma 0), .int p1] D k (wM k ma mi st rp tp cr cw ik ln lg ce) r := by
  refine rd_start (by decide +kernel) (Nat.le_of_ble_eq_true rfl) ?_
  intro p e s m below meth c ls hx hb hr hlk hml hown hts hP hK hl
  have hl : lv_has ls 2 [(0, .ref (ma 0)), (1, .int p1)] := hl
  have hown : s.vm.findClass RX3 = some m.cls := hown
  unfold fX3_isMark at hf
  refine lv_iload_n hx hb dX3_isMark_0 rfl (lv_at hl 1 rfl) ?_
  refine lv_i2l hx hb dX3_isMark_1 rfl ?_
  refine lv_lconst (v := 0) hx hb dX3_isMark_2 (by decide) ?_
  refine lv_aload_n hx hb dX3_isMark_3 rfl (lv_at hl 0 rfl) ?_
  obtain ⟨v1, ev1, hf⟩ := ob hf
  refine rd_callV (As := []) (rest := [.long (0 : Int64), .long ((p1).toInt64)]) ⟨hx, hb, hml, hown, hts⟩ (mX3_places l D k ma mi st rp tp cr cw ik ln lg ce  _ ev1) (cwV 0 hts (lw_V q1036 q1038 qs58 q94 q1039) rfl rfl rfl ⟨rfl, hdX3_places⟩ ⟨Nat.le_of_ble_eq_true rfl, Nat.le_of_ble_eq_true rfl⟩) hK hP [0, 1, 2, 3, 4, 5, 6, 7, 8, 9] rfl 0 3 rfl rfl rfl hl.1 rfl (Nat.le_of_ble_eq_true rfl) dX3_isMark_4 ⟨Nat.le_of_ble_eq_true rfl, Nat.le_of_ble_eq_true rfl⟩ ?_
  refine lv_i2l hx hb dX3_isMark_7 rfl ?_
  obtain ⟨v3, ev3, hf⟩ := ob hf
  refine rd_callSZ (As := [.long ((p1).toInt64), .long (0 : Int64), .long ((v1).toInt64)]) (rest := []) ⟨hx, hb, hml, hown, hts⟩ (mX3_in l D k   ((p1).toInt64) (0 : Int64) ((v1).toInt64) _ ev3) (va_cwS 3 hts (lw_S q999 q1000 q94 q1001) rfl rfl rfl hdX3_in ⟨Nat.le_of_ble_eq_true rfl, Nat.le_of_ble_eq_true rfl⟩) hK rfl hl.1 rfl (Nat.le_of_ble_eq_true rfl) dX3_isMark_8 ⟨Nat.le_of_ble_eq_true rfl, Nat.le_of_ble_eq_true rfl⟩ (fun zv3 => ?_)
  exact rd_zret hx hb hr hlk zv3 (Option.some.inj hf) dX3_isMark_11

abbrev rmX3_excessAt : Room := { frames := 0, cells := 0, slots := 0, locals := 0 }
theorem hdX3_excessAt : yX3_excessAt.cls ≠ "java/lang/invoke/MethodHandle" ∧ yX3_excessAt.cls ≠ "java/lang/invoke/VarHandle" ∧ (parseMethodDescriptor yX3_excessAt.desc).map (fun d => d.parameters.length) = some 1 := by decide +kernel
set_option maxHeartbeats 4000000 in
theorem mX3_excessAt (l : Launch) (D : va_G) (k : Nat → ClassId) (ma : Nat → Nat) (mi : Nat → Int32) (st : Nat → Int32) (rp : Nat → Int32) (tp : Nat → Int32) (cr : Nat → Int32) (cw : Nat → Int32) (ik : Nat → Int32) (ln : Nat → Int32) (lg : Nat → Int32) (ce : Nat → Int64) (p1 : Int32) (r : Int32) (hf : fX3_excessAt st p1 = some r) : CtI l yX3_excessAt cX3_excessAt 4 rmX3_excessAt [.ref (ma 0), .int p1] D k (wM k ma mi st rp tp cr cw ik ln lg ce) r := by
  refine rd_start (by decide +kernel) (Nat.le_of_ble_eq_true rfl) ?_
  intro p e s m below meth c ls hx hb hr hlk hml hown hts hP hK hl
  have hl : lv_has ls 4 [(0, .ref (ma 0)), (1, .int p1)] := hl
  have hown : s.vm.findClass RX3 = some m.cls := hown
  unfold fX3_excessAt at hf
  refine lv_iconst (v := 0) hx hb dX3_excessAt_0 (by decide) ?_
  refine lv_istore_n (lv' := [(2, .int (0 : Int32)), (0, .ref (ma 0)), (1, .int p1)]) hx hb dX3_excessAt_1 rfl hl (by decide) rfl (fun ls hl => ?_)
  refine lv_iconst (v := 0) hx hb dX3_excessAt_2 (by decide) ?_
  refine lv_istore_n (lv' := [(3, .int (0 : Int32)), (2, .int (0 : Int32)), (0, .ref (ma 0)), (1, .int p1)]) hx hb dX3_excessAt_3 rfl hl (by decide) rfl (fun ls hl => ?_)
  have hL4 : ∀ (nn : Nat) (x2_4 : Int32) (x3_4 : Int32), fX3_excessAt_L4 st p1 nn x2_4 x3_4 = some r → ∀ ls : Array Slot, lv_has ls 4 [(0, .ref (ma 0)), (1, .int p1), (2, .int x2_4), (3, .int x3_4)] → gR p l e rmX3_excessAt s m [.ref (ma 0), .int p1] below meth c (vp_Si (fun x => x = r)) 4 ls [] := by
    intro nn4
    induction nn4 with
    | zero =>
      intro x2_4 x3_4 hf
      rw [fX3_excessAt_L4] at hf; cases hf
    | succ nn4 ih4 =>
      intro x2_4 x3_4 hf ls hl
      rw [fX3_excessAt_L4] at hf
      refine lv_iload_n hx hb dX3_excessAt_4 rfl (lv_at hl 3 rfl) ?_
      refine lv_iload_n hx hb dX3_excessAt_5 rfl (lv_at hl 1 rfl) ?_
      refine lv_icmp_ge (tgt := 33) hx hb dX3_excessAt_6 (by decide) (fun c1 => ?_) (fun c1 => ?_)
      · have hf := oi_t c1 hf
        refine lv_iload_n hx hb dX3_excessAt_33 rfl (lv_at hl 2 rfl) ?_
        exact rd_iret hx hb hr hlk (Option.some.inj hf) dX3_excessAt_34
      · have hf := oi_f c1 hf
        refine lv_iload_n hx hb dX3_excessAt_9 rfl (lv_at hl 2 rfl) ?_
        refine lv_aload_n hx hb dX3_excessAt_10 rfl (lv_at hl 0 rfl) ?_
        refine va_get (D := D) (cl := vwCl) (ci := 3) (v := .ref (ma 1)) (C := RX3) (T := TX3) (N := 18) hx hb hts in_X3 hown hK.1 hP 0 rfl rfl 0 (by decide) (hts _ q938) (fun _ h9 => h9) rfl dX3_excessAt_11 ?_
        refine lv_iload_n hx hb dX3_excessAt_14 rfl (lv_at hl 3 rfl) ?_
        obtain ⟨v2, ev2, hf⟩ := ob hf
        refine x_iald hx hb hK hP 1 1 ev2 rfl rfl dX3_excessAt_15 ?_
        refine lv_iconst (v := 1) hx hb dX3_excessAt_16 (by decide) ?_
        have hB25 : ∀ (x3_25 : Int32) (s0_25 : Int32) (s1_25 : Int32), fX3_excessAt_B25 st p1 (fX3_excessAt_L4 st p1 nn4) x3_25 s0_25 s1_25 = some r → ∀ ls : Array Slot, lv_has ls 4 [(0, .ref (ma 0)), (1, .int p1), (3, .int x3_25)] → gR p l e rmX3_excessAt s m [.ref (ma 0), .int p1] below meth c (vp_Si (fun x => x = r)) 25 ls [.int s0_25, .int s1_25] := by
          intro x3_25 s0_25 s1_25 hf ls hl
          unfold fX3_excessAt_B25 at hf
          refine lv_iadd hx hb dX3_excessAt_25 ?_
          obtain ⟨y4, ey4, hf⟩ := ob hf
          refine x_asI ey4 ?_
          refine lv_istore_n (lv' := [(2, .int y4), (0, .ref (ma 0)), (1, .int p1), (3, .int x3_25)]) hx hb dX3_excessAt_26 rfl hl (by decide) rfl (fun ls hl => ?_)
          refine lv_iinc (v := (x3_25 + 1)) (lv' := [(3, .int (x3_25 + 1)), (2, .int y4), (0, .ref (ma 0)), (1, .int p1)]) hx hb dX3_excessAt_27 hl (k := 3) rfl rfl (by decide) rfl (fun ls hl => ?_)
          refine lv_goto (tgt := 4) hx hb dX3_excessAt_30 (by decide) ?_
          exact ih4 y4 (x3_25 + 1) hf ls (lv_sub hl [2, 3, 1, 0] rfl)
        refine lv_icmp_ne (tgt := 24) hx hb dX3_excessAt_17 (by decide) (fun c3 => ?_) (fun c3 => ?_)
        · have hf := oi_f c3 hf
          refine lv_iconst (v := (-1)) hx hb dX3_excessAt_24 (by decide) ?_
          exact hB25 x3_4 (-1 : Int32) x2_4 hf ls (lv_sub hl [0, 1, 3] rfl)
        · have hf := oi_t c3 hf
          refine lv_iconst (v := 1) hx hb dX3_excessAt_20 (by decide) ?_
          refine lv_goto (tgt := 25) hx hb dX3_excessAt_21 (by decide) ?_
          exact hB25 x3_4 (1 : Int32) x2_4 hf ls (lv_sub hl [0, 1, 3] rfl)
  exact hL4 FU (0 : Int32) (0 : Int32) hf ls (lv_sub hl [2, 3, 1, 0] rfl)

abbrev rmX3_opensAt : Room := { frames := 1, cells := 0, slots := 0, locals := 23 }
theorem hdX3_opensAt : yX3_opensAt.cls ≠ "java/lang/invoke/MethodHandle" ∧ yX3_opensAt.cls ≠ "java/lang/invoke/VarHandle" ∧ (parseMethodDescriptor yX3_opensAt.desc).map (fun d => d.parameters.length) = some 1 := by decide +kernel
set_option maxHeartbeats 4000000 in
theorem mX3_opensAt (l : Launch) (D : va_G) (k : Nat → ClassId) (ma : Nat → Nat) (mi : Nat → Int32) (st : Nat → Int32) (rp : Nat → Int32) (tp : Nat → Int32) (cr : Nat → Int32) (cw : Nat → Int32) (ik : Nat → Int32) (ln : Nat → Int32) (lg : Nat → Int32) (ce : Nat → Int64) (p1 : Int32) (r : Int32) (hf : fX3_opensAt st p1 = some r) : CtI l yX3_opensAt cX3_opensAt 2 rmX3_opensAt [.ref (ma 0), .int p1] D k (wM k ma mi st rp tp cr cw ik ln lg ce) r := by
  refine rd_start (by decide +kernel) (Nat.le_of_ble_eq_true rfl) ?_
  intro p e s m below meth c ls hx hb hr hlk hml hown hts hP hK hl
  have hl : lv_has ls 2 [(0, .ref (ma 0)), (1, .int p1)] := hl
  have hown : s.vm.findClass RX3 = some m.cls := hown
  unfold fX3_opensAt at hf
  refine lv_iload_n hx hb dX3_opensAt_0 rfl (lv_at hl 1 rfl) ?_
  refine lv_aload_n hx hb dX3_opensAt_1 rfl (lv_at hl 0 rfl) ?_
  refine lv_iload_n hx hb dX3_opensAt_2 rfl (lv_at hl 1 rfl) ?_
  obtain ⟨v1, ev1, hf⟩ := ob hf
  refine rd_callV (As := [.int p1]) (rest := [.int p1]) ⟨hx, hb, hml, hown, hts⟩ (mX3_excessAt l D k ma mi st rp tp cr cw ik ln lg ce p1 _ ev1) (cwV 1 hts (lw_V q1044 q1046 qs60 q94 q1047) rfl rfl rfl ⟨rfl, hdX3_excessAt⟩ ⟨Nat.le_of_ble_eq_true rfl, Nat.le_of_ble_eq_true rfl⟩) hK hP [0, 1, 2, 3, 4, 5, 6, 7, 8, 9] rfl 0 3 rfl rfl rfl hl.1 rfl (Nat.le_of_ble_eq_true rfl) dX3_opensAt_3 ⟨Nat.le_of_ble_eq_true rfl, Nat.le_of_ble_eq_true rfl⟩ ?_
  refine lv_iadd hx hb dX3_opensAt_6 ?_
  refine lv_iconst (v := 2) hx hb dX3_opensAt_7 (by decide) ?_
  refine lv_idiv hx hb dX3_opensAt_8 (by decide) ?_
  exact rd_iret hx hb hr hlk (Option.some.inj hf) dX3_opensAt_9

abbrev rmX3_openOf : Room := { frames := 0, cells := 0, slots := 0, locals := 0 }
theorem hdX3_openOf : yX3_openOf.cls ≠ "java/lang/invoke/MethodHandle" ∧ yX3_openOf.cls ≠ "java/lang/invoke/VarHandle" ∧ (parseMethodDescriptor yX3_openOf.desc).map (fun d => d.parameters.length) = some 1 := by decide +kernel
set_option maxHeartbeats 4000000 in
theorem mX3_openOf (l : Launch) (D : va_G) (k : Nat → ClassId) (ma : Nat → Nat) (mi : Nat → Int32) (st : Nat → Int32) (rp : Nat → Int32) (tp : Nat → Int32) (cr : Nat → Int32) (cw : Nat → Int32) (ik : Nat → Int32) (ln : Nat → Int32) (lg : Nat → Int32) (ce : Nat → Int64) (p1 : Int32) (r : Int32) (hf : fX3_openOf st p1 = some r) : CtI l yX3_openOf cX3_openOf 4 rmX3_openOf [.ref (ma 0), .int p1] D k (wM k ma mi st rp tp cr cw ik ln lg ce) r := by
  refine rd_start (by decide +kernel) (Nat.le_of_ble_eq_true rfl) ?_
  intro p e s m below meth c ls hx hb hr hlk hml hown hts hP hK hl
  have hl : lv_has ls 4 [(0, .ref (ma 0)), (1, .int p1)] := hl
  have hown : s.vm.findClass RX3 = some m.cls := hown
  unfold fX3_openOf at hf
  refine lv_iconst (v := (-1)) hx hb dX3_openOf_0 (by decide) ?_
  refine lv_istore_n (lv' := [(2, .int (-1 : Int32)), (0, .ref (ma 0)), (1, .int p1)]) hx hb dX3_openOf_1 rfl hl (by decide) rfl (fun ls hl => ?_)
  refine lv_iload_n hx hb dX3_openOf_2 rfl (lv_at hl 2 rfl) ?_
  refine lv_istore_n (lv' := [(3, .int p1), (2, .int (-1 : Int32)), (0, .ref (ma 0)), (1, .int p1)]) hx hb dX3_openOf_3 rfl hl (by decide) rfl (fun ls hl => ?_)
  have hL4 : ∀ (nn : Nat) (x2_4 : Int32) (x3_4 : Int32), fX3_openOf_L4 st p1 nn x2_4 x3_4 = some r → ∀ ls : Array Slot, lv_has ls 4 [(0, .ref (ma 0)), (2, .int x2_4), (3, .int x3_4)] → gR p l e rmX3_openOf s m [.ref (ma 0), .int p1] below meth c (vp_Si (fun x => x = r)) 4 ls [] := by
    intro nn4
    induction nn4 with
    | zero =>
      intro x2_4 x3_4 hf
      rw [fX3_openOf_L4] at hf; cases hf
    | succ nn4 ih4 =>
      intro x2_4 x3_4 hf ls hl
      rw [fX3_openOf_L4] at hf
      refine lv_iload_n hx hb dX3_openOf_4 rfl (lv_at hl 2 rfl) ?_
      refine lv_if_lt (tgt := 32) hx hb dX3_openOf_5 (by decide) (fun c1 => ?_) (fun c1 => ?_)
      · have hf := oi_t c1 hf
        refine lv_iload_n hx hb dX3_openOf_32 rfl (lv_at hl 1 rfl) ?_
        exact rd_iret hx hb hr hlk (Option.some.inj hf) dX3_openOf_33
      · have hf := oi_f c1 hf
        refine lv_iinc (v := (x2_4 + 1)) (lv' := [(2, .int (x2_4 + 1)), (0, .ref (ma 0)), (3, .int x3_4)]) hx hb dX3_openOf_8 hl (k := 1) rfl rfl (by decide) rfl (fun ls hl => ?_)
        have hL11 : ∀ (nn : Nat) (x2_11 : Int32) (x3_11 : Int32), fX3_openOf_L11 st p1 (fX3_openOf_L4 st p1 nn4) nn x2_11 x3_11 = some r → ∀ ls : Array Slot, lv_has ls 4 [(0, .ref (ma 0)), (2, .int x2_11), (3, .int x3_11)] → gR p l e rmX3_openOf s m [.ref (ma 0), .int p1] below meth c (vp_Si (fun x => x = r)) 11 ls [] := by
          intro nn11
          induction nn11 with
          | zero =>
            intro x2_11 x3_11 hf
            rw [fX3_openOf_L11] at hf; cases hf
          | succ nn11 ih11 =>
            intro x2_11 x3_11 hf ls hl
            rw [fX3_openOf_L11] at hf
            refine lv_aload_n hx hb dX3_openOf_11 rfl (lv_at hl 0 rfl) ?_
            refine va_get (D := D) (cl := vwCl) (ci := 3) (v := .ref (ma 1)) (C := RX3) (T := TX3) (N := 18) hx hb hts in_X3 hown hK.1 hP 0 rfl rfl 0 (by decide) (hts _ q938) (fun _ h9 => h9) rfl dX3_openOf_12 ?_
            refine lv_iload_n hx hb dX3_openOf_15 rfl (lv_at hl 1 rfl) ?_
            obtain ⟨v2, ev2, hf⟩ := ob hf
            refine x_iald hx hb hK hP 1 1 ev2 rfl rfl dX3_openOf_16 ?_
            refine lv_if_ne (tgt := 26) hx hb dX3_openOf_17 (by decide) (fun c3 => ?_) (fun c3 => ?_)
            · have hf := oi_f c3 hf
              refine lv_iinc (v := (x3_11 + (-1))) (lv' := [(3, .int (x3_11 + (-1))), (0, .ref (ma 0)), (2, .int x2_11)]) hx hb dX3_openOf_26 hl (k := 2) rfl rfl (by decide) rfl (fun ls hl => ?_)
              refine lv_goto (tgt := 4) hx hb dX3_openOf_29 (by decide) ?_
              exact ih4 x2_11 (x3_11 + (-1)) hf ls (lv_sub hl [1, 2, 0] rfl)
            · have hf := oi_t c3 hf
              refine lv_iinc (v := (x2_11 + 1)) (lv' := [(2, .int (x2_11 + 1)), (0, .ref (ma 0)), (3, .int x3_11)]) hx hb dX3_openOf_20 hl (k := 1) rfl rfl (by decide) rfl (fun ls hl => ?_)
              refine lv_goto (tgt := 11) hx hb dX3_openOf_23 (by decide) ?_
              exact ih11 (x2_11 + 1) x3_11 hf ls (lv_sub hl [1, 0, 2] rfl)
        exact hL11 FU (x2_4 + 1) x3_4 hf ls (lv_sub hl [1, 0, 2] rfl)
  exact hL4 FU (-1 : Int32) p1 hf ls (lv_sub hl [2, 1, 0] rfl)

abbrev rmX3_shutOf : Room := { frames := 0, cells := 0, slots := 0, locals := 0 }
theorem hdX3_shutOf : yX3_shutOf.cls ≠ "java/lang/invoke/MethodHandle" ∧ yX3_shutOf.cls ≠ "java/lang/invoke/VarHandle" ∧ (parseMethodDescriptor yX3_shutOf.desc).map (fun d => d.parameters.length) = some 1 := by decide +kernel
set_option maxHeartbeats 4000000 in
theorem mX3_shutOf (l : Launch) (D : va_G) (k : Nat → ClassId) (ma : Nat → Nat) (mi : Nat → Int32) (st : Nat → Int32) (rp : Nat → Int32) (tp : Nat → Int32) (cr : Nat → Int32) (cw : Nat → Int32) (ik : Nat → Int32) (ln : Nat → Int32) (lg : Nat → Int32) (ce : Nat → Int64) (p1 : Int32) (r : Int32) (hf : fX3_shutOf st p1 = some r) : CtI l yX3_shutOf cX3_shutOf 4 rmX3_shutOf [.ref (ma 0), .int p1] D k (wM k ma mi st rp tp cr cw ik ln lg ce) r := by
  refine rd_start (by decide +kernel) (Nat.le_of_ble_eq_true rfl) ?_
  intro p e s m below meth c ls hx hb hr hlk hml hown hts hP hK hl
  have hl : lv_has ls 4 [(0, .ref (ma 0)), (1, .int p1)] := hl
  have hown : s.vm.findClass RX3 = some m.cls := hown
  unfold fX3_shutOf at hf
  refine lv_iconst (v := 1) hx hb dX3_shutOf_0 (by decide) ?_
  refine lv_istore_n (lv' := [(2, .int (1 : Int32)), (0, .ref (ma 0)), (1, .int p1)]) hx hb dX3_shutOf_1 rfl hl (by decide) rfl (fun ls hl => ?_)
  refine lv_iload_n hx hb dX3_shutOf_2 rfl (lv_at hl 2 rfl) ?_
  refine lv_istore_n (lv' := [(3, .int p1), (2, .int (1 : Int32)), (0, .ref (ma 0)), (1, .int p1)]) hx hb dX3_shutOf_3 rfl hl (by decide) rfl (fun ls hl => ?_)
  have hL4 : ∀ (nn : Nat) (x2_4 : Int32) (x3_4 : Int32), fX3_shutOf_L4 st p1 nn x2_4 x3_4 = some r → ∀ ls : Array Slot, lv_has ls 4 [(0, .ref (ma 0)), (2, .int x2_4), (3, .int x3_4)] → gR p l e rmX3_shutOf s m [.ref (ma 0), .int p1] below meth c (vp_Si (fun x => x = r)) 4 ls [] := by
    intro nn4
    induction nn4 with
    | zero =>
      intro x2_4 x3_4 hf
      rw [fX3_shutOf_L4] at hf; cases hf
    | succ nn4 ih4 =>
      intro x2_4 x3_4 hf ls hl
      rw [fX3_shutOf_L4] at hf
      refine lv_iload_n hx hb dX3_shutOf_4 rfl (lv_at hl 1 rfl) ?_
      refine lv_if_le (tgt := 32) hx hb dX3_shutOf_5 (by decide) (fun c1 => ?_) (fun c1 => ?_)
      · have hf := oi_t c1 hf
        refine lv_iload_n hx hb dX3_shutOf_32 rfl (lv_at hl 2 rfl) ?_
        exact rd_iret hx hb hr hlk (Option.some.inj hf) dX3_shutOf_33
      · have hf := oi_f c1 hf
        refine lv_iinc (v := (x3_4 + 1)) (lv' := [(3, .int (x3_4 + 1)), (0, .ref (ma 0)), (2, .int x2_4)]) hx hb dX3_shutOf_8 hl (k := 2) rfl rfl (by decide) rfl (fun ls hl => ?_)
        refine lv_iload_n hx hb dX3_shutOf_11 rfl (lv_at hl 2 rfl) ?_
        refine lv_aload_n hx hb dX3_shutOf_12 rfl (lv_at hl 1 rfl) ?_
        refine va_get (D := D) (cl := vwCl) (ci := 3) (v := .ref (ma 1)) (C := RX3) (T := TX3) (N := 18) hx hb hts in_X3 hown hK.1 hP 0 rfl rfl 0 (by decide) (hts _ q938) (fun _ h9 => h9) rfl dX3_shutOf_13 ?_
        refine lv_iload_n hx hb dX3_shutOf_16 rfl (lv_at hl 0 rfl) ?_
        obtain ⟨v2, ev2, hf⟩ := ob hf
        refine x_iald hx hb hK hP 1 1 ev2 rfl rfl dX3_shutOf_17 ?_
        refine lv_iconst (v := 1) hx hb dX3_shutOf_18 (by decide) ?_
        have hB27 : ∀ (x3_27 : Int32) (s0_27 : Int32) (s1_27 : Int32), fX3_shutOf_B27 st p1 (fX3_shutOf_L4 st p1 nn4) x3_27 s0_27 s1_27 = some r → ∀ ls : Array Slot, lv_has ls 4 [(0, .ref (ma 0)), (3, .int x3_27)] → gR p l e rmX3_shutOf s m [.ref (ma 0), .int p1] below meth c (vp_Si (fun x => x = r)) 27 ls [.int s0_27, .int s1_27] := by
          intro x3_27 s0_27 s1_27 hf ls hl
          unfold fX3_shutOf_B27 at hf
          refine lv_iadd hx hb dX3_shutOf_27 ?_
          obtain ⟨y4, ey4, hf⟩ := ob hf
          refine x_asI ey4 ?_
          refine lv_istore_n (lv' := [(2, .int y4), (0, .ref (ma 0)), (3, .int x3_27)]) hx hb dX3_shutOf_28 rfl hl (by decide) rfl (fun ls hl => ?_)
          refine lv_goto (tgt := 4) hx hb dX3_shutOf_29 (by decide) ?_
          exact ih4 y4 x3_27 hf ls (lv_sub hl [1, 0, 2] rfl)
        refine lv_icmp_ne (tgt := 26) hx hb dX3_shutOf_19 (by decide) (fun c3 => ?_) (fun c3 => ?_)
        · have hf := oi_f c3 hf
          refine lv_iconst (v := (-1)) hx hb dX3_shutOf_26 (by decide) ?_
          exact hB27 (x3_4 + 1) (-1 : Int32) x2_4 hf ls (lv_sub hl [1, 0] rfl)
        · have hf := oi_t c3 hf
          refine lv_iconst (v := 1) hx hb dX3_shutOf_22 (by decide) ?_
          refine lv_goto (tgt := 27) hx hb dX3_shutOf_23 (by decide) ?_
          exact hB27 (x3_4 + 1) (1 : Int32) x2_4 hf ls (lv_sub hl [1, 0] rfl)
  exact hL4 FU (1 : Int32) p1 hf ls (lv_sub hl [2, 1, 0] rfl)

abbrev rmX3_depthOf : Room := { frames := 1, cells := 0, slots := 0, locals := 23 }
theorem hdX3_depthOf : yX3_depthOf.cls ≠ "java/lang/invoke/MethodHandle" ∧ yX3_depthOf.cls ≠ "java/lang/invoke/VarHandle" ∧ (parseMethodDescriptor yX3_depthOf.desc).map (fun d => d.parameters.length) = some 1 := by decide +kernel
set_option maxHeartbeats 4000000 in
theorem mX3_depthOf (l : Launch) (D : va_G) (k : Nat → ClassId) (ma : Nat → Nat) (mi : Nat → Int32) (st : Nat → Int32) (rp : Nat → Int32) (tp : Nat → Int32) (cr : Nat → Int32) (cw : Nat → Int32) (ik : Nat → Int32) (ln : Nat → Int32) (lg : Nat → Int32) (ce : Nat → Int64) (p1 : Int32) (r : Int32) (hf : fX3_depthOf st p1 = some r) : CtI l yX3_depthOf cX3_depthOf 2 rmX3_depthOf [.ref (ma 0), .int p1] D k (wM k ma mi st rp tp cr cw ik ln lg ce) r := by
  refine rd_start (by decide +kernel) (Nat.le_of_ble_eq_true rfl) ?_
  intro p e s m below meth c ls hx hb hr hlk hml hown hts hP hK hl
  have hl : lv_has ls 2 [(0, .ref (ma 0)), (1, .int p1)] := hl
  have hown : s.vm.findClass RX3 = some m.cls := hown
  unfold fX3_depthOf at hf
  refine lv_aload_n hx hb dX3_depthOf_0 rfl (lv_at hl 0 rfl) ?_
  refine lv_aload_n hx hb dX3_depthOf_1 rfl (lv_at hl 0 rfl) ?_
  refine lv_iload_n hx hb dX3_depthOf_2 rfl (lv_at hl 1 rfl) ?_
  obtain ⟨v1, ev1, hf⟩ := ob hf
  refine rd_callV (As := [.int p1]) (rest := [.ref (ma 0)]) ⟨hx, hb, hml, hown, hts⟩ (mX3_openOf l D k ma mi st rp tp cr cw ik ln lg ce p1 _ ev1) (cwV 1 hts (lw_V q1115 q1117 qs67 q94 q1118) rfl rfl rfl ⟨rfl, hdX3_openOf⟩ ⟨Nat.le_of_ble_eq_true rfl, Nat.le_of_ble_eq_true rfl⟩) hK hP [0, 1, 2, 3, 4, 5, 6, 7, 8, 9] rfl 0 3 rfl rfl rfl hl.1 rfl (Nat.le_of_ble_eq_true rfl) dX3_depthOf_3 ⟨Nat.le_of_ble_eq_true rfl, Nat.le_of_ble_eq_true rfl⟩ ?_
  obtain ⟨v3, ev3, hf⟩ := ob hf
  refine rd_callV (As := [.int v1]) (rest := []) ⟨hx, hb, hml, hown, hts⟩ (mX3_excessAt l D k ma mi st rp tp cr cw ik ln lg ce v1 _ ev3) (cwV 1 hts (lw_V q1044 q1046 qs60 q94 q1047) rfl rfl rfl ⟨rfl, hdX3_excessAt⟩ ⟨Nat.le_of_ble_eq_true rfl, Nat.le_of_ble_eq_true rfl⟩) hK hP [0, 1, 2, 3, 4, 5, 6, 7, 8, 9] rfl 0 3 rfl rfl rfl hl.1 rfl (Nat.le_of_ble_eq_true rfl) dX3_depthOf_6 ⟨Nat.le_of_ble_eq_true rfl, Nat.le_of_ble_eq_true rfl⟩ ?_
  exact rd_iret hx hb hr hlk (Option.some.inj hf) dX3_depthOf_9

abbrev rmX3_isPair : Room := { frames := 1, cells := 0, slots := 0, locals := 20 }
theorem hdX3_isPair : yX3_isPair.cls ≠ "java/lang/invoke/MethodHandle" ∧ yX3_isPair.cls ≠ "java/lang/invoke/VarHandle" ∧ (parseMethodDescriptor yX3_isPair.desc).map (fun d => d.parameters.length) = some 1 := by decide +kernel
set_option maxHeartbeats 4000000 in
theorem mX3_isPair (l : Launch) (D : va_G) (k : Nat → ClassId) (ma : Nat → Nat) (mi : Nat → Int32) (st : Nat → Int32) (rp : Nat → Int32) (tp : Nat → Int32) (cr : Nat → Int32) (cw : Nat → Int32) (ik : Nat → Int32) (ln : Nat → Int32) (lg : Nat → Int32) (ce : Nat → Int64) (p1 : Int32) (r : Int32) (hf : fX3_isPair st p1 = some r) : CtZ l yX3_isPair cX3_isPair 2 rmX3_isPair [.ref (ma 0), .int p1] D k (wM k ma mi st rp tp cr cw ik ln lg ce) r := by
  refine rd_start (by decide +kernel) (Nat.le_of_ble_eq_true rfl) ?_
  intro p e s m below meth c ls hx hb hr hlk hml hown hts hP hK hl
  have hl : lv_has ls 2 [(0, .ref (ma 0)), (1, .int p1)] := hl
  have hown : s.vm.findClass RX3 = some m.cls := hown
  unfold fX3_isPair at hf
  refine lv_iload_n hx hb dX3_isPair_0 rfl (lv_at hl 1 rfl) ?_
  refine lv_iconst (v := 1) hx hb dX3_isPair_1 (by decide) ?_
  refine lv_iadd hx hb dX3_isPair_2 ?_
  refine lv_aload_n hx hb dX3_isPair_3 rfl (lv_at hl 0 rfl) ?_
  obtain ⟨v1, ev1, hf⟩ := ob hf
  refine rd_callV (As := []) (rest := [.int (p1 + (1 : Int32))]) ⟨hx, hb, hml, hown, hts⟩ (mX3_places l D k ma mi st rp tp cr cw ik ln lg ce  _ ev1) (cwV 0 hts (lw_V q1036 q1038 qs58 q94 q1039) rfl rfl rfl ⟨rfl, hdX3_places⟩ ⟨Nat.le_of_ble_eq_true rfl, Nat.le_of_ble_eq_true rfl⟩) hK hP [0, 1, 2, 3, 4, 5, 6, 7, 8, 9] rfl 0 3 rfl rfl rfl hl.1 rfl (Nat.le_of_ble_eq_true rfl) dX3_isPair_4 ⟨Nat.le_of_ble_eq_true rfl, Nat.le_of_ble_eq_true rfl⟩ ?_
  refine lv_icmp_ge (tgt := 35) hx hb dX3_isPair_7 (by decide) (fun c3 => ?_) (fun c3 => ?_)
  · have hf := oi_t c3 hf
    refine lv_iconst (v := 0) hx hb dX3_isPair_35 (by decide) ?_
    exact rd_zret hx hb hr hlk (Or.inl rfl) (Option.some.inj hf) dX3_isPair_36
  · have hf := oi_f c3 hf
    refine lv_aload_n hx hb dX3_isPair_10 rfl (lv_at hl 0 rfl) ?_
    refine va_get (D := D) (cl := vwCl) (ci := 3) (v := .ref (ma 1)) (C := RX3) (T := TX3) (N := 18) hx hb hts in_X3 hown hK.1 hP 0 rfl rfl 0 (by decide) (hts _ q938) (fun _ h9 => h9) rfl dX3_isPair_11 ?_
    refine lv_iload_n hx hb dX3_isPair_14 rfl (lv_at hl 1 rfl) ?_
    obtain ⟨v4, ev4, hf⟩ := ob hf
    refine x_iald hx hb hK hP 1 1 ev4 rfl rfl dX3_isPair_15 ?_
    refine lv_iconst (v := 1) hx hb dX3_isPair_16 (by decide) ?_
    refine lv_icmp_ne (tgt := 35) hx hb dX3_isPair_17 (by decide) (fun c5 => ?_) (fun c5 => ?_)
    · have hf := oi_f c5 hf
      refine lv_iconst (v := 0) hx hb dX3_isPair_35 (by decide) ?_
      exact rd_zret hx hb hr hlk (Or.inl rfl) (Option.some.inj hf) dX3_isPair_36
    · have hf := oi_t c5 hf
      refine lv_aload_n hx hb dX3_isPair_20 rfl (lv_at hl 0 rfl) ?_
      refine va_get (D := D) (cl := vwCl) (ci := 3) (v := .ref (ma 1)) (C := RX3) (T := TX3) (N := 18) hx hb hts in_X3 hown hK.1 hP 0 rfl rfl 0 (by decide) (hts _ q938) (fun _ h9 => h9) rfl dX3_isPair_21 ?_
      refine lv_iload_n hx hb dX3_isPair_24 rfl (lv_at hl 1 rfl) ?_
      refine lv_iconst (v := 1) hx hb dX3_isPair_25 (by decide) ?_
      refine lv_iadd hx hb dX3_isPair_26 ?_
      obtain ⟨v6, ev6, hf⟩ := ob hf
      refine x_iald hx hb hK hP 1 1 ev6 rfl rfl dX3_isPair_27 ?_
      refine lv_if_ne (tgt := 35) hx hb dX3_isPair_28 (by decide) (fun c7 => ?_) (fun c7 => ?_)
      · have hf := oi_f c7 hf
        refine lv_iconst (v := 0) hx hb dX3_isPair_35 (by decide) ?_
        exact rd_zret hx hb hr hlk (Or.inl rfl) (Option.some.inj hf) dX3_isPair_36
      · have hf := oi_t c7 hf
        refine lv_iconst (v := 1) hx hb dX3_isPair_31 (by decide) ?_
        refine lv_goto (tgt := 36) hx hb dX3_isPair_32 (by decide) ?_
        exact rd_zret hx hb hr hlk (Or.inr rfl) (Option.some.inj hf) dX3_isPair_36

abbrev rmX3_isSort : Room := { frames := 2, cells := 0, slots := 0, locals := 41 }
theorem hdX3_isSort : yX3_isSort.cls ≠ "java/lang/invoke/MethodHandle" ∧ yX3_isSort.cls ≠ "java/lang/invoke/VarHandle" ∧ (parseMethodDescriptor yX3_isSort.desc).map (fun d => d.parameters.length) = some 2 := by decide +kernel
set_option maxHeartbeats 4000000 in
theorem mX3_isSort (l : Launch) (D : va_G) (k : Nat → ClassId) (ma : Nat → Nat) (mi : Nat → Int32) (st : Nat → Int32) (rp : Nat → Int32) (tp : Nat → Int32) (cr : Nat → Int32) (cw : Nat → Int32) (ik : Nat → Int32) (ln : Nat → Int32) (lg : Nat → Int32) (ce : Nat → Int64) (p1 : Int32) (p2 : Int32) (r : Int32) (hf : fX3_isSort st p1 p2 = some r) : CtZ l yX3_isSort cX3_isSort 3 rmX3_isSort [.ref (ma 0), .int p1, .int p2] D k (wM k ma mi st rp tp cr cw ik ln lg ce) r := by
  refine rd_start (by decide +kernel) (Nat.le_of_ble_eq_true rfl) ?_
  intro p e s m below meth c ls hx hb hr hlk hml hown hts hP hK hl
  have hl : lv_has ls 3 [(0, .ref (ma 0)), (1, .int p1), (2, .int p2)] := hl
  have hown : s.vm.findClass RX3 = some m.cls := hown
  unfold fX3_isSort at hf
  refine lv_iload_n hx hb dX3_isSort_0 rfl (lv_at hl 2 rfl) ?_
  refine lv_iconst (v := 2) hx hb dX3_isSort_1 (by decide) ?_
  refine lv_icmp_ne (tgt := 13) hx hb dX3_isSort_2 (by decide) (fun c1 => ?_) (fun c1 => ?_)
  · have hf := oi_f c1 hf
    refine lv_aload_n hx hb dX3_isSort_13 rfl (lv_at hl 0 rfl) ?_
    refine va_get (D := D) (cl := vwCl) (ci := 3) (v := .ref (ma 1)) (C := RX3) (T := TX3) (N := 18) hx hb hts in_X3 hown hK.1 hP 0 rfl rfl 0 (by decide) (hts _ q938) (fun _ h9 => h9) rfl dX3_isSort_14 ?_
    refine lv_iload_n hx hb dX3_isSort_17 rfl (lv_at hl 1 rfl) ?_
    obtain ⟨v2, ev2, hf⟩ := ob hf
    refine x_iald hx hb hK hP 1 1 ev2 rfl rfl dX3_isSort_18 ?_
    refine lv_iconst (v := 1) hx hb dX3_isSort_19 (by decide) ?_
    refine lv_iload_n hx hb dX3_isSort_20 rfl (lv_at hl 2 rfl) ?_
    refine lv_isub hx hb dX3_isSort_21 ?_
    refine lv_icmp_ne (tgt := 29) hx hb dX3_isSort_22 (by decide) (fun c3 => ?_) (fun c3 => ?_)
    · have hf := oi_f c3 hf
      refine lv_iconst (v := 0) hx hb dX3_isSort_29 (by decide) ?_
      exact rd_zret hx hb hr hlk (Or.inl rfl) (Option.some.inj hf) dX3_isSort_30
    · have hf := oi_t c3 hf
      refine lv_iconst (v := 1) hx hb dX3_isSort_25 (by decide) ?_
      refine lv_goto (tgt := 30) hx hb dX3_isSort_26 (by decide) ?_
      exact rd_zret hx hb hr hlk (Or.inr rfl) (Option.some.inj hf) dX3_isSort_30
  · have hf := oi_t c1 hf
    refine lv_aload_n hx hb dX3_isSort_5 rfl (lv_at hl 0 rfl) ?_
    refine lv_iload_n hx hb dX3_isSort_6 rfl (lv_at hl 1 rfl) ?_
    obtain ⟨v4, ev4, hf⟩ := ob hf
    refine rd_callVZ (As := [.int p1]) (rest := []) ⟨hx, hb, hml, hown, hts⟩ (mX3_isPair l D k ma mi st rp tp cr cw ik ln lg ce p1 _ ev4) (cwV 1 hts (lw_V q1040 q1042 qs59 q94 q1043) rfl rfl rfl ⟨rfl, hdX3_isPair⟩ ⟨Nat.le_of_ble_eq_true rfl, Nat.le_of_ble_eq_true rfl⟩) hK hP [0, 1, 2, 3, 4, 5, 6, 7, 8, 9] rfl 0 3 rfl rfl rfl hl.1 rfl (Nat.le_of_ble_eq_true rfl) dX3_isSort_7 ⟨Nat.le_of_ble_eq_true rfl, Nat.le_of_ble_eq_true rfl⟩ (fun zv4 => ?_)
    refine lv_goto (tgt := 30) hx hb dX3_isSort_10 (by decide) ?_
    exact rd_zret hx hb hr hlk zv4 (Option.some.inj hf) dX3_isSort_30

abbrev rmX3_size : Room := { frames := 2, cells := 0, slots := 0, locals := 41 }
theorem hdX3_size : yX3_size.cls ≠ "java/lang/invoke/MethodHandle" ∧ yX3_size.cls ≠ "java/lang/invoke/VarHandle" ∧ (parseMethodDescriptor yX3_size.desc).map (fun d => d.parameters.length) = some 1 := by decide +kernel
set_option maxHeartbeats 4000000 in
theorem mX3_size (l : Launch) (D : va_G) (k : Nat → ClassId) (ma : Nat → Nat) (mi : Nat → Int32) (st : Nat → Int32) (rp : Nat → Int32) (tp : Nat → Int32) (cr : Nat → Int32) (cw : Nat → Int32) (ik : Nat → Int32) (ln : Nat → Int32) (lg : Nat → Int32) (ce : Nat → Int64) (p1 : Int32) (r : Int32) (hf : fX3_size st p1 = some r) : CtI l yX3_size cX3_size 5 rmX3_size [.ref (ma 0), .int p1] D k (wM k ma mi st rp tp cr cw ik ln lg ce) r := by
  refine rd_start (by decide +kernel) (Nat.le_of_ble_eq_true rfl) ?_
  intro p e s m below meth c ls hx hb hr hlk hml hown hts hP hK hl
  have hl : lv_has ls 5 [(0, .ref (ma 0)), (1, .int p1)] := hl
  have hown : s.vm.findClass RX3 = some m.cls := hown
  unfold fX3_size at hf
  refine lv_iconst (v := 0) hx hb dX3_size_0 (by decide) ?_
  refine lv_istore_n (lv' := [(2, .int (0 : Int32)), (0, .ref (ma 0)), (1, .int p1)]) hx hb dX3_size_1 rfl hl (by decide) rfl (fun ls hl => ?_)
  refine lv_iconst (v := 0) hx hb dX3_size_2 (by decide) ?_
  refine lv_istore_n (lv' := [(3, .int (0 : Int32)), (2, .int (0 : Int32)), (0, .ref (ma 0)), (1, .int p1)]) hx hb dX3_size_3 rfl hl (by decide) rfl (fun ls hl => ?_)
  refine lv_iconst (v := 0) hx hb dX3_size_4 (by decide) ?_
  refine lv_istore (lv' := [(4, .int (0 : Int32)), (3, .int (0 : Int32)), (2, .int (0 : Int32)), (0, .ref (ma 0)), (1, .int p1)]) hx hb dX3_size_5 hl (by decide) rfl (fun ls hl => ?_)
  have hL7 : ∀ (nn : Nat) (x2_7 : Int32) (x3_7 : Int32) (x4_7 : Int32), fX3_size_L7 st p1 nn x2_7 x3_7 x4_7 = some r → ∀ ls : Array Slot, lv_has ls 5 [(0, .ref (ma 0)), (1, .int p1), (2, .int x2_7), (3, .int x3_7), (4, .int x4_7)] → gR p l e rmX3_size s m [.ref (ma 0), .int p1] below meth c (vp_Si (fun x => x = r)) 7 ls [] := by
    intro nn7
    induction nn7 with
    | zero =>
      intro x2_7 x3_7 x4_7 hf
      rw [fX3_size_L7] at hf; cases hf
    | succ nn7 ih7 =>
      intro x2_7 x3_7 x4_7 hf ls hl
      rw [fX3_size_L7] at hf
      refine lv_iload hx hb dX3_size_7 (lv_at hl 4 rfl) ?_
      refine lv_aload_n hx hb dX3_size_9 rfl (lv_at hl 0 rfl) ?_
      obtain ⟨v1, ev1, hf⟩ := ob hf
      refine rd_callV (As := []) (rest := [.int x4_7]) ⟨hx, hb, hml, hown, hts⟩ (mX3_places l D k ma mi st rp tp cr cw ik ln lg ce  _ ev1) (cwV 0 hts (lw_V q1036 q1038 qs58 q94 q1039) rfl rfl rfl ⟨rfl, hdX3_places⟩ ⟨Nat.le_of_ble_eq_true rfl, Nat.le_of_ble_eq_true rfl⟩) hK hP [0, 1, 2, 3, 4, 5, 6, 7, 8, 9] rfl 0 3 rfl rfl rfl hl.1 rfl (Nat.le_of_ble_eq_true rfl) dX3_size_10 ⟨Nat.le_of_ble_eq_true rfl, Nat.le_of_ble_eq_true rfl⟩ ?_
      refine lv_icmp_ge (tgt := 64) hx hb dX3_size_13 (by decide) (fun c3 => ?_) (fun c3 => ?_)
      · have hf := oi_t c3 hf
        refine lv_iload_n hx hb dX3_size_64 rfl (lv_at hl 1 rfl) ?_
        by_cases c4 : p1 = 0
        · have hf := oi_t c4 hf
          refine lv_tableIn (off := 35) (tgt := 100) hx hb dX3_size_65 (by rw [c4]; decide) (by rw [c4]; decide) (by rw [c4]; rfl) (by decide) ?_
          refine lv_aload_n hx hb dX3_size_100 rfl (lv_at hl 0 rfl) ?_
          obtain ⟨v5, ev5, hf⟩ := ob hf
          refine rd_callV (As := []) (rest := []) ⟨hx, hb, hml, hown, hts⟩ (mX3_many l D k ma mi st rp tp cr cw ik ln lg ce  _ ev5) (cwV 0 hts (lw_V q1048 q1050 qs61 q94 q1051) rfl rfl rfl ⟨rfl, hdX3_many⟩ ⟨Nat.le_of_ble_eq_true rfl, Nat.le_of_ble_eq_true rfl⟩) hK hP [0, 1, 2, 3, 4, 5, 6, 7, 8, 9] rfl 0 3 rfl rfl rfl hl.1 rfl (Nat.le_of_ble_eq_true rfl) dX3_size_101 ⟨Nat.le_of_ble_eq_true rfl, Nat.le_of_ble_eq_true rfl⟩ ?_
          exact rd_iret hx hb hr hlk (Option.some.inj hf) dX3_size_104
        have hf := oi_f c4 hf
        by_cases c7 : p1 = 1
        · have hf := oi_t c7 hf
          refine lv_tableIn (off := 40) (tgt := 105) hx hb dX3_size_65 (by rw [c7]; decide) (by rw [c7]; decide) (by rw [c7]; rfl) (by decide) ?_
          refine lv_iload_n hx hb dX3_size_105 rfl (lv_at hl 2 rfl) ?_
          exact rd_iret hx hb hr hlk (Option.some.inj hf) dX3_size_106
        have hf := oi_f c7 hf
        by_cases c8 : p1 = 2
        · have hf := oi_t c8 hf
          refine lv_tableIn (off := 42) (tgt := 107) hx hb dX3_size_65 (by rw [c8]; decide) (by rw [c8]; decide) (by rw [c8]; rfl) (by decide) ?_
          refine lv_aload_n hx hb dX3_size_107 rfl (lv_at hl 0 rfl) ?_
          obtain ⟨v9, ev9, hf⟩ := ob hf
          refine rd_callV (As := []) (rest := []) ⟨hx, hb, hml, hown, hts⟩ (mX3_many l D k ma mi st rp tp cr cw ik ln lg ce  _ ev9) (cwV 0 hts (lw_V q1048 q1050 qs61 q94 q1051) rfl rfl rfl ⟨rfl, hdX3_many⟩ ⟨Nat.le_of_ble_eq_true rfl, Nat.le_of_ble_eq_true rfl⟩) hK hP [0, 1, 2, 3, 4, 5, 6, 7, 8, 9] rfl 0 3 rfl rfl rfl hl.1 rfl (Nat.le_of_ble_eq_true rfl) dX3_size_108 ⟨Nat.le_of_ble_eq_true rfl, Nat.le_of_ble_eq_true rfl⟩ ?_
          refine lv_if_ne (tgt := 119) hx hb dX3_size_111 (by decide) (fun c11 => ?_) (fun c11 => ?_)
          · have hf := oi_f c11 hf
            refine lv_iload_n hx hb dX3_size_119 rfl (lv_at hl 3 rfl) ?_
            refine lv_iconst (v := 1) hx hb dX3_size_120 (by decide) ?_
            refine lv_isub hx hb dX3_size_121 ?_
            exact rd_iret hx hb hr hlk (Option.some.inj hf) dX3_size_122
          · have hf := oi_t c11 hf
            refine lv_bipush (v := (-4)) hx hb dX3_size_114 (by decide) ?_
            refine lv_goto (tgt := 122) hx hb dX3_size_116 (by decide) ?_
            exact rd_iret hx hb hr hlk (Option.some.inj hf) dX3_size_122
        have hf := oi_f c8 hf
        by_cases c12 : p1 = 3
        · have hf := oi_t c12 hf
          refine lv_tableIn (off := 58) (tgt := 123) hx hb dX3_size_65 (by rw [c12]; decide) (by rw [c12]; decide) (by rw [c12]; rfl) (by decide) ?_
          refine lv_aload_n hx hb dX3_size_123 rfl (lv_at hl 0 rfl) ?_
          obtain ⟨v13, ev13, hf⟩ := ob hf
          refine rd_callV (As := []) (rest := []) ⟨hx, hb, hml, hown, hts⟩ (mX3_places l D k ma mi st rp tp cr cw ik ln lg ce  _ ev13) (cwV 0 hts (lw_V q1036 q1038 qs58 q94 q1039) rfl rfl rfl ⟨rfl, hdX3_places⟩ ⟨Nat.le_of_ble_eq_true rfl, Nat.le_of_ble_eq_true rfl⟩) hK hP [0, 1, 2, 3, 4, 5, 6, 7, 8, 9] rfl 0 3 rfl rfl rfl hl.1 rfl (Nat.le_of_ble_eq_true rfl) dX3_size_124 ⟨Nat.le_of_ble_eq_true rfl, Nat.le_of_ble_eq_true rfl⟩ ?_
          exact rd_iret hx hb hr hlk (Option.some.inj hf) dX3_size_127
        have hf := oi_f c12 hf
        by_cases c15 : p1 = 4
        · have hf := oi_t c15 hf
          refine lv_tableIn (off := 63) (tgt := 128) hx hb dX3_size_65 (by rw [c15]; decide) (by rw [c15]; decide) (by rw [c15]; rfl) (by decide) ?_
          refine lv_aload_n hx hb dX3_size_128 rfl (lv_at hl 0 rfl) ?_
          obtain ⟨v16, ev16, hf⟩ := ob hf
          refine rd_callV (As := []) (rest := []) ⟨hx, hb, hml, hown, hts⟩ (mX3_places l D k ma mi st rp tp cr cw ik ln lg ce  _ ev16) (cwV 0 hts (lw_V q1036 q1038 qs58 q94 q1039) rfl rfl rfl ⟨rfl, hdX3_places⟩ ⟨Nat.le_of_ble_eq_true rfl, Nat.le_of_ble_eq_true rfl⟩) hK hP [0, 1, 2, 3, 4, 5, 6, 7, 8, 9] rfl 0 3 rfl rfl rfl hl.1 rfl (Nat.le_of_ble_eq_true rfl) dX3_size_129 ⟨Nat.le_of_ble_eq_true rfl, Nat.le_of_ble_eq_true rfl⟩ ?_
          refine lv_bipush (v := 16) hx hb dX3_size_132 (by decide) ?_
          refine lv_iadd hx hb dX3_size_134 ?_
          refine lv_iconst (v := 1) hx hb dX3_size_135 (by decide) ?_
          refine lv_isub hx hb dX3_size_136 ?_
          refine lv_bipush (v := 16) hx hb dX3_size_137 (by decide) ?_
          refine lv_idiv hx hb dX3_size_139 (by decide) ?_
          exact rd_iret hx hb hr hlk (Option.some.inj hf) dX3_size_140
        have hf := oi_f c15 hf
        refine lv_tableOut (tgt := 141) hx hb dX3_size_65 (tb_out5 c4 c7 c8 c12 c15) (by decide) ?_
        refine lv_iconst (v := (-1)) hx hb dX3_size_141 (by decide) ?_
        exact rd_iret hx hb hr hlk (Option.some.inj hf) dX3_size_142
      · have hf := oi_f c3 hf
        refine lv_iload_n hx hb dX3_size_16 rfl (lv_at hl 2 rfl) ?_
        refine lv_aload_n hx hb dX3_size_17 rfl (lv_at hl 0 rfl) ?_
        refine lv_iload hx hb dX3_size_18 (lv_at hl 4 rfl) ?_
        obtain ⟨v18, ev18, hf⟩ := ob hf
        refine rd_callVZ (As := [.int x4_7]) (rest := [.int x2_7]) ⟨hx, hb, hml, hown, hts⟩ (mX3_isPair l D k ma mi st rp tp cr cw ik ln lg ce x4_7 _ ev18) (cwV 1 hts (lw_V q1040 q1042 qs59 q94 q1043) rfl rfl rfl ⟨rfl, hdX3_isPair⟩ ⟨Nat.le_of_ble_eq_true rfl, Nat.le_of_ble_eq_true rfl⟩) hK hP [0, 1, 2, 3, 4, 5, 6, 7, 8, 9] rfl 0 3 rfl rfl rfl hl.1 rfl (Nat.le_of_ble_eq_true rfl) dX3_size_20 ⟨Nat.le_of_ble_eq_true rfl, Nat.le_of_ble_eq_true rfl⟩ (fun zv18 => ?_)
        have hB31 : ∀ (x3_31 : Int32) (x4_31 : Int32) (s0_31 : Int32) (s1_31 : Int32), fX3_size_B31 st p1 (fX3_size_L7 st p1 nn7) x3_31 x4_31 s0_31 s1_31 = some r → ∀ ls : Array Slot, lv_has ls 5 [(0, .ref (ma 0)), (1, .int p1), (3, .int x3_31), (4, .int x4_31)] → gR p l e rmX3_size s m [.ref (ma 0), .int p1] below meth c (vp_Si (fun x => x = r)) 31 ls [.int s0_31, .int s1_31] := by
          intro x3_31 x4_31 s0_31 s1_31 hf ls hl
          unfold fX3_size_B31 at hf
          refine lv_iadd hx hb dX3_size_31 ?_
          obtain ⟨y21, ey21, hf⟩ := ob hf
          refine x_asI ey21 ?_
          refine lv_istore_n (lv' := [(2, .int y21), (0, .ref (ma 0)), (1, .int p1), (3, .int x3_31), (4, .int x4_31)]) hx hb dX3_size_32 rfl hl (by decide) rfl (fun ls hl => ?_)
          refine lv_aload_n hx hb dX3_size_33 rfl (lv_at hl 1 rfl) ?_
          refine lv_iload hx hb dX3_size_34 (lv_at hl 4 rfl) ?_
          refine lv_iconst (v := 1) hx hb dX3_size_36 (by decide) ?_
          refine lv_iadd hx hb dX3_size_37 ?_
          obtain ⟨v22, ev22, hf⟩ := ob hf
          refine rd_callV (As := [.int (x4_31 + (1 : Int32))]) (rest := []) ⟨hx, hb, hml, hown, hts⟩ (mX3_excessAt l D k ma mi st rp tp cr cw ik ln lg ce (x4_31 + (1 : Int32)) _ ev22) (cwV 1 hts (lw_V q1044 q1046 qs60 q94 q1047) rfl rfl rfl ⟨rfl, hdX3_excessAt⟩ ⟨Nat.le_of_ble_eq_true rfl, Nat.le_of_ble_eq_true rfl⟩) hK hP [0, 1, 2, 3, 4, 5, 6, 7, 8, 9] rfl 0 3 rfl rfl rfl hl.1 rfl (Nat.le_of_ble_eq_true rfl) dX3_size_38 ⟨Nat.le_of_ble_eq_true rfl, Nat.le_of_ble_eq_true rfl⟩ ?_
          refine lv_iload_n hx hb dX3_size_41 rfl (lv_at hl 3 rfl) ?_
          have hB57 : ∀ (x2_57 : Int32) (x4_57 : Int32) (s0_57 : Int32), fX3_size_B57 st p1 (fX3_size_L7 st p1 nn7) x2_57 x4_57 s0_57 = some r → ∀ ls : Array Slot, lv_has ls 5 [(0, .ref (ma 0)), (1, .int p1), (2, .int x2_57), (4, .int x4_57)] → gR p l e rmX3_size s m [.ref (ma 0), .int p1] below meth c (vp_Si (fun x => x = r)) 57 ls [.int s0_57] := by
            intro x2_57 x4_57 s0_57 hf ls hl
            unfold fX3_size_B57 at hf
            refine lv_istore_n (lv' := [(3, .int s0_57), (0, .ref (ma 0)), (1, .int p1), (2, .int x2_57), (4, .int x4_57)]) hx hb dX3_size_57 rfl hl (by decide) rfl (fun ls hl => ?_)
            refine lv_iinc (v := (x4_57 + 1)) (lv' := [(4, .int (x4_57 + 1)), (3, .int s0_57), (0, .ref (ma 0)), (1, .int p1), (2, .int x2_57)]) hx hb dX3_size_58 hl (k := 4) rfl rfl (by decide) rfl (fun ls hl => ?_)
            refine lv_goto (tgt := 7) hx hb dX3_size_61 (by decide) ?_
            exact ih7 x2_57 s0_57 (x4_57 + 1) hf ls (lv_sub hl [2, 3, 4, 1, 0] rfl)
          refine lv_icmp_le (tgt := 56) hx hb dX3_size_42 (by decide) (fun c24 => ?_) (fun c24 => ?_)
          · have hf := oi_t c24 hf
            refine lv_iload_n hx hb dX3_size_56 rfl (lv_at hl 3 rfl) ?_
            exact hB57 y21 x4_31 x3_31 hf ls (lv_sub hl [1, 2, 0, 4] rfl)
          · have hf := oi_f c24 hf
            refine lv_aload_n hx hb dX3_size_45 rfl (lv_at hl 1 rfl) ?_
            refine lv_iload hx hb dX3_size_46 (lv_at hl 4 rfl) ?_
            refine lv_iconst (v := 1) hx hb dX3_size_48 (by decide) ?_
            refine lv_iadd hx hb dX3_size_49 ?_
            obtain ⟨v25, ev25, hf⟩ := ob hf
            refine rd_callV (As := [.int (x4_31 + (1 : Int32))]) (rest := []) ⟨hx, hb, hml, hown, hts⟩ (mX3_excessAt l D k ma mi st rp tp cr cw ik ln lg ce (x4_31 + (1 : Int32)) _ ev25) (cwV 1 hts (lw_V q1044 q1046 qs60 q94 q1047) rfl rfl rfl ⟨rfl, hdX3_excessAt⟩ ⟨Nat.le_of_ble_eq_true rfl, Nat.le_of_ble_eq_true rfl⟩) hK hP [0, 1, 2, 3, 4, 5, 6, 7, 8, 9] rfl 0 3 rfl rfl rfl hl.1 rfl (Nat.le_of_ble_eq_true rfl) dX3_size_50 ⟨Nat.le_of_ble_eq_true rfl, Nat.le_of_ble_eq_true rfl⟩ ?_
            refine lv_goto (tgt := 57) hx hb dX3_size_53 (by decide) ?_
            exact hB57 y21 x4_31 v25 hf ls (lv_sub hl [1, 2, 0, 4] rfl)
        refine lv_if_eq (tgt := 30) hx hb dX3_size_23 (by decide) (fun c20 => ?_) (fun c20 => ?_)
        · have hf := oi_t c20 hf
          refine lv_iconst (v := 0) hx hb dX3_size_30 (by decide) ?_
          exact hB31 x3_7 x4_7 (0 : Int32) x2_7 hf ls (lv_sub hl [0, 1, 3, 4] rfl)
        · have hf := oi_f c20 hf
          refine lv_iconst (v := 1) hx hb dX3_size_26 (by decide) ?_
          refine lv_goto (tgt := 31) hx hb dX3_size_27 (by decide) ?_
          exact hB31 x3_7 x4_7 (1 : Int32) x2_7 hf ls (lv_sub hl [0, 1, 3, 4] rfl)
  exact hL7 FU (0 : Int32) (0 : Int32) (0 : Int32) hf ls (lv_sub hl [3, 4, 2, 1, 0] rfl)

abbrev rmX3_bit : Room := { frames := 1, cells := 0, slots := 0, locals := 25 }
theorem hdX3_bit : yX3_bit.cls ≠ "java/lang/invoke/MethodHandle" ∧ yX3_bit.cls ≠ "java/lang/invoke/VarHandle" ∧ (parseMethodDescriptor yX3_bit.desc).map (fun d => d.parameters.length) = some 1 := by decide +kernel
set_option maxHeartbeats 4000000 in
theorem mX3_bit (l : Launch) (D : va_G) (k : Nat → ClassId) (ma : Nat → Nat) (mi : Nat → Int32) (st : Nat → Int32) (rp : Nat → Int32) (tp : Nat → Int32) (cr : Nat → Int32) (cw : Nat → Int32) (ik : Nat → Int32) (ln : Nat → Int32) (lg : Nat → Int32) (ce : Nat → Int64) (p1 : Int32) (r : Int32) (hf : fX3_bit st p1 = some r) : CtI l yX3_bit cX3_bit 2 rmX3_bit [.ref (ma 0), .int p1] D k (wM k ma mi st rp tp cr cw ik ln lg ce) r := by
  refine rd_start (by decide +kernel) (Nat.le_of_ble_eq_true rfl) ?_
  intro p e s m below meth c ls hx hb hr hlk hml hown hts hP hK hl
  have hl : lv_has ls 2 [(0, .ref (ma 0)), (1, .int p1)] := hl
  have hown : s.vm.findClass RX3 = some m.cls := hown
  unfold fX3_bit at hf
  refine lv_iload_n hx hb dX3_bit_0 rfl (lv_at hl 1 rfl) ?_
  refine lv_i2l hx hb dX3_bit_1 rfl ?_
  refine lv_lconst (v := 0) hx hb dX3_bit_2 (by decide) ?_
  refine lv_aload_n hx hb dX3_bit_3 rfl (lv_at hl 0 rfl) ?_
  obtain ⟨v1, ev1, hf⟩ := ob hf
  refine rd_callV (As := []) (rest := [.long (0 : Int64), .long ((p1).toInt64)]) ⟨hx, hb, hml, hown, hts⟩ (mX3_places l D k ma mi st rp tp cr cw ik ln lg ce  _ ev1) (cwV 0 hts (lw_V q1036 q1038 qs58 q94 q1039) rfl rfl rfl ⟨rfl, hdX3_places⟩ ⟨Nat.le_of_ble_eq_true rfl, Nat.le_of_ble_eq_true rfl⟩) hK hP [0, 1, 2, 3, 4, 5, 6, 7, 8, 9] rfl 0 3 rfl rfl rfl hl.1 rfl (Nat.le_of_ble_eq_true rfl) dX3_bit_4 ⟨Nat.le_of_ble_eq_true rfl, Nat.le_of_ble_eq_true rfl⟩ ?_
  refine lv_iconst (v := 1) hx hb dX3_bit_7 (by decide) ?_
  refine lv_isub hx hb dX3_bit_8 ?_
  refine lv_i2l hx hb dX3_bit_9 rfl ?_
  obtain ⟨v3, ev3, hf⟩ := ob hf
  refine rd_callSZ (As := [.long ((p1).toInt64), .long (0 : Int64), .long (((v1 - (1 : Int32))).toInt64)]) (rest := []) ⟨hx, hb, hml, hown, hts⟩ (mX3_in l D k   ((p1).toInt64) (0 : Int64) (((v1 - (1 : Int32))).toInt64) _ ev3) (va_cwS 3 hts (lw_S q999 q1000 q94 q1001) rfl rfl rfl hdX3_in ⟨Nat.le_of_ble_eq_true rfl, Nat.le_of_ble_eq_true rfl⟩) hK rfl hl.1 rfl (Nat.le_of_ble_eq_true rfl) dX3_bit_10 ⟨Nat.le_of_ble_eq_true rfl, Nat.le_of_ble_eq_true rfl⟩ (fun zv3 => ?_)
  refine lv_if_eq (tgt := 25) hx hb dX3_bit_13 (by decide) (fun c5 => ?_) (fun c5 => ?_)
  · have hf := oi_t c5 hf
    refine lv_iconst (v := (-1)) hx hb dX3_bit_25 (by decide) ?_
    exact rd_iret hx hb hr hlk (Option.some.inj hf) dX3_bit_26
  · have hf := oi_f c5 hf
    refine lv_aload_n hx hb dX3_bit_16 rfl (lv_at hl 0 rfl) ?_
    refine va_get (D := D) (cl := vwCl) (ci := 3) (v := .ref (ma 1)) (C := RX3) (T := TX3) (N := 18) hx hb hts in_X3 hown hK.1 hP 0 rfl rfl 0 (by decide) (hts _ q938) (fun _ h9 => h9) rfl dX3_bit_17 ?_
    refine lv_iload_n hx hb dX3_bit_20 rfl (lv_at hl 1 rfl) ?_
    obtain ⟨v6, ev6, hf⟩ := ob hf
    refine x_iald hx hb hK hP 1 1 ev6 rfl rfl dX3_bit_21 ?_
    refine lv_goto (tgt := 26) hx hb dX3_bit_22 (by decide) ?_
    exact rd_iret hx hb hr hlk (Option.some.inj hf) dX3_bit_26

abbrev rmX3_excess : Room := { frames := 2, cells := 0, slots := 0, locals := 46 }
theorem hdX3_excess : yX3_excess.cls ≠ "java/lang/invoke/MethodHandle" ∧ yX3_excess.cls ≠ "java/lang/invoke/VarHandle" ∧ (parseMethodDescriptor yX3_excess.desc).map (fun d => d.parameters.length) = some 1 := by decide +kernel
set_option maxHeartbeats 4000000 in
theorem mX3_excess (l : Launch) (D : va_G) (k : Nat → ClassId) (ma : Nat → Nat) (mi : Nat → Int32) (st : Nat → Int32) (rp : Nat → Int32) (tp : Nat → Int32) (cr : Nat → Int32) (cw : Nat → Int32) (ik : Nat → Int32) (ln : Nat → Int32) (lg : Nat → Int32) (ce : Nat → Int64) (p1 : Int32) (r : Int32) (hf : fX3_excess st p1 = some r) : CtI l yX3_excess cX3_excess 2 rmX3_excess [.ref (ma 0), .int p1] D k (wM k ma mi st rp tp cr cw ik ln lg ce) r := by
  refine rd_start (by decide +kernel) (Nat.le_of_ble_eq_true rfl) ?_
  intro p e s m below meth c ls hx hb hr hlk hml hown hts hP hK hl
  have hl : lv_has ls 2 [(0, .ref (ma 0)), (1, .int p1)] := hl
  have hown : s.vm.findClass RX3 = some m.cls := hown
  unfold fX3_excess at hf
  refine lv_aload_n hx hb dX3_excess_0 rfl (lv_at hl 0 rfl) ?_
  refine lv_iload_n hx hb dX3_excess_1 rfl (lv_at hl 1 rfl) ?_
  obtain ⟨v1, ev1, hf⟩ := ob hf
  refine rd_callVZ (As := [.int p1]) (rest := []) ⟨hx, hb, hml, hown, hts⟩ (mX3_isMark l D k ma mi st rp tp cr cw ik ln lg ce p1 _ ev1) (cwV 1 hts (lw_V q1060 q1062 qs62 q94 q1063) rfl rfl rfl ⟨rfl, hdX3_isMark⟩ ⟨Nat.le_of_ble_eq_true rfl, Nat.le_of_ble_eq_true rfl⟩) hK hP [0, 1, 2, 3, 4, 5, 6, 7, 8, 9] rfl 0 3 rfl rfl rfl hl.1 rfl (Nat.le_of_ble_eq_true rfl) dX3_excess_2 ⟨Nat.le_of_ble_eq_true rfl, Nat.le_of_ble_eq_true rfl⟩ (fun zv1 => ?_)
  refine lv_if_eq (tgt := 16) hx hb dX3_excess_5 (by decide) (fun c3 => ?_) (fun c3 => ?_)
  · have hf := oi_t c3 hf
    refine lv_iconst (v := (-1)) hx hb dX3_excess_16 (by decide) ?_
    exact rd_iret hx hb hr hlk (Option.some.inj hf) dX3_excess_17
  · have hf := oi_f c3 hf
    refine lv_aload_n hx hb dX3_excess_8 rfl (lv_at hl 0 rfl) ?_
    refine lv_iload_n hx hb dX3_excess_9 rfl (lv_at hl 1 rfl) ?_
    obtain ⟨v4, ev4, hf⟩ := ob hf
    refine rd_callV (As := [.int p1]) (rest := []) ⟨hx, hb, hml, hown, hts⟩ (mX3_excessAt l D k ma mi st rp tp cr cw ik ln lg ce p1 _ ev4) (cwV 1 hts (lw_V q1044 q1046 qs60 q94 q1047) rfl rfl rfl ⟨rfl, hdX3_excessAt⟩ ⟨Nat.le_of_ble_eq_true rfl, Nat.le_of_ble_eq_true rfl⟩) hK hP [0, 1, 2, 3, 4, 5, 6, 7, 8, 9] rfl 0 3 rfl rfl rfl hl.1 rfl (Nat.le_of_ble_eq_true rfl) dX3_excess_10 ⟨Nat.le_of_ble_eq_true rfl, Nat.le_of_ble_eq_true rfl⟩ ?_
    refine lv_goto (tgt := 17) hx hb dX3_excess_13 (by decide) ?_
    exact rd_iret hx hb hr hlk (Option.some.inj hf) dX3_excess_17

abbrev rmX3_rank : Room := { frames := 3, cells := 0, slots := 0, locals := 63 }
theorem hdX3_rank : yX3_rank.cls ≠ "java/lang/invoke/MethodHandle" ∧ yX3_rank.cls ≠ "java/lang/invoke/VarHandle" ∧ (parseMethodDescriptor yX3_rank.desc).map (fun d => d.parameters.length) = some 2 := by decide +kernel
set_option maxHeartbeats 4000000 in
theorem mX3_rank (l : Launch) (D : va_G) (k : Nat → ClassId) (ma : Nat → Nat) (mi : Nat → Int32) (st : Nat → Int32) (rp : Nat → Int32) (tp : Nat → Int32) (cr : Nat → Int32) (cw : Nat → Int32) (ik : Nat → Int32) (ln : Nat → Int32) (lg : Nat → Int32) (ce : Nat → Int64) (p1 : Int32) (p2 : Int32) (r : Int32) (hf : fX3_rank st p1 p2 = some r) : CtI l yX3_rank cX3_rank 5 rmX3_rank [.ref (ma 0), .int p1, .int p2] D k (wM k ma mi st rp tp cr cw ik ln lg ce) r := by
  refine rd_start (by decide +kernel) (Nat.le_of_ble_eq_true rfl) ?_
  intro p e s m below meth c ls hx hb hr hlk hml hown hts hP hK hl
  have hl : lv_has ls 5 [(0, .ref (ma 0)), (1, .int p1), (2, .int p2)] := hl
  have hown : s.vm.findClass RX3 = some m.cls := hown
  unfold fX3_rank at hf
  refine lv_aload_n hx hb dX3_rank_0 rfl (lv_at hl 0 rfl) ?_
  refine lv_iload_n hx hb dX3_rank_1 rfl (lv_at hl 1 rfl) ?_
  obtain ⟨v1, ev1, hf⟩ := ob hf
  refine rd_callVZ (As := [.int p1]) (rest := []) ⟨hx, hb, hml, hown, hts⟩ (mX3_isMark l D k ma mi st rp tp cr cw ik ln lg ce p1 _ ev1) (cwV 1 hts (lw_V q1060 q1062 qs62 q94 q1063) rfl rfl rfl ⟨rfl, hdX3_isMark⟩ ⟨Nat.le_of_ble_eq_true rfl, Nat.le_of_ble_eq_true rfl⟩) hK hP [0, 1, 2, 3, 4, 5, 6, 7, 8, 9] rfl 0 3 rfl rfl rfl hl.1 rfl (Nat.le_of_ble_eq_true rfl) dX3_rank_2 ⟨Nat.le_of_ble_eq_true rfl, Nat.le_of_ble_eq_true rfl⟩ (fun zv1 => ?_)
  refine lv_if_eq (tgt := 20) hx hb dX3_rank_5 (by decide) (fun c3 => ?_) (fun c3 => ?_)
  · have hf := oi_t c3 hf
    refine lv_iconst (v := (-1)) hx hb dX3_rank_20 (by decide) ?_
    exact rd_iret hx hb hr hlk (Option.some.inj hf) dX3_rank_21
  · have hf := oi_f c3 hf
    refine lv_iload_n hx hb dX3_rank_8 rfl (lv_at hl 2 rfl) ?_
    refine lv_i2l hx hb dX3_rank_9 rfl ?_
    refine lv_lconst (v := 0) hx hb dX3_rank_10 (by decide) ?_
    refine lv_ldc2 hx hb hown (hts _ q1068) dX3_rank_11 ?_
    obtain ⟨v4, ev4, hf⟩ := ob hf
    refine rd_callSZ (As := [.long ((p2).toInt64), .long (0 : Int64), .long (2 : Int64)]) (rest := []) ⟨hx, hb, hml, hown, hts⟩ (mX3_in l D k   ((p2).toInt64) (0 : Int64) (2 : Int64) _ ev4) (va_cwS 3 hts (lw_S q999 q1000 q94 q1001) rfl rfl rfl hdX3_in ⟨Nat.le_of_ble_eq_true rfl, Nat.le_of_ble_eq_true rfl⟩) hK rfl hl.1 rfl (Nat.le_of_ble_eq_true rfl) dX3_rank_14 ⟨Nat.le_of_ble_eq_true rfl, Nat.le_of_ble_eq_true rfl⟩ (fun zv4 => ?_)
    refine lv_if_ne (tgt := 22) hx hb dX3_rank_17 (by decide) (fun c6 => ?_) (fun c6 => ?_)
    · have hf := oi_f c6 hf
      refine lv_iconst (v := 0) hx hb dX3_rank_22 (by decide) ?_
      refine lv_istore_n (lv' := [(3, .int (0 : Int32)), (0, .ref (ma 0)), (1, .int p1), (2, .int p2)]) hx hb dX3_rank_23 rfl hl (by decide) rfl (fun ls hl => ?_)
      refine lv_iconst (v := 0) hx hb dX3_rank_24 (by decide) ?_
      refine lv_istore (lv' := [(4, .int (0 : Int32)), (3, .int (0 : Int32)), (0, .ref (ma 0)), (1, .int p1), (2, .int p2)]) hx hb dX3_rank_25 hl (by decide) rfl (fun ls hl => ?_)
      have hL27 : ∀ (nn : Nat) (x3_27 : Int32) (x4_27 : Int32), fX3_rank_L27 st p1 p2 nn x3_27 x4_27 = some r → ∀ ls : Array Slot, lv_has ls 5 [(0, .ref (ma 0)), (1, .int p1), (2, .int p2), (3, .int x3_27), (4, .int x4_27)] → gR p l e rmX3_rank s m [.ref (ma 0), .int p1, .int p2] below meth c (vp_Si (fun x => x = r)) 27 ls [] := by
        intro nn27
        induction nn27 with
        | zero =>
          intro x3_27 x4_27 hf
          rw [fX3_rank_L27] at hf; cases hf
        | succ nn27 ih27 =>
          intro x3_27 x4_27 hf ls hl
          rw [fX3_rank_L27] at hf
          refine lv_iload hx hb dX3_rank_27 (lv_at hl 4 rfl) ?_
          refine lv_iload_n hx hb dX3_rank_29 rfl (lv_at hl 1 rfl) ?_
          refine lv_icmp_ge (tgt := 70) hx hb dX3_rank_30 (by decide) (fun c7 => ?_) (fun c7 => ?_)
          · have hf := oi_t c7 hf
            refine lv_iload_n hx hb dX3_rank_70 rfl (lv_at hl 3 rfl) ?_
            exact rd_iret hx hb hr hlk (Option.some.inj hf) dX3_rank_71
          · have hf := oi_f c7 hf
            refine lv_iload_n hx hb dX3_rank_33 rfl (lv_at hl 3 rfl) ?_
            refine lv_aload_n hx hb dX3_rank_34 rfl (lv_at hl 0 rfl) ?_
            refine lv_iload hx hb dX3_rank_35 (lv_at hl 4 rfl) ?_
            refine lv_iload_n hx hb dX3_rank_37 rfl (lv_at hl 2 rfl) ?_
            obtain ⟨v8, ev8, hf⟩ := ob hf
            refine rd_callVZ (As := [.int x4_27, .int p2]) (rest := [.int x3_27]) ⟨hx, hb, hml, hown, hts⟩ (mX3_isSort l D k ma mi st rp tp cr cw ik ln lg ce x4_27 p2 _ ev8) (cwV 2 hts (lw_V q1069 q1071 qs63 q94 q1072) rfl rfl rfl ⟨rfl, hdX3_isSort⟩ ⟨Nat.le_of_ble_eq_true rfl, Nat.le_of_ble_eq_true rfl⟩) hK hP [0, 1, 2, 3, 4, 5, 6, 7, 8, 9] rfl 0 3 rfl rfl rfl hl.1 rfl (Nat.le_of_ble_eq_true rfl) dX3_rank_38 ⟨Nat.le_of_ble_eq_true rfl, Nat.le_of_ble_eq_true rfl⟩ (fun zv8 => ?_)
            have hB62 : ∀ (x4_62 : Int32) (s0_62 : Int32) (s1_62 : Int32), fX3_rank_B62 st p1 p2 (fX3_rank_L27 st p1 p2 nn27) x4_62 s0_62 s1_62 = some r → ∀ ls : Array Slot, lv_has ls 5 [(0, .ref (ma 0)), (1, .int p1), (2, .int p2), (4, .int x4_62)] → gR p l e rmX3_rank s m [.ref (ma 0), .int p1, .int p2] below meth c (vp_Si (fun x => x = r)) 62 ls [.int s0_62, .int s1_62] := by
              intro x4_62 s0_62 s1_62 hf ls hl
              unfold fX3_rank_B62 at hf
              refine lv_iadd hx hb dX3_rank_62 ?_
              obtain ⟨y11, ey11, hf⟩ := ob hf
              refine x_asI ey11 ?_
              refine lv_istore_n (lv' := [(3, .int y11), (0, .ref (ma 0)), (1, .int p1), (2, .int p2), (4, .int x4_62)]) hx hb dX3_rank_63 rfl hl (by decide) rfl (fun ls hl => ?_)
              refine lv_iinc (v := (x4_62 + 1)) (lv' := [(4, .int (x4_62 + 1)), (3, .int y11), (0, .ref (ma 0)), (1, .int p1), (2, .int p2)]) hx hb dX3_rank_64 hl (k := 4) rfl rfl (by decide) rfl (fun ls hl => ?_)
              refine lv_goto (tgt := 27) hx hb dX3_rank_67 (by decide) ?_
              exact ih27 y11 (x4_62 + 1) hf ls (lv_sub hl [2, 3, 4, 1, 0] rfl)
            have hB61 : ∀ (x4_61 : Int32) (s0_61 : Int32), fX3_rank_B61 st p1 p2 (fX3_rank_L27 st p1 p2 nn27) x4_61 s0_61 = some r → ∀ ls : Array Slot, lv_has ls 5 [(0, .ref (ma 0)), (1, .int p1), (2, .int p2), (4, .int x4_61)] → gR p l e rmX3_rank s m [.ref (ma 0), .int p1, .int p2] below meth c (vp_Si (fun x => x = r)) 61 ls [.int s0_61] := by
              intro x4_61 s0_61 hf ls hl
              unfold fX3_rank_B61 at hf
              refine lv_iconst (v := 0) hx hb dX3_rank_61 (by decide) ?_
              exact hB62 x4_61 (0 : Int32) s0_61 hf ls (lv_sub hl [0, 1, 2, 3] rfl)
            refine lv_if_eq (tgt := 61) hx hb dX3_rank_41 (by decide) (fun c10 => ?_) (fun c10 => ?_)
            · have hf := oi_t c10 hf
              exact hB61 x4_27 x3_27 hf ls (lv_sub hl [0, 1, 2, 4] rfl)
            · have hf := oi_f c10 hf
              refine lv_iload_n hx hb dX3_rank_44 rfl (lv_at hl 2 rfl) ?_
              refine lv_iconst (v := 2) hx hb dX3_rank_45 (by decide) ?_
              have hB57 : ∀ (x4_57 : Int32) (s0_57 : Int32), fX3_rank_B57 st p1 p2 (fX3_rank_L27 st p1 p2 nn27) x4_57 s0_57 = some r → ∀ ls : Array Slot, lv_has ls 5 [(0, .ref (ma 0)), (1, .int p1), (2, .int p2), (4, .int x4_57)] → gR p l e rmX3_rank s m [.ref (ma 0), .int p1, .int p2] below meth c (vp_Si (fun x => x = r)) 57 ls [.int s0_57] := by
                intro x4_57 s0_57 hf ls hl
                unfold fX3_rank_B57 at hf
                refine lv_iconst (v := 1) hx hb dX3_rank_57 (by decide) ?_
                refine lv_goto (tgt := 62) hx hb dX3_rank_58 (by decide) ?_
                exact hB62 x4_57 (1 : Int32) s0_57 hf ls (lv_sub hl [0, 1, 2, 3] rfl)
              refine lv_icmp_lt (tgt := 57) hx hb dX3_rank_46 (by decide) (fun c12 => ?_) (fun c12 => ?_)
              · have hf := oi_t c12 hf
                exact hB57 x4_27 x3_27 hf ls (lv_sub hl [0, 1, 2, 4] rfl)
              · have hf := oi_f c12 hf
                refine lv_iload hx hb dX3_rank_49 (lv_at hl 4 rfl) ?_
                refine lv_iconst (v := 1) hx hb dX3_rank_51 (by decide) ?_
                refine lv_iadd hx hb dX3_rank_52 ?_
                refine lv_iload_n hx hb dX3_rank_53 rfl (lv_at hl 1 rfl) ?_
                refine lv_icmp_ge (tgt := 61) hx hb dX3_rank_54 (by decide) (fun c13 => ?_) (fun c13 => ?_)
                · have hf := oi_t c13 hf
                  exact hB61 x4_27 x3_27 hf ls (lv_sub hl [0, 1, 2, 4] rfl)
                · have hf := oi_f c13 hf
                  exact hB57 x4_27 x3_27 hf ls (lv_sub hl [0, 1, 2, 4] rfl)
      exact hL27 FU (0 : Int32) (0 : Int32) hf ls (lv_sub hl [2, 3, 4, 1, 0] rfl)
    · have hf := oi_t c6 hf
      refine lv_iconst (v := (-1)) hx hb dX3_rank_20 (by decide) ?_
      exact rd_iret hx hb hr hlk (Option.some.inj hf) dX3_rank_21

abbrev rmX3_select : Room := { frames := 3, cells := 0, slots := 0, locals := 63 }
theorem hdX3_select : yX3_select.cls ≠ "java/lang/invoke/MethodHandle" ∧ yX3_select.cls ≠ "java/lang/invoke/VarHandle" ∧ (parseMethodDescriptor yX3_select.desc).map (fun d => d.parameters.length) = some 2 := by decide +kernel
set_option maxHeartbeats 4000000 in
theorem mX3_select (l : Launch) (D : va_G) (k : Nat → ClassId) (ma : Nat → Nat) (mi : Nat → Int32) (st : Nat → Int32) (rp : Nat → Int32) (tp : Nat → Int32) (cr : Nat → Int32) (cw : Nat → Int32) (ik : Nat → Int32) (ln : Nat → Int32) (lg : Nat → Int32) (ce : Nat → Int64) (p1 : Int32) (p2 : Int32) (r : Int32) (hf : fX3_select st p1 p2 = some r) : CtI l yX3_select cX3_select 5 rmX3_select [.ref (ma 0), .int p1, .int p2] D k (wM k ma mi st rp tp cr cw ik ln lg ce) r := by
  refine rd_start (by decide +kernel) (Nat.le_of_ble_eq_true rfl) ?_
  intro p e s m below meth c ls hx hb hr hlk hml hown hts hP hK hl
  have hl : lv_has ls 5 [(0, .ref (ma 0)), (1, .int p1), (2, .int p2)] := hl
  have hown : s.vm.findClass RX3 = some m.cls := hown
  unfold fX3_select at hf
  refine lv_iload_n hx hb dX3_select_0 rfl (lv_at hl 1 rfl) ?_
  refine lv_if_lt (tgt := 16) hx hb dX3_select_1 (by decide) (fun c1 => ?_) (fun c1 => ?_)
  · have hf := oi_t c1 hf
    refine lv_iconst (v := (-1)) hx hb dX3_select_16 (by decide) ?_
    exact rd_iret hx hb hr hlk (Option.some.inj hf) dX3_select_17
  · have hf := oi_f c1 hf
    refine lv_iload_n hx hb dX3_select_4 rfl (lv_at hl 2 rfl) ?_
    refine lv_i2l hx hb dX3_select_5 rfl ?_
    refine lv_lconst (v := 0) hx hb dX3_select_6 (by decide) ?_
    refine lv_ldc2 hx hb hown (hts _ q1068) dX3_select_7 ?_
    obtain ⟨v2, ev2, hf⟩ := ob hf
    refine rd_callSZ (As := [.long ((p2).toInt64), .long (0 : Int64), .long (2 : Int64)]) (rest := []) ⟨hx, hb, hml, hown, hts⟩ (mX3_in l D k   ((p2).toInt64) (0 : Int64) (2 : Int64) _ ev2) (va_cwS 3 hts (lw_S q999 q1000 q94 q1001) rfl rfl rfl hdX3_in ⟨Nat.le_of_ble_eq_true rfl, Nat.le_of_ble_eq_true rfl⟩) hK rfl hl.1 rfl (Nat.le_of_ble_eq_true rfl) dX3_select_10 ⟨Nat.le_of_ble_eq_true rfl, Nat.le_of_ble_eq_true rfl⟩ (fun zv2 => ?_)
    refine lv_if_ne (tgt := 18) hx hb dX3_select_13 (by decide) (fun c4 => ?_) (fun c4 => ?_)
    · have hf := oi_f c4 hf
      refine lv_iload_n hx hb dX3_select_18 rfl (lv_at hl 1 rfl) ?_
      refine lv_istore_n (lv' := [(3, .int p1), (0, .ref (ma 0)), (1, .int p1), (2, .int p2)]) hx hb dX3_select_19 rfl hl (by decide) rfl (fun ls hl => ?_)
      refine lv_iconst (v := 0) hx hb dX3_select_20 (by decide) ?_
      refine lv_istore (lv' := [(4, .int (0 : Int32)), (3, .int p1), (0, .ref (ma 0)), (1, .int p1), (2, .int p2)]) hx hb dX3_select_21 hl (by decide) rfl (fun ls hl => ?_)
      have hL23 : ∀ (nn : Nat) (x3_23 : Int32) (x4_23 : Int32), fX3_select_L23 st p1 p2 nn x3_23 x4_23 = some r → ∀ ls : Array Slot, lv_has ls 5 [(0, .ref (ma 0)), (2, .int p2), (3, .int x3_23), (4, .int x4_23)] → gR p l e rmX3_select s m [.ref (ma 0), .int p1, .int p2] below meth c (vp_Si (fun x => x = r)) 23 ls [] := by
        intro nn23
        induction nn23 with
        | zero =>
          intro x3_23 x4_23 hf
          rw [fX3_select_L23] at hf; cases hf
        | succ nn23 ih23 =>
          intro x3_23 x4_23 hf ls hl
          rw [fX3_select_L23] at hf
          refine lv_iload hx hb dX3_select_23 (lv_at hl 3 rfl) ?_
          refine lv_aload_n hx hb dX3_select_25 rfl (lv_at hl 0 rfl) ?_
          obtain ⟨v5, ev5, hf⟩ := ob hf
          refine rd_callV (As := []) (rest := [.int x4_23]) ⟨hx, hb, hml, hown, hts⟩ (mX3_places l D k ma mi st rp tp cr cw ik ln lg ce  _ ev5) (cwV 0 hts (lw_V q1036 q1038 qs58 q94 q1039) rfl rfl rfl ⟨rfl, hdX3_places⟩ ⟨Nat.le_of_ble_eq_true rfl, Nat.le_of_ble_eq_true rfl⟩) hK hP [0, 1, 2, 3, 4, 5, 6, 7, 8, 9] rfl 0 3 rfl rfl rfl hl.1 rfl (Nat.le_of_ble_eq_true rfl) dX3_select_26 ⟨Nat.le_of_ble_eq_true rfl, Nat.le_of_ble_eq_true rfl⟩ ?_
          refine lv_icmp_ge (tgt := 58) hx hb dX3_select_29 (by decide) (fun c7 => ?_) (fun c7 => ?_)
          · have hf := oi_t c7 hf
            refine lv_bipush (v := (-4)) hx hb dX3_select_58 (by decide) ?_
            exact rd_iret hx hb hr hlk (Option.some.inj hf) dX3_select_60
          · have hf := oi_f c7 hf
            refine lv_aload_n hx hb dX3_select_32 rfl (lv_at hl 0 rfl) ?_
            refine lv_iload hx hb dX3_select_33 (lv_at hl 3 rfl) ?_
            refine lv_iload_n hx hb dX3_select_35 rfl (lv_at hl 1 rfl) ?_
            obtain ⟨v8, ev8, hf⟩ := ob hf
            refine rd_callVZ (As := [.int x4_23, .int p2]) (rest := []) ⟨hx, hb, hml, hown, hts⟩ (mX3_isSort l D k ma mi st rp tp cr cw ik ln lg ce x4_23 p2 _ ev8) (cwV 2 hts (lw_V q1069 q1071 qs63 q94 q1072) rfl rfl rfl ⟨rfl, hdX3_isSort⟩ ⟨Nat.le_of_ble_eq_true rfl, Nat.le_of_ble_eq_true rfl⟩) hK hP [0, 1, 2, 3, 4, 5, 6, 7, 8, 9] rfl 0 3 rfl rfl rfl hl.1 rfl (Nat.le_of_ble_eq_true rfl) dX3_select_36 ⟨Nat.le_of_ble_eq_true rfl, Nat.le_of_ble_eq_true rfl⟩ (fun zv8 => ?_)
            have hB52 : ∀ (x3_52 : Int32) (x4_52 : Int32), fX3_select_B52 st p1 p2 (fX3_select_L23 st p1 p2 nn23) x3_52 x4_52 = some r → ∀ ls : Array Slot, lv_has ls 5 [(0, .ref (ma 0)), (2, .int p2), (3, .int x3_52), (4, .int x4_52)] → gR p l e rmX3_select s m [.ref (ma 0), .int p1, .int p2] below meth c (vp_Si (fun x => x = r)) 52 ls [] := by
              intro x3_52 x4_52 hf ls hl
              unfold fX3_select_B52 at hf
              refine lv_iinc (v := (x4_52 + 1)) (lv' := [(4, .int (x4_52 + 1)), (0, .ref (ma 0)), (2, .int p2), (3, .int x3_52)]) hx hb dX3_select_52 hl (k := 3) rfl rfl (by decide) rfl (fun ls hl => ?_)
              refine lv_goto (tgt := 23) hx hb dX3_select_55 (by decide) ?_
              exact ih23 x3_52 (x4_52 + 1) hf ls (lv_sub hl [1, 2, 3, 0] rfl)
            refine lv_if_eq (tgt := 52) hx hb dX3_select_39 (by decide) (fun c10 => ?_) (fun c10 => ?_)
            · have hf := oi_t c10 hf
              exact hB52 x3_23 x4_23 hf ls (lv_sub hl [0, 1, 2, 3] rfl)
            · have hf := oi_f c10 hf
              refine lv_iload_n hx hb dX3_select_42 rfl (lv_at hl 2 rfl) ?_
              refine lv_if_ne (tgt := 49) hx hb dX3_select_43 (by decide) (fun c11 => ?_) (fun c11 => ?_)
              · have hf := oi_f c11 hf
                refine lv_iinc (v := (x3_23 + (-1))) (lv' := [(3, .int (x3_23 + (-1))), (0, .ref (ma 0)), (2, .int p2), (4, .int x4_23)]) hx hb dX3_select_49 hl (k := 2) rfl rfl (by decide) rfl (fun ls hl => ?_)
                exact hB52 (x3_23 + (-1)) x4_23 hf ls (lv_sub hl [1, 2, 0, 3] rfl)
              · have hf := oi_t c11 hf
                refine lv_iload hx hb dX3_select_46 (lv_at hl 3 rfl) ?_
                exact rd_iret hx hb hr hlk (Option.some.inj hf) dX3_select_48
      exact hL23 FU p1 (0 : Int32) hf ls (lv_sub hl [2, 4, 1, 0] rfl)
    · have hf := oi_t c4 hf
      refine lv_iconst (v := (-1)) hx hb dX3_select_16 (by decide) ?_
      exact rd_iret hx hb hr hlk (Option.some.inj hf) dX3_select_17

abbrev rmX3_forward : Room := { frames := 2, cells := 0, slots := 0, locals := 46 }
theorem hdX3_forward : yX3_forward.cls ≠ "java/lang/invoke/MethodHandle" ∧ yX3_forward.cls ≠ "java/lang/invoke/VarHandle" ∧ (parseMethodDescriptor yX3_forward.desc).map (fun d => d.parameters.length) = some 2 := by decide +kernel
set_option maxHeartbeats 4000000 in
theorem mX3_forward (l : Launch) (D : va_G) (k : Nat → ClassId) (ma : Nat → Nat) (mi : Nat → Int32) (st : Nat → Int32) (rp : Nat → Int32) (tp : Nat → Int32) (cr : Nat → Int32) (cw : Nat → Int32) (ik : Nat → Int32) (ln : Nat → Int32) (lg : Nat → Int32) (ce : Nat → Int64) (p1 : Int32) (p2 : Int32) (r : Int32) (hf : fX3_forward st p1 p2 = some r) : CtI l yX3_forward cX3_forward 4 rmX3_forward [.ref (ma 0), .int p1, .int p2] D k (wM k ma mi st rp tp cr cw ik ln lg ce) r := by
  refine rd_start (by decide +kernel) (Nat.le_of_ble_eq_true rfl) ?_
  intro p e s m below meth c ls hx hb hr hlk hml hown hts hP hK hl
  have hl : lv_has ls 4 [(0, .ref (ma 0)), (1, .int p1), (2, .int p2)] := hl
  have hown : s.vm.findClass RX3 = some m.cls := hown
  unfold fX3_forward at hf
  refine lv_aload_n hx hb dX3_forward_0 rfl (lv_at hl 0 rfl) ?_
  refine lv_iload_n hx hb dX3_forward_1 rfl (lv_at hl 1 rfl) ?_
  obtain ⟨v1, ev1, hf⟩ := ob hf
  refine rd_callVZ (As := [.int p1]) (rest := []) ⟨hx, hb, hml, hown, hts⟩ (mX3_isMark l D k ma mi st rp tp cr cw ik ln lg ce p1 _ ev1) (cwV 1 hts (lw_V q1060 q1062 qs62 q94 q1063) rfl rfl rfl ⟨rfl, hdX3_isMark⟩ ⟨Nat.le_of_ble_eq_true rfl, Nat.le_of_ble_eq_true rfl⟩) hK hP [0, 1, 2, 3, 4, 5, 6, 7, 8, 9] rfl 0 3 rfl rfl rfl hl.1 rfl (Nat.le_of_ble_eq_true rfl) dX3_forward_2 ⟨Nat.le_of_ble_eq_true rfl, Nat.le_of_ble_eq_true rfl⟩ (fun zv1 => ?_)
  refine lv_if_ne (tgt := 10) hx hb dX3_forward_5 (by decide) (fun c3 => ?_) (fun c3 => ?_)
  · have hf := oi_f c3 hf
    refine lv_iload_n hx hb dX3_forward_10 rfl (lv_at hl 1 rfl) ?_
    refine lv_iconst (v := 1) hx hb dX3_forward_11 (by decide) ?_
    refine lv_iadd hx hb dX3_forward_12 ?_
    obtain ⟨y4, ey4, hf⟩ := ob hf
    refine x_asI ey4 ?_
    refine lv_istore_n (lv' := [(3, .int y4), (0, .ref (ma 0)), (1, .int p1), (2, .int p2)]) hx hb dX3_forward_13 rfl hl (by decide) rfl (fun ls hl => ?_)
    have hL14 : ∀ (nn : Nat) (x3_14 : Int32), fX3_forward_L14 st p1 p2 nn x3_14 = some r → ∀ ls : Array Slot, lv_has ls 4 [(0, .ref (ma 0)), (2, .int p2), (3, .int x3_14)] → gR p l e rmX3_forward s m [.ref (ma 0), .int p1, .int p2] below meth c (vp_Si (fun x => x = r)) 14 ls [] := by
      intro nn14
      induction nn14 with
      | zero =>
        intro x3_14 hf
        rw [fX3_forward_L14] at hf; cases hf
      | succ nn14 ih14 =>
        intro x3_14 hf ls hl
        rw [fX3_forward_L14] at hf
        refine lv_iload_n hx hb dX3_forward_14 rfl (lv_at hl 2 rfl) ?_
        refine lv_aload_n hx hb dX3_forward_15 rfl (lv_at hl 0 rfl) ?_
        obtain ⟨v5, ev5, hf⟩ := ob hf
        refine rd_callV (As := []) (rest := [.int x3_14]) ⟨hx, hb, hml, hown, hts⟩ (mX3_places l D k ma mi st rp tp cr cw ik ln lg ce  _ ev5) (cwV 0 hts (lw_V q1036 q1038 qs58 q94 q1039) rfl rfl rfl ⟨rfl, hdX3_places⟩ ⟨Nat.le_of_ble_eq_true rfl, Nat.le_of_ble_eq_true rfl⟩) hK hP [0, 1, 2, 3, 4, 5, 6, 7, 8, 9] rfl 0 3 rfl rfl rfl hl.1 rfl (Nat.le_of_ble_eq_true rfl) dX3_forward_16 ⟨Nat.le_of_ble_eq_true rfl, Nat.le_of_ble_eq_true rfl⟩ ?_
        refine lv_icmp_gt (tgt := 39) hx hb dX3_forward_19 (by decide) (fun c7 => ?_) (fun c7 => ?_)
        · have hf := oi_t c7 hf
          refine lv_bipush (v := (-4)) hx hb dX3_forward_39 (by decide) ?_
          exact rd_iret hx hb hr hlk (Option.some.inj hf) dX3_forward_41
        · have hf := oi_f c7 hf
          refine lv_aload_n hx hb dX3_forward_22 rfl (lv_at hl 0 rfl) ?_
          refine lv_iload_n hx hb dX3_forward_23 rfl (lv_at hl 2 rfl) ?_
          obtain ⟨v8, ev8, hf⟩ := ob hf
          refine rd_callV (As := [.int x3_14]) (rest := []) ⟨hx, hb, hml, hown, hts⟩ (mX3_excessAt l D k ma mi st rp tp cr cw ik ln lg ce x3_14 _ ev8) (cwV 1 hts (lw_V q1044 q1046 qs60 q94 q1047) rfl rfl rfl ⟨rfl, hdX3_excessAt⟩ ⟨Nat.le_of_ble_eq_true rfl, Nat.le_of_ble_eq_true rfl⟩) hK hP [0, 1, 2, 3, 4, 5, 6, 7, 8, 9] rfl 0 3 rfl rfl rfl hl.1 rfl (Nat.le_of_ble_eq_true rfl) dX3_forward_24 ⟨Nat.le_of_ble_eq_true rfl, Nat.le_of_ble_eq_true rfl⟩ ?_
          refine lv_iload_n hx hb dX3_forward_27 rfl (lv_at hl 1 rfl) ?_
          refine lv_icmp_ne (tgt := 33) hx hb dX3_forward_28 (by decide) (fun c10 => ?_) (fun c10 => ?_)
          · have hf := oi_f c10 hf
            refine lv_iinc (v := (x3_14 + 1)) (lv' := [(3, .int (x3_14 + 1)), (0, .ref (ma 0)), (2, .int p2)]) hx hb dX3_forward_33 hl (k := 2) rfl rfl (by decide) rfl (fun ls hl => ?_)
            refine lv_goto (tgt := 14) hx hb dX3_forward_36 (by decide) ?_
            exact ih14 (x3_14 + 1) hf ls (lv_sub hl [1, 2, 0] rfl)
          · have hf := oi_t c10 hf
            refine lv_iload_n hx hb dX3_forward_31 rfl (lv_at hl 2 rfl) ?_
            exact rd_iret hx hb hr hlk (Option.some.inj hf) dX3_forward_32
    exact hL14 FU y4 hf ls (lv_sub hl [1, 3, 0] rfl)
  · have hf := oi_t c3 hf
    refine lv_iconst (v := (-1)) hx hb dX3_forward_8 (by decide) ?_
    exact rd_iret hx hb hr hlk (Option.some.inj hf) dX3_forward_9

abbrev rmX3_backward : Room := { frames := 2, cells := 0, slots := 0, locals := 46 }
theorem hdX3_backward : yX3_backward.cls ≠ "java/lang/invoke/MethodHandle" ∧ yX3_backward.cls ≠ "java/lang/invoke/VarHandle" ∧ (parseMethodDescriptor yX3_backward.desc).map (fun d => d.parameters.length) = some 2 := by decide +kernel
set_option maxHeartbeats 4000000 in
theorem mX3_backward (l : Launch) (D : va_G) (k : Nat → ClassId) (ma : Nat → Nat) (mi : Nat → Int32) (st : Nat → Int32) (rp : Nat → Int32) (tp : Nat → Int32) (cr : Nat → Int32) (cw : Nat → Int32) (ik : Nat → Int32) (ln : Nat → Int32) (lg : Nat → Int32) (ce : Nat → Int64) (p1 : Int32) (p2 : Int32) (r : Int32) (hf : fX3_backward st p1 p2 = some r) : CtI l yX3_backward cX3_backward 4 rmX3_backward [.ref (ma 0), .int p1, .int p2] D k (wM k ma mi st rp tp cr cw ik ln lg ce) r := by
  refine rd_start (by decide +kernel) (Nat.le_of_ble_eq_true rfl) ?_
  intro p e s m below meth c ls hx hb hr hlk hml hown hts hP hK hl
  have hl : lv_has ls 4 [(0, .ref (ma 0)), (1, .int p1), (2, .int p2)] := hl
  have hown : s.vm.findClass RX3 = some m.cls := hown
  unfold fX3_backward at hf
  refine lv_aload_n hx hb dX3_backward_0 rfl (lv_at hl 0 rfl) ?_
  refine lv_iload_n hx hb dX3_backward_1 rfl (lv_at hl 1 rfl) ?_
  obtain ⟨v1, ev1, hf⟩ := ob hf
  refine rd_callVZ (As := [.int p1]) (rest := []) ⟨hx, hb, hml, hown, hts⟩ (mX3_isMark l D k ma mi st rp tp cr cw ik ln lg ce p1 _ ev1) (cwV 1 hts (lw_V q1060 q1062 qs62 q94 q1063) rfl rfl rfl ⟨rfl, hdX3_isMark⟩ ⟨Nat.le_of_ble_eq_true rfl, Nat.le_of_ble_eq_true rfl⟩) hK hP [0, 1, 2, 3, 4, 5, 6, 7, 8, 9] rfl 0 3 rfl rfl rfl hl.1 rfl (Nat.le_of_ble_eq_true rfl) dX3_backward_2 ⟨Nat.le_of_ble_eq_true rfl, Nat.le_of_ble_eq_true rfl⟩ (fun zv1 => ?_)
  refine lv_if_ne (tgt := 10) hx hb dX3_backward_5 (by decide) (fun c3 => ?_) (fun c3 => ?_)
  · have hf := oi_f c3 hf
    refine lv_iload_n hx hb dX3_backward_10 rfl (lv_at hl 1 rfl) ?_
    refine lv_iconst (v := 1) hx hb dX3_backward_11 (by decide) ?_
    refine lv_isub hx hb dX3_backward_12 ?_
    obtain ⟨y4, ey4, hf⟩ := ob hf
    refine x_asI ey4 ?_
    refine lv_istore_n (lv' := [(3, .int y4), (0, .ref (ma 0)), (1, .int p1), (2, .int p2)]) hx hb dX3_backward_13 rfl hl (by decide) rfl (fun ls hl => ?_)
    have hL14 : ∀ (nn : Nat) (x3_14 : Int32), fX3_backward_L14 st p1 p2 nn x3_14 = some r → ∀ ls : Array Slot, lv_has ls 4 [(0, .ref (ma 0)), (2, .int p2), (3, .int x3_14)] → gR p l e rmX3_backward s m [.ref (ma 0), .int p1, .int p2] below meth c (vp_Si (fun x => x = r)) 14 ls [] := by
      intro nn14
      induction nn14 with
      | zero =>
        intro x3_14 hf
        rw [fX3_backward_L14] at hf; cases hf
      | succ nn14 ih14 =>
        intro x3_14 hf ls hl
        rw [fX3_backward_L14] at hf
        refine lv_iload_n hx hb dX3_backward_14 rfl (lv_at hl 2 rfl) ?_
        refine lv_if_lt (tgt := 35) hx hb dX3_backward_15 (by decide) (fun c5 => ?_) (fun c5 => ?_)
        · have hf := oi_t c5 hf
          refine lv_bipush (v := (-4)) hx hb dX3_backward_35 (by decide) ?_
          exact rd_iret hx hb hr hlk (Option.some.inj hf) dX3_backward_37
        · have hf := oi_f c5 hf
          refine lv_aload_n hx hb dX3_backward_18 rfl (lv_at hl 0 rfl) ?_
          refine lv_iload_n hx hb dX3_backward_19 rfl (lv_at hl 2 rfl) ?_
          obtain ⟨v6, ev6, hf⟩ := ob hf
          refine rd_callV (As := [.int x3_14]) (rest := []) ⟨hx, hb, hml, hown, hts⟩ (mX3_excessAt l D k ma mi st rp tp cr cw ik ln lg ce x3_14 _ ev6) (cwV 1 hts (lw_V q1044 q1046 qs60 q94 q1047) rfl rfl rfl ⟨rfl, hdX3_excessAt⟩ ⟨Nat.le_of_ble_eq_true rfl, Nat.le_of_ble_eq_true rfl⟩) hK hP [0, 1, 2, 3, 4, 5, 6, 7, 8, 9] rfl 0 3 rfl rfl rfl hl.1 rfl (Nat.le_of_ble_eq_true rfl) dX3_backward_20 ⟨Nat.le_of_ble_eq_true rfl, Nat.le_of_ble_eq_true rfl⟩ ?_
          refine lv_iload_n hx hb dX3_backward_23 rfl (lv_at hl 1 rfl) ?_
          refine lv_icmp_ne (tgt := 29) hx hb dX3_backward_24 (by decide) (fun c8 => ?_) (fun c8 => ?_)
          · have hf := oi_f c8 hf
            refine lv_iinc (v := (x3_14 + (-1))) (lv' := [(3, .int (x3_14 + (-1))), (0, .ref (ma 0)), (2, .int p2)]) hx hb dX3_backward_29 hl (k := 2) rfl rfl (by decide) rfl (fun ls hl => ?_)
            refine lv_goto (tgt := 14) hx hb dX3_backward_32 (by decide) ?_
            exact ih14 (x3_14 + (-1)) hf ls (lv_sub hl [1, 2, 0] rfl)
          · have hf := oi_t c8 hf
            refine lv_iload_n hx hb dX3_backward_27 rfl (lv_at hl 2 rfl) ?_
            exact rd_iret hx hb hr hlk (Option.some.inj hf) dX3_backward_28
    exact hL14 FU y4 hf ls (lv_sub hl [1, 3, 0] rfl)
  · have hf := oi_t c3 hf
    refine lv_iconst (v := (-1)) hx hb dX3_backward_8 (by decide) ?_
    exact rd_iret hx hb hr hlk (Option.some.inj hf) dX3_backward_9

abbrev rmX3_match : Room := { frames := 1, cells := 0, slots := 0, locals := 25 }
theorem hdX3_match : yX3_match.cls ≠ "java/lang/invoke/MethodHandle" ∧ yX3_match.cls ≠ "java/lang/invoke/VarHandle" ∧ (parseMethodDescriptor yX3_match.desc).map (fun d => d.parameters.length) = some 1 := by decide +kernel
set_option maxHeartbeats 4000000 in
theorem mX3_match (l : Launch) (D : va_G) (k : Nat → ClassId) (ma : Nat → Nat) (mi : Nat → Int32) (st : Nat → Int32) (rp : Nat → Int32) (tp : Nat → Int32) (cr : Nat → Int32) (cw : Nat → Int32) (ik : Nat → Int32) (ln : Nat → Int32) (lg : Nat → Int32) (ce : Nat → Int64) (p1 : Int32) (r : Int32) (hf : fX3_match st p1 = some r) : CtI l yX3_match cX3_match 4 rmX3_match [.ref (ma 0), .int p1] D k (wM k ma mi st rp tp cr cw ik ln lg ce) r := by
  refine rd_start (by decide +kernel) (Nat.le_of_ble_eq_true rfl) ?_
  intro p e s m below meth c ls hx hb hr hlk hml hown hts hP hK hl
  have hl : lv_has ls 4 [(0, .ref (ma 0)), (1, .int p1)] := hl
  have hown : s.vm.findClass RX3 = some m.cls := hown
  unfold fX3_match at hf
  refine lv_iload_n hx hb dX3_match_0 rfl (lv_at hl 1 rfl) ?_
  refine lv_i2l hx hb dX3_match_1 rfl ?_
  refine lv_lconst (v := 0) hx hb dX3_match_2 (by decide) ?_
  refine lv_aload_n hx hb dX3_match_3 rfl (lv_at hl 0 rfl) ?_
  obtain ⟨v1, ev1, hf⟩ := ob hf
  refine rd_callV (As := []) (rest := [.long (0 : Int64), .long ((p1).toInt64)]) ⟨hx, hb, hml, hown, hts⟩ (mX3_places l D k ma mi st rp tp cr cw ik ln lg ce  _ ev1) (cwV 0 hts (lw_V q1036 q1038 qs58 q94 q1039) rfl rfl rfl ⟨rfl, hdX3_places⟩ ⟨Nat.le_of_ble_eq_true rfl, Nat.le_of_ble_eq_true rfl⟩) hK hP [0, 1, 2, 3, 4, 5, 6, 7, 8, 9] rfl 0 3 rfl rfl rfl hl.1 rfl (Nat.le_of_ble_eq_true rfl) dX3_match_4 ⟨Nat.le_of_ble_eq_true rfl, Nat.le_of_ble_eq_true rfl⟩ ?_
  refine lv_iconst (v := 1) hx hb dX3_match_7 (by decide) ?_
  refine lv_isub hx hb dX3_match_8 ?_
  refine lv_i2l hx hb dX3_match_9 rfl ?_
  obtain ⟨v3, ev3, hf⟩ := ob hf
  refine rd_callSZ (As := [.long ((p1).toInt64), .long (0 : Int64), .long (((v1 - (1 : Int32))).toInt64)]) (rest := []) ⟨hx, hb, hml, hown, hts⟩ (mX3_in l D k   ((p1).toInt64) (0 : Int64) (((v1 - (1 : Int32))).toInt64) _ ev3) (va_cwS 3 hts (lw_S q999 q1000 q94 q1001) rfl rfl rfl hdX3_in ⟨Nat.le_of_ble_eq_true rfl, Nat.le_of_ble_eq_true rfl⟩) hK rfl hl.1 rfl (Nat.le_of_ble_eq_true rfl) dX3_match_10 ⟨Nat.le_of_ble_eq_true rfl, Nat.le_of_ble_eq_true rfl⟩ (fun zv3 => ?_)
  refine lv_if_ne (tgt := 18) hx hb dX3_match_13 (by decide) (fun c5 => ?_) (fun c5 => ?_)
  · have hf := oi_f c5 hf
    refine lv_aload_n hx hb dX3_match_18 rfl (lv_at hl 0 rfl) ?_
    refine va_get (D := D) (cl := vwCl) (ci := 3) (v := .ref (ma 1)) (C := RX3) (T := TX3) (N := 18) hx hb hts in_X3 hown hK.1 hP 0 rfl rfl 0 (by decide) (hts _ q938) (fun _ h9 => h9) rfl dX3_match_19 ?_
    refine lv_iload_n hx hb dX3_match_22 rfl (lv_at hl 1 rfl) ?_
    obtain ⟨v6, ev6, hf⟩ := ob hf
    refine x_iald hx hb hK hP 1 1 ev6 rfl rfl dX3_match_23 ?_
    refine lv_iconst (v := 1) hx hb dX3_match_24 (by decide) ?_
    refine lv_icmp_ne (tgt := 34) hx hb dX3_match_25 (by decide) (fun c7 => ?_) (fun c7 => ?_)
    · have hf := oi_f c7 hf
      refine lv_iload_n hx hb dX3_match_34 rfl (lv_at hl 1 rfl) ?_
      refine lv_istore_n (lv' := [(2, .int p1), (0, .ref (ma 0)), (1, .int p1)]) hx hb dX3_match_35 rfl hl (by decide) rfl (fun ls hl => ?_)
      refine lv_iconst (v := 1) hx hb dX3_match_36 (by decide) ?_
      refine lv_istore_n (lv' := [(3, .int (1 : Int32)), (2, .int p1), (0, .ref (ma 0)), (1, .int p1)]) hx hb dX3_match_37 rfl hl (by decide) rfl (fun ls hl => ?_)
      have hL38 : ∀ (nn : Nat) (x2_38 : Int32) (x3_38 : Int32), fX3_match_L38 st p1 nn x2_38 x3_38 = some r → ∀ ls : Array Slot, lv_has ls 4 [(0, .ref (ma 0)), (2, .int x2_38), (3, .int x3_38)] → gR p l e rmX3_match s m [.ref (ma 0), .int p1] below meth c (vp_Si (fun x => x = r)) 38 ls [] := by
        intro nn38
        induction nn38 with
        | zero =>
          intro x2_38 x3_38 hf
          rw [fX3_match_L38] at hf; cases hf
        | succ nn38 ih38 =>
          intro x2_38 x3_38 hf ls hl
          rw [fX3_match_L38] at hf
          refine lv_iload_n hx hb dX3_match_38 rfl (lv_at hl 2 rfl) ?_
          refine lv_if_le (tgt := 66) hx hb dX3_match_39 (by decide) (fun c8 => ?_) (fun c8 => ?_)
          · have hf := oi_t c8 hf
            refine lv_iload_n hx hb dX3_match_66 rfl (lv_at hl 1 rfl) ?_
            exact rd_iret hx hb hr hlk (Option.some.inj hf) dX3_match_67
          · have hf := oi_f c8 hf
            refine lv_iinc (v := (x2_38 + (-1))) (lv' := [(2, .int (x2_38 + (-1))), (0, .ref (ma 0)), (3, .int x3_38)]) hx hb dX3_match_42 hl (k := 1) rfl rfl (by decide) rfl (fun ls hl => ?_)
            refine lv_iload_n hx hb dX3_match_45 rfl (lv_at hl 2 rfl) ?_
            refine lv_aload_n hx hb dX3_match_46 rfl (lv_at hl 1 rfl) ?_
            refine va_get (D := D) (cl := vwCl) (ci := 3) (v := .ref (ma 1)) (C := RX3) (T := TX3) (N := 18) hx hb hts in_X3 hown hK.1 hP 0 rfl rfl 0 (by decide) (hts _ q938) (fun _ h9 => h9) rfl dX3_match_47 ?_
            refine lv_iload_n hx hb dX3_match_50 rfl (lv_at hl 0 rfl) ?_
            obtain ⟨v9, ev9, hf⟩ := ob hf
            refine x_iald hx hb hK hP 1 1 ev9 rfl rfl dX3_match_51 ?_
            refine lv_iconst (v := 1) hx hb dX3_match_52 (by decide) ?_
            have hB61 : ∀ (x2_61 : Int32) (s0_61 : Int32) (s1_61 : Int32), fX3_match_B61 st p1 (fX3_match_L38 st p1 nn38) x2_61 s0_61 s1_61 = some r → ∀ ls : Array Slot, lv_has ls 4 [(0, .ref (ma 0)), (2, .int x2_61)] → gR p l e rmX3_match s m [.ref (ma 0), .int p1] below meth c (vp_Si (fun x => x = r)) 61 ls [.int s0_61, .int s1_61] := by
              intro x2_61 s0_61 s1_61 hf ls hl
              unfold fX3_match_B61 at hf
              refine lv_iadd hx hb dX3_match_61 ?_
              obtain ⟨y11, ey11, hf⟩ := ob hf
              refine x_asI ey11 ?_
              refine lv_istore_n (lv' := [(3, .int y11), (0, .ref (ma 0)), (2, .int x2_61)]) hx hb dX3_match_62 rfl hl (by decide) rfl (fun ls hl => ?_)
              refine lv_goto (tgt := 38) hx hb dX3_match_63 (by decide) ?_
              exact ih38 x2_61 y11 hf ls (lv_sub hl [1, 2, 0] rfl)
            refine lv_icmp_ne (tgt := 60) hx hb dX3_match_53 (by decide) (fun c10 => ?_) (fun c10 => ?_)
            · have hf := oi_f c10 hf
              refine lv_iconst (v := 1) hx hb dX3_match_60 (by decide) ?_
              exact hB61 (x2_38 + (-1)) (1 : Int32) x3_38 hf ls (lv_sub hl [1, 0] rfl)
            · have hf := oi_t c10 hf
              refine lv_iconst (v := (-1)) hx hb dX3_match_56 (by decide) ?_
              refine lv_goto (tgt := 61) hx hb dX3_match_57 (by decide) ?_
              exact hB61 (x2_38 + (-1)) (-1 : Int32) x3_38 hf ls (lv_sub hl [1, 0] rfl)
      exact hL38 FU p1 (1 : Int32) hf ls (lv_sub hl [2, 1, 0] rfl)
    · have hf := oi_t c7 hf
      refine lv_aload_n hx hb dX3_match_28 rfl (lv_at hl 0 rfl) ?_
      refine lv_iload_n hx hb dX3_match_29 rfl (lv_at hl 1 rfl) ?_
      obtain ⟨v12, ev12, hf⟩ := ob hf
      refine rd_callV (As := [.int p1]) (rest := []) ⟨hx, hb, hml, hown, hts⟩ (mX3_shutOf l D k ma mi st rp tp cr cw ik ln lg ce p1 _ ev12) (cwV 1 hts (lw_V q1089 q1091 qs64 q94 q1092) rfl rfl rfl ⟨rfl, hdX3_shutOf⟩ ⟨Nat.le_of_ble_eq_true rfl, Nat.le_of_ble_eq_true rfl⟩) hK hP [0, 1, 2, 3, 4, 5, 6, 7, 8, 9] rfl 0 3 rfl rfl rfl hl.1 rfl (Nat.le_of_ble_eq_true rfl) dX3_match_30 ⟨Nat.le_of_ble_eq_true rfl, Nat.le_of_ble_eq_true rfl⟩ ?_
      exact rd_iret hx hb hr hlk (Option.some.inj hf) dX3_match_33
  · have hf := oi_t c5 hf
    refine lv_iconst (v := (-1)) hx hb dX3_match_16 (by decide) ?_
    exact rd_iret hx hb hr hlk (Option.some.inj hf) dX3_match_17

abbrev rmX3_least : Room := { frames := 2, cells := 0, slots := 0, locals := 46 }
theorem hdX3_least : yX3_least.cls ≠ "java/lang/invoke/MethodHandle" ∧ yX3_least.cls ≠ "java/lang/invoke/VarHandle" ∧ (parseMethodDescriptor yX3_least.desc).map (fun d => d.parameters.length) = some 3 := by decide +kernel
set_option maxHeartbeats 4000000 in
theorem mX3_least (l : Launch) (D : va_G) (k : Nat → ClassId) (ma : Nat → Nat) (mi : Nat → Int32) (st : Nat → Int32) (rp : Nat → Int32) (tp : Nat → Int32) (cr : Nat → Int32) (cw : Nat → Int32) (ik : Nat → Int32) (ln : Nat → Int32) (lg : Nat → Int32) (ce : Nat → Int64) (p1 : Int32) (p2 : Int32) (p3 : Int32) (r : Int32) (hf : fX3_least st p1 p2 p3 = some r) : CtI l yX3_least cX3_least 10 rmX3_least [.ref (ma 0), .int p1, .int p2, .int p3] D k (wM k ma mi st rp tp cr cw ik ln lg ce) r := by
  refine rd_start (by decide +kernel) (Nat.le_of_ble_eq_true rfl) ?_
  intro p e s m below meth c ls hx hb hr hlk hml hown hts hP hK hl
  have hl : lv_has ls 10 [(0, .ref (ma 0)), (1, .int p1), (2, .int p2), (3, .int p3)] := hl
  have hown : s.vm.findClass RX3 = some m.cls := hown
  unfold fX3_least at hf
  refine lv_aload_n hx hb dX3_least_0 rfl (lv_at hl 0 rfl) ?_
  refine lv_iload_n hx hb dX3_least_1 rfl (lv_at hl 1 rfl) ?_
  obtain ⟨v1, ev1, hf⟩ := ob hf
  refine rd_callVZ (As := [.int p1]) (rest := []) ⟨hx, hb, hml, hown, hts⟩ (mX3_isMark l D k ma mi st rp tp cr cw ik ln lg ce p1 _ ev1) (cwV 1 hts (lw_V q1060 q1062 qs62 q94 q1063) rfl rfl rfl ⟨rfl, hdX3_isMark⟩ ⟨Nat.le_of_ble_eq_true rfl, Nat.le_of_ble_eq_true rfl⟩) hK hP [0, 1, 2, 3, 4, 5, 6, 7, 8, 9] rfl 0 3 rfl rfl rfl hl.1 rfl (Nat.le_of_ble_eq_true rfl) dX3_least_2 ⟨Nat.le_of_ble_eq_true rfl, Nat.le_of_ble_eq_true rfl⟩ (fun zv1 => ?_)
  refine lv_if_eq (tgt := 33) hx hb dX3_least_5 (by decide) (fun c3 => ?_) (fun c3 => ?_)
  · have hf := oi_t c3 hf
    refine lv_iconst (v := (-1)) hx hb dX3_least_33 (by decide) ?_
    exact rd_iret hx hb hr hlk (Option.some.inj hf) dX3_least_34
  · have hf := oi_f c3 hf
    refine lv_aload_n hx hb dX3_least_8 rfl (lv_at hl 0 rfl) ?_
    refine lv_iload_n hx hb dX3_least_9 rfl (lv_at hl 2 rfl) ?_
    obtain ⟨v4, ev4, hf⟩ := ob hf
    refine rd_callVZ (As := [.int p2]) (rest := []) ⟨hx, hb, hml, hown, hts⟩ (mX3_isMark l D k ma mi st rp tp cr cw ik ln lg ce p2 _ ev4) (cwV 1 hts (lw_V q1060 q1062 qs62 q94 q1063) rfl rfl rfl ⟨rfl, hdX3_isMark⟩ ⟨Nat.le_of_ble_eq_true rfl, Nat.le_of_ble_eq_true rfl⟩) hK hP [0, 1, 2, 3, 4, 5, 6, 7, 8, 9] rfl 0 3 rfl rfl rfl hl.1 rfl (Nat.le_of_ble_eq_true rfl) dX3_least_10 ⟨Nat.le_of_ble_eq_true rfl, Nat.le_of_ble_eq_true rfl⟩ (fun zv4 => ?_)
    refine lv_if_eq (tgt := 33) hx hb dX3_least_13 (by decide) (fun c6 => ?_) (fun c6 => ?_)
    · have hf := oi_t c6 hf
      refine lv_iconst (v := (-1)) hx hb dX3_least_33 (by decide) ?_
      exact rd_iret hx hb hr hlk (Option.some.inj hf) dX3_least_34
    · have hf := oi_f c6 hf
      refine lv_iload_n hx hb dX3_least_16 rfl (lv_at hl 1 rfl) ?_
      refine lv_iload_n hx hb dX3_least_17 rfl (lv_at hl 2 rfl) ?_
      refine lv_icmp_gt (tgt := 33) hx hb dX3_least_18 (by decide) (fun c7 => ?_) (fun c7 => ?_)
      · have hf := oi_t c7 hf
        refine lv_iconst (v := (-1)) hx hb dX3_least_33 (by decide) ?_
        exact rd_iret hx hb hr hlk (Option.some.inj hf) dX3_least_34
      · have hf := oi_f c7 hf
        refine lv_iload_n hx hb dX3_least_21 rfl (lv_at hl 3 rfl) ?_
        refine lv_i2l hx hb dX3_least_22 rfl ?_
        refine lv_lconst (v := 0) hx hb dX3_least_23 (by decide) ?_
        refine lv_ldc2 hx hb hown (hts _ q1097) dX3_least_24 ?_
        obtain ⟨v8, ev8, hf⟩ := ob hf
        refine rd_callSZ (As := [.long ((p3).toInt64), .long (0 : Int64), .long (3 : Int64)]) (rest := []) ⟨hx, hb, hml, hown, hts⟩ (mX3_in l D k   ((p3).toInt64) (0 : Int64) (3 : Int64) _ ev8) (va_cwS 3 hts (lw_S q999 q1000 q94 q1001) rfl rfl rfl hdX3_in ⟨Nat.le_of_ble_eq_true rfl, Nat.le_of_ble_eq_true rfl⟩) hK rfl hl.1 rfl (Nat.le_of_ble_eq_true rfl) dX3_least_27 ⟨Nat.le_of_ble_eq_true rfl, Nat.le_of_ble_eq_true rfl⟩ (fun zv8 => ?_)
        refine lv_if_ne (tgt := 35) hx hb dX3_least_30 (by decide) (fun c10 => ?_) (fun c10 => ?_)
        · have hf := oi_f c10 hf
          refine lv_aload_n hx hb dX3_least_35 rfl (lv_at hl 0 rfl) ?_
          refine lv_iload_n hx hb dX3_least_36 rfl (lv_at hl 1 rfl) ?_
          obtain ⟨v11, ev11, hf⟩ := ob hf
          refine rd_callV (As := [.int p1]) (rest := []) ⟨hx, hb, hml, hown, hts⟩ (mX3_excessAt l D k ma mi st rp tp cr cw ik ln lg ce p1 _ ev11) (cwV 1 hts (lw_V q1044 q1046 qs60 q94 q1047) rfl rfl rfl ⟨rfl, hdX3_excessAt⟩ ⟨Nat.le_of_ble_eq_true rfl, Nat.le_of_ble_eq_true rfl⟩) hK hP [0, 1, 2, 3, 4, 5, 6, 7, 8, 9] rfl 0 3 rfl rfl rfl hl.1 rfl (Nat.le_of_ble_eq_true rfl) dX3_least_37 ⟨Nat.le_of_ble_eq_true rfl, Nat.le_of_ble_eq_true rfl⟩ ?_
          refine lv_istore (lv' := [(4, .int v11), (0, .ref (ma 0)), (1, .int p1), (2, .int p2), (3, .int p3)]) hx hb dX3_least_40 hl (by decide) rfl (fun ls hl => ?_)
          refine lv_iload hx hb dX3_least_42 (lv_at hl 0 rfl) ?_
          refine lv_istore (lv' := [(5, .int v11), (4, .int v11), (0, .ref (ma 0)), (1, .int p1), (2, .int p2), (3, .int p3)]) hx hb dX3_least_44 hl (by decide) rfl (fun ls hl => ?_)
          refine lv_iload_n hx hb dX3_least_46 rfl (lv_at hl 3 rfl) ?_
          refine lv_istore (lv' := [(6, .int p1), (5, .int v11), (4, .int v11), (0, .ref (ma 0)), (1, .int p1), (2, .int p2), (3, .int p3)]) hx hb dX3_least_47 hl (by decide) rfl (fun ls hl => ?_)
          refine lv_iconst (v := 0) hx hb dX3_least_49 (by decide) ?_
          refine lv_istore (lv' := [(7, .int (0 : Int32)), (6, .int p1), (5, .int v11), (4, .int v11), (0, .ref (ma 0)), (1, .int p1), (2, .int p2), (3, .int p3)]) hx hb dX3_least_50 hl (by decide) rfl (fun ls hl => ?_)
          refine lv_iload_n hx hb dX3_least_52 rfl (lv_at hl 5 rfl) ?_
          refine lv_istore (lv' := [(8, .int p1), (7, .int (0 : Int32)), (6, .int p1), (5, .int v11), (4, .int v11), (0, .ref (ma 0)), (1, .int p1), (2, .int p2), (3, .int p3)]) hx hb dX3_least_53 hl (by decide) rfl (fun ls hl => ?_)
          have hL55 : ∀ (nn : Nat) (x4_55 : Int32) (x5_55 : Int32) (x6_55 : Int32) (x7_55 : Int32) (x8_55 : Int32), fX3_least_L55 st p1 p2 p3 nn x4_55 x5_55 x6_55 x7_55 x8_55 = some r → ∀ ls : Array Slot, lv_has ls 10 [(0, .ref (ma 0)), (2, .int p2), (3, .int p3), (4, .int x4_55), (5, .int x5_55), (6, .int x6_55), (7, .int x7_55), (8, .int x8_55)] → gR p l e rmX3_least s m [.ref (ma 0), .int p1, .int p2, .int p3] below meth c (vp_Si (fun x => x = r)) 55 ls [] := by
            intro nn55
            induction nn55 with
            | zero =>
              intro x4_55 x5_55 x6_55 x7_55 x8_55 hf
              rw [fX3_least_L55] at hf; cases hf
            | succ nn55 ih55 =>
              intro x4_55 x5_55 x6_55 x7_55 x8_55 hf ls hl
              rw [fX3_least_L55] at hf
              refine lv_iload hx hb dX3_least_55 (lv_at hl 7 rfl) ?_
              refine lv_iload_n hx hb dX3_least_57 rfl (lv_at hl 1 rfl) ?_
              refine lv_icmp_gt (tgt := 152) hx hb dX3_least_58 (by decide) (fun c13 => ?_) (fun c13 => ?_)
              · have hf := oi_t c13 hf
                refine lv_iload_n hx hb dX3_least_152 rfl (lv_at hl 2 rfl) ?_
                refine lv_if_ne (tgt := 161) hx hb dX3_least_153 (by decide) (fun c14 => ?_) (fun c14 => ?_)
                · have hf := oi_f c14 hf
                  refine lv_iload_n hx hb dX3_least_161 rfl (lv_at hl 2 rfl) ?_
                  refine lv_iconst (v := 1) hx hb dX3_least_162 (by decide) ?_
                  refine lv_icmp_ne (tgt := 171) hx hb dX3_least_163 (by decide) (fun c15 => ?_) (fun c15 => ?_)
                  · have hf := oi_f c15 hf
                    refine lv_iload_n hx hb dX3_least_171 rfl (lv_at hl 2 rfl) ?_
                    refine lv_iconst (v := 2) hx hb dX3_least_172 (by decide) ?_
                    refine lv_icmp_ne (tgt := 181) hx hb dX3_least_173 (by decide) (fun c16 => ?_) (fun c16 => ?_)
                    · have hf := oi_f c16 hf
                      refine lv_iload hx hb dX3_least_181 (lv_at hl 4 rfl) ?_
                      exact rd_iret hx hb hr hlk (Option.some.inj hf) dX3_least_183
                    · have hf := oi_t c16 hf
                      refine lv_iload hx hb dX3_least_176 (lv_at hl 6 rfl) ?_
                      refine lv_goto (tgt := 183) hx hb dX3_least_178 (by decide) ?_
                      exact rd_iret hx hb hr hlk (Option.some.inj hf) dX3_least_183
                  · have hf := oi_t c15 hf
                    refine lv_iload hx hb dX3_least_166 (lv_at hl 5 rfl) ?_
                    refine lv_goto (tgt := 183) hx hb dX3_least_168 (by decide) ?_
                    exact rd_iret hx hb hr hlk (Option.some.inj hf) dX3_least_183
                · have hf := oi_t c14 hf
                  refine lv_iload hx hb dX3_least_156 (lv_at hl 3 rfl) ?_
                  refine lv_goto (tgt := 183) hx hb dX3_least_158 (by decide) ?_
                  exact rd_iret hx hb hr hlk (Option.some.inj hf) dX3_least_183
              · have hf := oi_f c13 hf
                refine lv_aload_n hx hb dX3_least_61 rfl (lv_at hl 0 rfl) ?_
                refine lv_iload hx hb dX3_least_62 (lv_at hl 7 rfl) ?_
                obtain ⟨v17, ev17, hf⟩ := ob hf
                refine rd_callV (As := [.int x8_55]) (rest := []) ⟨hx, hb, hml, hown, hts⟩ (mX3_excessAt l D k ma mi st rp tp cr cw ik ln lg ce x8_55 _ ev17) (cwV 1 hts (lw_V q1044 q1046 qs60 q94 q1047) rfl rfl rfl ⟨rfl, hdX3_excessAt⟩ ⟨Nat.le_of_ble_eq_true rfl, Nat.le_of_ble_eq_true rfl⟩) hK hP [0, 1, 2, 3, 4, 5, 6, 7, 8, 9] rfl 0 3 rfl rfl rfl hl.1 rfl (Nat.le_of_ble_eq_true rfl) dX3_least_64 ⟨Nat.le_of_ble_eq_true rfl, Nat.le_of_ble_eq_true rfl⟩ ?_
                refine lv_istore (lv' := [(9, .int v17), (0, .ref (ma 0)), (2, .int p2), (3, .int p3), (4, .int x4_55), (5, .int x5_55), (6, .int x6_55), (7, .int x7_55), (8, .int x8_55)]) hx hb dX3_least_67 hl (by decide) rfl (fun ls hl => ?_)
                refine lv_iload hx hb dX3_least_69 (lv_at hl 0 rfl) ?_
                refine lv_iload hx hb dX3_least_71 (lv_at hl 4 rfl) ?_
                have hB96 : ∀ (x4_96 : Int32) (x5_96 : Int32) (x6_96 : Int32) (x8_96 : Int32) (x9_96 : Int32) (s0_96 : Int32), fX3_least_B96 st p1 p2 p3 (fX3_least_L55 st p1 p2 p3 nn55) x4_96 x5_96 x6_96 x8_96 x9_96 s0_96 = some r → ∀ ls : Array Slot, lv_has ls 10 [(0, .ref (ma 0)), (2, .int p2), (3, .int p3), (4, .int x4_96), (5, .int x5_96), (6, .int x6_96), (8, .int x8_96), (9, .int x9_96)] → gR p l e rmX3_least s m [.ref (ma 0), .int p1, .int p2, .int p3] below meth c (vp_Si (fun x => x = r)) 96 ls [.int s0_96] := by
                  intro x4_96 x5_96 x6_96 x8_96 x9_96 s0_96 hf ls hl
                  unfold fX3_least_B96 at hf
                  refine lv_istore (lv' := [(7, .int s0_96), (0, .ref (ma 0)), (2, .int p2), (3, .int p3), (4, .int x4_96), (5, .int x5_96), (6, .int x6_96), (8, .int x8_96), (9, .int x9_96)]) hx hb dX3_least_96 hl (by decide) rfl (fun ls hl => ?_)
                  refine lv_iload hx hb dX3_least_98 (lv_at hl 8 rfl) ?_
                  refine lv_iload hx hb dX3_least_100 (lv_at hl 4 rfl) ?_
                  have hB112 : ∀ (x4_112 : Int32) (x5_112 : Int32) (x7_112 : Int32) (x8_112 : Int32) (x9_112 : Int32) (s0_112 : Int32), fX3_least_B112 st p1 p2 p3 (fX3_least_L55 st p1 p2 p3 nn55) x4_112 x5_112 x7_112 x8_112 x9_112 s0_112 = some r → ∀ ls : Array Slot, lv_has ls 10 [(0, .ref (ma 0)), (2, .int p2), (3, .int p3), (4, .int x4_112), (5, .int x5_112), (7, .int x7_112), (8, .int x8_112), (9, .int x9_112)] → gR p l e rmX3_least s m [.ref (ma 0), .int p1, .int p2, .int p3] below meth c (vp_Si (fun x => x = r)) 112 ls [.int s0_112] := by
                    intro x4_112 x5_112 x7_112 x8_112 x9_112 s0_112 hf ls hl
                    unfold fX3_least_B112 at hf
                    refine lv_istore (lv' := [(6, .int s0_112), (0, .ref (ma 0)), (2, .int p2), (3, .int p3), (4, .int x4_112), (5, .int x5_112), (7, .int x7_112), (8, .int x8_112), (9, .int x9_112)]) hx hb dX3_least_112 hl (by decide) rfl (fun ls hl => ?_)
                    refine lv_iload hx hb dX3_least_114 (lv_at hl 8 rfl) ?_
                    refine lv_iload hx hb dX3_least_116 (lv_at hl 4 rfl) ?_
                    have hB128 : ∀ (x5_128 : Int32) (x6_128 : Int32) (x7_128 : Int32) (x8_128 : Int32) (x9_128 : Int32) (s0_128 : Int32), fX3_least_B128 st p1 p2 p3 (fX3_least_L55 st p1 p2 p3 nn55) x5_128 x6_128 x7_128 x8_128 x9_128 s0_128 = some r → ∀ ls : Array Slot, lv_has ls 10 [(0, .ref (ma 0)), (2, .int p2), (3, .int p3), (5, .int x5_128), (6, .int x6_128), (7, .int x7_128), (8, .int x8_128), (9, .int x9_128)] → gR p l e rmX3_least s m [.ref (ma 0), .int p1, .int p2, .int p3] below meth c (vp_Si (fun x => x = r)) 128 ls [.int s0_128] := by
                      intro x5_128 x6_128 x7_128 x8_128 x9_128 s0_128 hf ls hl
                      unfold fX3_least_B128 at hf
                      refine lv_istore (lv' := [(4, .int s0_128), (0, .ref (ma 0)), (2, .int p2), (3, .int p3), (5, .int x5_128), (6, .int x6_128), (7, .int x7_128), (8, .int x8_128), (9, .int x9_128)]) hx hb dX3_least_128 hl (by decide) rfl (fun ls hl => ?_)
                      refine lv_iload hx hb dX3_least_130 (lv_at hl 8 rfl) ?_
                      refine lv_iload hx hb dX3_least_132 (lv_at hl 4 rfl) ?_
                      have hB144 : ∀ (x4_144 : Int32) (x6_144 : Int32) (x7_144 : Int32) (x8_144 : Int32) (s0_144 : Int32), fX3_least_B144 st p1 p2 p3 (fX3_least_L55 st p1 p2 p3 nn55) x4_144 x6_144 x7_144 x8_144 s0_144 = some r → ∀ ls : Array Slot, lv_has ls 10 [(0, .ref (ma 0)), (2, .int p2), (3, .int p3), (4, .int x4_144), (6, .int x6_144), (7, .int x7_144), (8, .int x8_144)] → gR p l e rmX3_least s m [.ref (ma 0), .int p1, .int p2, .int p3] below meth c (vp_Si (fun x => x = r)) 144 ls [.int s0_144] := by
                        intro x4_144 x6_144 x7_144 x8_144 s0_144 hf ls hl
                        unfold fX3_least_B144 at hf
                        refine lv_istore (lv' := [(5, .int s0_144), (0, .ref (ma 0)), (2, .int p2), (3, .int p3), (4, .int x4_144), (6, .int x6_144), (7, .int x7_144), (8, .int x8_144)]) hx hb dX3_least_144 hl (by decide) rfl (fun ls hl => ?_)
                        refine lv_iinc (v := (x8_144 + 1)) (lv' := [(8, .int (x8_144 + 1)), (5, .int s0_144), (0, .ref (ma 0)), (2, .int p2), (3, .int p3), (4, .int x4_144), (6, .int x6_144), (7, .int x7_144)]) hx hb dX3_least_146 hl (k := 7) rfl rfl (by decide) rfl (fun ls hl => ?_)
                        refine lv_goto (tgt := 55) hx hb dX3_least_149 (by decide) ?_
                        exact ih55 x4_144 s0_144 x6_144 x7_144 (x8_144 + 1) hf ls (lv_sub hl [2, 3, 4, 5, 1, 6, 7, 0] rfl)
                      refine lv_icmp_le (tgt := 142) hx hb dX3_least_134 (by decide) (fun c22 => ?_) (fun c22 => ?_)
                      · have hf := oi_t c22 hf
                        refine lv_iload hx hb dX3_least_142 (lv_at hl 4 rfl) ?_
                        exact hB144 s0_128 x6_128 x7_128 x8_128 x5_128 hf ls (lv_sub hl [1, 2, 3, 0, 5, 6, 7] rfl)
                      · have hf := oi_f c22 hf
                        refine lv_iload hx hb dX3_least_137 (lv_at hl 8 rfl) ?_
                        refine lv_goto (tgt := 144) hx hb dX3_least_139 (by decide) ?_
                        exact hB144 s0_128 x6_128 x7_128 x8_128 x9_128 hf ls (lv_sub hl [1, 2, 3, 0, 5, 6, 7] rfl)
                    refine lv_icmp_ge (tgt := 126) hx hb dX3_least_118 (by decide) (fun c21 => ?_) (fun c21 => ?_)
                    · have hf := oi_t c21 hf
                      refine lv_iload hx hb dX3_least_126 (lv_at hl 4 rfl) ?_
                      exact hB128 x5_112 s0_112 x7_112 x8_112 x9_112 x4_112 hf ls (lv_sub hl [1, 2, 3, 5, 0, 6, 7, 8] rfl)
                    · have hf := oi_f c21 hf
                      refine lv_iload hx hb dX3_least_121 (lv_at hl 8 rfl) ?_
                      refine lv_goto (tgt := 128) hx hb dX3_least_123 (by decide) ?_
                      exact hB128 x5_112 s0_112 x7_112 x8_112 x9_112 x9_112 hf ls (lv_sub hl [1, 2, 3, 5, 0, 6, 7, 8] rfl)
                  refine lv_icmp_ge (tgt := 110) hx hb dX3_least_102 (by decide) (fun c20 => ?_) (fun c20 => ?_)
                  · have hf := oi_t c20 hf
                    refine lv_iload hx hb dX3_least_110 (lv_at hl 6 rfl) ?_
                    exact hB112 x4_96 x5_96 s0_96 x8_96 x9_96 x6_96 hf ls (lv_sub hl [1, 2, 3, 4, 5, 0, 7, 8] rfl)
                  · have hf := oi_f c20 hf
                    refine lv_iload hx hb dX3_least_105 (lv_at hl 7 rfl) ?_
                    refine lv_goto (tgt := 112) hx hb dX3_least_107 (by decide) ?_
                    exact hB112 x4_96 x5_96 s0_96 x8_96 x9_96 x8_96 hf ls (lv_sub hl [1, 2, 3, 4, 5, 0, 7, 8] rfl)
                refine lv_icmp_ge (tgt := 80) hx hb dX3_least_73 (by decide) (fun c19 => ?_) (fun c19 => ?_)
                · have hf := oi_t c19 hf
                  refine lv_iload hx hb dX3_least_80 (lv_at hl 0 rfl) ?_
                  refine lv_iload hx hb dX3_least_82 (lv_at hl 4 rfl) ?_
                  refine lv_icmp_ne (tgt := 94) hx hb dX3_least_84 (by decide) (fun c23 => ?_) (fun c23 => ?_)
                  · have hf := oi_f c23 hf
                    refine lv_iload hx hb dX3_least_94 (lv_at hl 7 rfl) ?_
                    exact hB96 x4_55 x5_55 x6_55 x8_55 v17 x7_55 hf ls (lv_sub hl [1, 2, 3, 4, 5, 6, 8, 0] rfl)
                  · have hf := oi_t c23 hf
                    refine lv_iload hx hb dX3_least_87 (lv_at hl 7 rfl) ?_
                    refine lv_iconst (v := 1) hx hb dX3_least_89 (by decide) ?_
                    refine lv_iadd hx hb dX3_least_90 ?_
                    refine lv_goto (tgt := 96) hx hb dX3_least_91 (by decide) ?_
                    exact hB96 x4_55 x5_55 x6_55 x8_55 v17 (x7_55 + (1 : Int32)) hf ls (lv_sub hl [1, 2, 3, 4, 5, 6, 8, 0] rfl)
                · have hf := oi_f c19 hf
                  refine lv_iconst (v := 1) hx hb dX3_least_76 (by decide) ?_
                  refine lv_goto (tgt := 96) hx hb dX3_least_77 (by decide) ?_
                  exact hB96 x4_55 x5_55 x6_55 x8_55 v17 (1 : Int32) hf ls (lv_sub hl [1, 2, 3, 4, 5, 6, 8, 0] rfl)
          exact hL55 FU v11 v11 p1 (0 : Int32) p1 hf ls (lv_sub hl [5, 7, 8, 4, 3, 2, 1, 0] rfl)
        · have hf := oi_t c10 hf
          refine lv_iconst (v := (-1)) hx hb dX3_least_33 (by decide) ?_
          exact rd_iret hx hb hr hlk (Option.some.inj hf) dX3_least_34

abbrev rmX3_block : Room := { frames := 1, cells := 0, slots := 0, locals := 25 }
theorem hdX3_block : yX3_block.cls ≠ "java/lang/invoke/MethodHandle" ∧ yX3_block.cls ≠ "java/lang/invoke/VarHandle" ∧ (parseMethodDescriptor yX3_block.desc).map (fun d => d.parameters.length) = some 2 := by decide +kernel
set_option maxHeartbeats 4000000 in
theorem mX3_block (l : Launch) (D : va_G) (k : Nat → ClassId) (ma : Nat → Nat) (mi : Nat → Int32) (st : Nat → Int32) (rp : Nat → Int32) (tp : Nat → Int32) (cr : Nat → Int32) (cw : Nat → Int32) (ik : Nat → Int32) (ln : Nat → Int32) (lg : Nat → Int32) (ce : Nat → Int64) (p1 : Int32) (p2 : Int32) (r : Int32) (hf : fX3_block st p1 p2 = some r) : CtI l yX3_block cX3_block 8 rmX3_block [.ref (ma 0), .int p1, .int p2] D k (wM k ma mi st rp tp cr cw ik ln lg ce) r := by
  refine rd_start (by decide +kernel) (Nat.le_of_ble_eq_true rfl) ?_
  intro p e s m below meth c ls hx hb hr hlk hml hown hts hP hK hl
  have hl : lv_has ls 8 [(0, .ref (ma 0)), (1, .int p1), (2, .int p2)] := hl
  have hown : s.vm.findClass RX3 = some m.cls := hown
  unfold fX3_block at hf
  refine lv_iload_n hx hb dX3_block_0 rfl (lv_at hl 1 rfl) ?_
  refine lv_if_lt (tgt := 31) hx hb dX3_block_1 (by decide) (fun c1 => ?_) (fun c1 => ?_)
  · have hf := oi_t c1 hf
    refine lv_iconst (v := (-1)) hx hb dX3_block_31 (by decide) ?_
    exact rd_iret hx hb hr hlk (Option.some.inj hf) dX3_block_32
  · have hf := oi_f c1 hf
    refine lv_ldc2 hx hb hown (hts _ q1102) dX3_block_4 ?_
    refine lv_iload_n hx hb dX3_block_7 rfl (lv_at hl 1 rfl) ?_
    refine lv_i2l hx hb dX3_block_8 rfl ?_
    refine lv_lmul hx hb dX3_block_9 ?_
    refine lv_aload_n hx hb dX3_block_10 rfl (lv_at hl 0 rfl) ?_
    obtain ⟨v2, ev2, hf⟩ := ob hf
    refine rd_callV (As := []) (rest := [.long ((16 : Int64) * ((p1).toInt64))]) ⟨hx, hb, hml, hown, hts⟩ (mX3_places l D k ma mi st rp tp cr cw ik ln lg ce  _ ev2) (cwV 0 hts (lw_V q1036 q1038 qs58 q94 q1039) rfl rfl rfl ⟨rfl, hdX3_places⟩ ⟨Nat.le_of_ble_eq_true rfl, Nat.le_of_ble_eq_true rfl⟩) hK hP [0, 1, 2, 3, 4, 5, 6, 7, 8, 9] rfl 0 3 rfl rfl rfl hl.1 rfl (Nat.le_of_ble_eq_true rfl) dX3_block_11 ⟨Nat.le_of_ble_eq_true rfl, Nat.le_of_ble_eq_true rfl⟩ ?_
    refine lv_i2l hx hb dX3_block_14 rfl ?_
    refine W.lcmp hx hb dX3_block_15 ?_
    refine lv_if_ge (tgt := 31) hx hb dX3_block_16 (by decide) (fun c4 => ?_) (fun c4 => ?_)
    · have hf := oi_t c4 hf
      refine lv_iconst (v := (-1)) hx hb dX3_block_31 (by decide) ?_
      exact rd_iret hx hb hr hlk (Option.some.inj hf) dX3_block_32
    · have hf := oi_f c4 hf
      refine lv_iload_n hx hb dX3_block_19 rfl (lv_at hl 2 rfl) ?_
      refine lv_i2l hx hb dX3_block_20 rfl ?_
      refine lv_lconst (v := 0) hx hb dX3_block_21 (by decide) ?_
      refine lv_ldc2 hx hb hown (hts _ q1068) dX3_block_22 ?_
      obtain ⟨v5, ev5, hf⟩ := ob hf
      refine rd_callSZ (As := [.long ((p2).toInt64), .long (0 : Int64), .long (2 : Int64)]) (rest := []) ⟨hx, hb, hml, hown, hts⟩ (mX3_in l D k   ((p2).toInt64) (0 : Int64) (2 : Int64) _ ev5) (va_cwS 3 hts (lw_S q999 q1000 q94 q1001) rfl rfl rfl hdX3_in ⟨Nat.le_of_ble_eq_true rfl, Nat.le_of_ble_eq_true rfl⟩) hK rfl hl.1 rfl (Nat.le_of_ble_eq_true rfl) dX3_block_25 ⟨Nat.le_of_ble_eq_true rfl, Nat.le_of_ble_eq_true rfl⟩ (fun zv5 => ?_)
      refine lv_if_ne (tgt := 33) hx hb dX3_block_28 (by decide) (fun c7 => ?_) (fun c7 => ?_)
      · have hf := oi_f c7 hf
        refine lv_aload_n hx hb dX3_block_33 rfl (lv_at hl 0 rfl) ?_
        refine lv_bipush (v := 16) hx hb dX3_block_34 (by decide) ?_
        refine lv_iload_n hx hb dX3_block_36 rfl (lv_at hl 1 rfl) ?_
        refine lv_imul hx hb dX3_block_37 ?_
        obtain ⟨v8, ev8, hf⟩ := ob hf
        refine rd_callV (As := [.int ((16 : Int32) * p1)]) (rest := []) ⟨hx, hb, hml, hown, hts⟩ (mX3_excessAt l D k ma mi st rp tp cr cw ik ln lg ce ((16 : Int32) * p1) _ ev8) (cwV 1 hts (lw_V q1044 q1046 qs60 q94 q1047) rfl rfl rfl ⟨rfl, hdX3_excessAt⟩ ⟨Nat.le_of_ble_eq_true rfl, Nat.le_of_ble_eq_true rfl⟩) hK hP [0, 1, 2, 3, 4, 5, 6, 7, 8, 9] rfl 0 3 rfl rfl rfl hl.1 rfl (Nat.le_of_ble_eq_true rfl) dX3_block_38 ⟨Nat.le_of_ble_eq_true rfl, Nat.le_of_ble_eq_true rfl⟩ ?_
        refine lv_istore_n (lv' := [(3, .int v8), (0, .ref (ma 0)), (1, .int p1), (2, .int p2)]) hx hb dX3_block_41 rfl hl (by decide) rfl (fun ls hl => ?_)
        refine lv_iconst (v := 0) hx hb dX3_block_42 (by decide) ?_
        refine lv_istore (lv' := [(4, .int (0 : Int32)), (3, .int v8), (0, .ref (ma 0)), (1, .int p1), (2, .int p2)]) hx hb dX3_block_43 hl (by decide) rfl (fun ls hl => ?_)
        refine lv_sipush (v := 1000) hx hb dX3_block_45 (by decide) ?_
        refine lv_istore (lv' := [(5, .int (1000 : Int32)), (4, .int (0 : Int32)), (3, .int v8), (0, .ref (ma 0)), (1, .int p1), (2, .int p2)]) hx hb dX3_block_48 hl (by decide) rfl (fun ls hl => ?_)
        refine lv_sipush (v := (-1000)) hx hb dX3_block_50 (by decide) ?_
        refine lv_istore (lv' := [(6, .int (-1000 : Int32)), (5, .int (1000 : Int32)), (4, .int (0 : Int32)), (3, .int v8), (0, .ref (ma 0)), (1, .int p1), (2, .int p2)]) hx hb dX3_block_53 hl (by decide) rfl (fun ls hl => ?_)
        refine lv_bipush (v := 16) hx hb dX3_block_55 (by decide) ?_
        refine lv_iload_n hx hb dX3_block_57 rfl (lv_at hl 5 rfl) ?_
        refine lv_imul hx hb dX3_block_58 ?_
        obtain ⟨y10, ey10, hf⟩ := ob hf
        refine x_asI ey10 ?_
        refine lv_istore (lv' := [(7, .int y10), (6, .int (-1000 : Int32)), (5, .int (1000 : Int32)), (4, .int (0 : Int32)), (3, .int v8), (0, .ref (ma 0)), (1, .int p1), (2, .int p2)]) hx hb dX3_block_59 hl (by decide) rfl (fun ls hl => ?_)
        have hL61 : ∀ (nn : Nat) (x3_61 : Int32) (x4_61 : Int32) (x5_61 : Int32) (x6_61 : Int32) (x7_61 : Int32), fX3_block_L61 st p1 p2 nn x3_61 x4_61 x5_61 x6_61 x7_61 = some r → ∀ ls : Array Slot, lv_has ls 8 [(0, .ref (ma 0)), (1, .int p1), (2, .int p2), (3, .int x3_61), (4, .int x4_61), (5, .int x5_61), (6, .int x6_61), (7, .int x7_61)] → gR p l e rmX3_block s m [.ref (ma 0), .int p1, .int p2] below meth c (vp_Si (fun x => x = r)) 61 ls [] := by
          intro nn61
          induction nn61 with
          | zero =>
            intro x3_61 x4_61 x5_61 x6_61 x7_61 hf
            rw [fX3_block_L61] at hf; cases hf
          | succ nn61 ih61 =>
            intro x3_61 x4_61 x5_61 x6_61 x7_61 hf ls hl
            rw [fX3_block_L61] at hf
            refine lv_iload hx hb dX3_block_61 (lv_at hl 7 rfl) ?_
            refine lv_bipush (v := 16) hx hb dX3_block_63 (by decide) ?_
            refine lv_iload_n hx hb dX3_block_65 rfl (lv_at hl 1 rfl) ?_
            refine lv_imul hx hb dX3_block_66 ?_
            refine lv_bipush (v := 16) hx hb dX3_block_67 (by decide) ?_
            refine lv_iadd hx hb dX3_block_69 ?_
            have hB132 : ∀ (x4_132 : Int32) (x5_132 : Int32) (x6_132 : Int32), fX3_block_B132 st p1 p2 x4_132 x5_132 x6_132 = some r → ∀ ls : Array Slot, lv_has ls 8 [(2, .int p2), (4, .int x4_132), (5, .int x5_132), (6, .int x6_132)] → gR p l e rmX3_block s m [.ref (ma 0), .int p1, .int p2] below meth c (vp_Si (fun x => x = r)) 132 ls [] := by
              intro x4_132 x5_132 x6_132 hf ls hl
              unfold fX3_block_B132 at hf
              refine lv_bipush (v := 100) hx hb dX3_block_132 (by decide) ?_
              refine lv_iload_n hx hb dX3_block_134 rfl (lv_at hl 0 rfl) ?_
              refine lv_if_ne (tgt := 143) hx hb dX3_block_135 (by decide) (fun c12 => ?_) (fun c12 => ?_)
              · have hf := oi_f c12 hf
                refine lv_iload_n hx hb dX3_block_143 rfl (lv_at hl 0 rfl) ?_
                refine lv_iconst (v := 1) hx hb dX3_block_144 (by decide) ?_
                refine lv_icmp_ne (tgt := 153) hx hb dX3_block_145 (by decide) (fun c13 => ?_) (fun c13 => ?_)
                · have hf := oi_f c13 hf
                  refine lv_iload hx hb dX3_block_153 (lv_at hl 3 rfl) ?_
                  refine lv_iadd hx hb dX3_block_155 ?_
                  exact rd_iret hx hb hr hlk (Option.some.inj hf) dX3_block_156
                · have hf := oi_t c13 hf
                  refine lv_iload hx hb dX3_block_148 (lv_at hl 2 rfl) ?_
                  refine lv_goto (tgt := 155) hx hb dX3_block_150 (by decide) ?_
                  refine lv_iadd hx hb dX3_block_155 ?_
                  exact rd_iret hx hb hr hlk (Option.some.inj hf) dX3_block_156
              · have hf := oi_t c12 hf
                refine lv_iload hx hb dX3_block_138 (lv_at hl 1 rfl) ?_
                refine lv_goto (tgt := 155) hx hb dX3_block_140 (by decide) ?_
                refine lv_iadd hx hb dX3_block_155 ?_
                exact rd_iret hx hb hr hlk (Option.some.inj hf) dX3_block_156
            refine lv_icmp_ge (tgt := 132) hx hb dX3_block_70 (by decide) (fun c11 => ?_) (fun c11 => ?_)
            · have hf := oi_t c11 hf
              exact hB132 x4_61 x5_61 x6_61 hf ls (lv_sub hl [2, 4, 5, 6] rfl)
            · have hf := oi_f c11 hf
              refine lv_iload hx hb dX3_block_73 (lv_at hl 7 rfl) ?_
              refine lv_aload_n hx hb dX3_block_75 rfl (lv_at hl 0 rfl) ?_
              obtain ⟨v14, ev14, hf⟩ := ob hf
              refine rd_callV (As := []) (rest := [.int x7_61]) ⟨hx, hb, hml, hown, hts⟩ (mX3_places l D k ma mi st rp tp cr cw ik ln lg ce  _ ev14) (cwV 0 hts (lw_V q1036 q1038 qs58 q94 q1039) rfl rfl rfl ⟨rfl, hdX3_places⟩ ⟨Nat.le_of_ble_eq_true rfl, Nat.le_of_ble_eq_true rfl⟩) hK hP [0, 1, 2, 3, 4, 5, 6, 7, 8, 9] rfl 0 3 rfl rfl rfl hl.1 rfl (Nat.le_of_ble_eq_true rfl) dX3_block_76 ⟨Nat.le_of_ble_eq_true rfl, Nat.le_of_ble_eq_true rfl⟩ ?_
              refine lv_icmp_ge (tgt := 132) hx hb dX3_block_79 (by decide) (fun c16 => ?_) (fun c16 => ?_)
              · have hf := oi_t c16 hf
                exact hB132 x4_61 x5_61 x6_61 hf ls (lv_sub hl [2, 4, 5, 6] rfl)
              · have hf := oi_f c16 hf
                refine lv_aload_n hx hb dX3_block_82 rfl (lv_at hl 0 rfl) ?_
                refine lv_iload hx hb dX3_block_83 (lv_at hl 7 rfl) ?_
                refine lv_iconst (v := 1) hx hb dX3_block_85 (by decide) ?_
                refine lv_iadd hx hb dX3_block_86 ?_
                obtain ⟨v17, ev17, hf⟩ := ob hf
                refine rd_callV (As := [.int (x7_61 + (1 : Int32))]) (rest := []) ⟨hx, hb, hml, hown, hts⟩ (mX3_excessAt l D k ma mi st rp tp cr cw ik ln lg ce (x7_61 + (1 : Int32)) _ ev17) (cwV 1 hts (lw_V q1044 q1046 qs60 q94 q1047) rfl rfl rfl ⟨rfl, hdX3_excessAt⟩ ⟨Nat.le_of_ble_eq_true rfl, Nat.le_of_ble_eq_true rfl⟩) hK hP [0, 1, 2, 3, 4, 5, 6, 7, 8, 9] rfl 0 3 rfl rfl rfl hl.1 rfl (Nat.le_of_ble_eq_true rfl) dX3_block_87 ⟨Nat.le_of_ble_eq_true rfl, Nat.le_of_ble_eq_true rfl⟩ ?_
                refine lv_iload_n hx hb dX3_block_90 rfl (lv_at hl 3 rfl) ?_
                refine lv_isub hx hb dX3_block_91 ?_
                obtain ⟨y19, ey19, hf⟩ := ob hf
                refine x_asI ey19 ?_
                refine lv_istore (lv' := [(4, .int y19), (0, .ref (ma 0)), (1, .int p1), (2, .int p2), (3, .int x3_61), (5, .int x5_61), (6, .int x6_61), (7, .int x7_61)]) hx hb dX3_block_92 hl (by decide) rfl (fun ls hl => ?_)
                refine lv_iload hx hb dX3_block_94 (lv_at hl 0 rfl) ?_
                refine lv_iload hx hb dX3_block_96 (lv_at hl 5 rfl) ?_
                have hB108 : ∀ (x3_108 : Int32) (x4_108 : Int32) (x6_108 : Int32) (x7_108 : Int32) (s0_108 : Int32), fX3_block_B108 st p1 p2 (fX3_block_L61 st p1 p2 nn61) x3_108 x4_108 x6_108 x7_108 s0_108 = some r → ∀ ls : Array Slot, lv_has ls 8 [(0, .ref (ma 0)), (1, .int p1), (2, .int p2), (3, .int x3_108), (4, .int x4_108), (6, .int x6_108), (7, .int x7_108)] → gR p l e rmX3_block s m [.ref (ma 0), .int p1, .int p2] below meth c (vp_Si (fun x => x = r)) 108 ls [.int s0_108] := by
                  intro x3_108 x4_108 x6_108 x7_108 s0_108 hf ls hl
                  unfold fX3_block_B108 at hf
                  refine lv_istore (lv' := [(5, .int s0_108), (0, .ref (ma 0)), (1, .int p1), (2, .int p2), (3, .int x3_108), (4, .int x4_108), (6, .int x6_108), (7, .int x7_108)]) hx hb dX3_block_108 hl (by decide) rfl (fun ls hl => ?_)
                  refine lv_iload hx hb dX3_block_110 (lv_at hl 5 rfl) ?_
                  refine lv_iload hx hb dX3_block_112 (lv_at hl 6 rfl) ?_
                  have hB124 : ∀ (x3_124 : Int32) (x4_124 : Int32) (x5_124 : Int32) (x7_124 : Int32) (s0_124 : Int32), fX3_block_B124 st p1 p2 (fX3_block_L61 st p1 p2 nn61) x3_124 x4_124 x5_124 x7_124 s0_124 = some r → ∀ ls : Array Slot, lv_has ls 8 [(0, .ref (ma 0)), (1, .int p1), (2, .int p2), (3, .int x3_124), (4, .int x4_124), (5, .int x5_124), (7, .int x7_124)] → gR p l e rmX3_block s m [.ref (ma 0), .int p1, .int p2] below meth c (vp_Si (fun x => x = r)) 124 ls [.int s0_124] := by
                    intro x3_124 x4_124 x5_124 x7_124 s0_124 hf ls hl
                    unfold fX3_block_B124 at hf
                    refine lv_istore (lv' := [(6, .int s0_124), (0, .ref (ma 0)), (1, .int p1), (2, .int p2), (3, .int x3_124), (4, .int x4_124), (5, .int x5_124), (7, .int x7_124)]) hx hb dX3_block_124 hl (by decide) rfl (fun ls hl => ?_)
                    refine lv_iinc (v := (x7_124 + 1)) (lv' := [(7, .int (x7_124 + 1)), (6, .int s0_124), (0, .ref (ma 0)), (1, .int p1), (2, .int p2), (3, .int x3_124), (4, .int x4_124), (5, .int x5_124)]) hx hb dX3_block_126 hl (k := 7) rfl rfl (by decide) rfl (fun ls hl => ?_)
                    refine lv_goto (tgt := 61) hx hb dX3_block_129 (by decide) ?_
                    exact ih61 x3_124 x4_124 x5_124 s0_124 (x7_124 + 1) hf ls (lv_sub hl [2, 3, 4, 5, 6, 7, 1, 0] rfl)
                  refine lv_icmp_le (tgt := 122) hx hb dX3_block_114 (by decide) (fun c21 => ?_) (fun c21 => ?_)
                  · have hf := oi_t c21 hf
                    refine lv_iload hx hb dX3_block_122 (lv_at hl 6 rfl) ?_
                    exact hB124 x3_108 x4_108 s0_108 x7_108 x6_108 hf ls (lv_sub hl [1, 2, 3, 4, 5, 0, 7] rfl)
                  · have hf := oi_f c21 hf
                    refine lv_iload hx hb dX3_block_117 (lv_at hl 5 rfl) ?_
                    refine lv_goto (tgt := 124) hx hb dX3_block_119 (by decide) ?_
                    exact hB124 x3_108 x4_108 s0_108 x7_108 x4_108 hf ls (lv_sub hl [1, 2, 3, 4, 5, 0, 7] rfl)
                refine lv_icmp_ge (tgt := 106) hx hb dX3_block_98 (by decide) (fun c20 => ?_) (fun c20 => ?_)
                · have hf := oi_t c20 hf
                  refine lv_iload hx hb dX3_block_106 (lv_at hl 5 rfl) ?_
                  exact hB108 x3_61 y19 x6_61 x7_61 x5_61 hf ls (lv_sub hl [1, 2, 3, 4, 0, 6, 7] rfl)
                · have hf := oi_f c20 hf
                  refine lv_iload hx hb dX3_block_101 (lv_at hl 0 rfl) ?_
                  refine lv_goto (tgt := 108) hx hb dX3_block_103 (by decide) ?_
                  exact hB108 x3_61 y19 x6_61 x7_61 y19 hf ls (lv_sub hl [1, 2, 3, 4, 0, 6, 7] rfl)
        exact hL61 FU v8 (0 : Int32) (1000 : Int32) (-1000 : Int32) y10 hf ls (lv_sub hl [5, 6, 7, 4, 3, 2, 1, 0] rfl)
      · have hf := oi_t c7 hf
        refine lv_iconst (v := (-1)) hx hb dX3_block_31 (by decide) ?_
        exact rd_iret hx hb hr hlk (Option.some.inj hf) dX3_block_32

abbrev rmX3_sizeOf : Room := { frames := 1, cells := 0, slots := 0, locals := 23 }
theorem hdX3_sizeOf : yX3_sizeOf.cls ≠ "java/lang/invoke/MethodHandle" ∧ yX3_sizeOf.cls ≠ "java/lang/invoke/VarHandle" ∧ (parseMethodDescriptor yX3_sizeOf.desc).map (fun d => d.parameters.length) = some 1 := by decide +kernel
set_option maxHeartbeats 4000000 in
theorem mX3_sizeOf (l : Launch) (D : va_G) (k : Nat → ClassId) (ma : Nat → Nat) (mi : Nat → Int32) (st : Nat → Int32) (rp : Nat → Int32) (tp : Nat → Int32) (cr : Nat → Int32) (cw : Nat → Int32) (ik : Nat → Int32) (ln : Nat → Int32) (lg : Nat → Int32) (ce : Nat → Int64) (p1 : Int32) (r : Int32) (hf : fX3_sizeOf st p1 = some r) : CtI l yX3_sizeOf cX3_sizeOf 3 rmX3_sizeOf [.ref (ma 0), .int p1] D k (wM k ma mi st rp tp cr cw ik ln lg ce) r := by
  refine rd_start (by decide +kernel) (Nat.le_of_ble_eq_true rfl) ?_
  intro p e s m below meth c ls hx hb hr hlk hml hown hts hP hK hl
  have hl : lv_has ls 3 [(0, .ref (ma 0)), (1, .int p1)] := hl
  have hown : s.vm.findClass RX3 = some m.cls := hown
  unfold fX3_sizeOf at hf
  refine lv_aload_n hx hb dX3_sizeOf_0 rfl (lv_at hl 0 rfl) ?_
  refine lv_iload_n hx hb dX3_sizeOf_1 rfl (lv_at hl 1 rfl) ?_
  obtain ⟨v1, ev1, hf⟩ := ob hf
  refine rd_callV (As := [.int p1]) (rest := []) ⟨hx, hb, hml, hown, hts⟩ (mX3_openOf l D k ma mi st rp tp cr cw ik ln lg ce p1 _ ev1) (cwV 1 hts (lw_V q1115 q1117 qs67 q94 q1118) rfl rfl rfl ⟨rfl, hdX3_openOf⟩ ⟨Nat.le_of_ble_eq_true rfl, Nat.le_of_ble_eq_true rfl⟩) hK hP [0, 1, 2, 3, 4, 5, 6, 7, 8, 9] rfl 0 3 rfl rfl rfl hl.1 rfl (Nat.le_of_ble_eq_true rfl) dX3_sizeOf_2 ⟨Nat.le_of_ble_eq_true rfl, Nat.le_of_ble_eq_true rfl⟩ ?_
  refine lv_istore_n (lv' := [(2, .int v1), (0, .ref (ma 0)), (1, .int p1)]) hx hb dX3_sizeOf_5 rfl hl (by decide) rfl (fun ls hl => ?_)
  refine lv_aload_n hx hb dX3_sizeOf_6 rfl (lv_at hl 1 rfl) ?_
  refine lv_iload_n hx hb dX3_sizeOf_7 rfl (lv_at hl 0 rfl) ?_
  obtain ⟨v3, ev3, hf⟩ := ob hf
  refine rd_callV (As := [.int v1]) (rest := []) ⟨hx, hb, hml, hown, hts⟩ (mX3_shutOf l D k ma mi st rp tp cr cw ik ln lg ce v1 _ ev3) (cwV 1 hts (lw_V q1089 q1091 qs64 q94 q1092) rfl rfl rfl ⟨rfl, hdX3_shutOf⟩ ⟨Nat.le_of_ble_eq_true rfl, Nat.le_of_ble_eq_true rfl⟩) hK hP [0, 1, 2, 3, 4, 5, 6, 7, 8, 9] rfl 0 3 rfl rfl rfl hl.1 rfl (Nat.le_of_ble_eq_true rfl) dX3_sizeOf_8 ⟨Nat.le_of_ble_eq_true rfl, Nat.le_of_ble_eq_true rfl⟩ ?_
  refine lv_iload_n hx hb dX3_sizeOf_11 rfl (lv_at hl 0 rfl) ?_
  refine lv_isub hx hb dX3_sizeOf_12 ?_
  refine lv_iconst (v := 1) hx hb dX3_sizeOf_13 (by decide) ?_
  refine lv_iadd hx hb dX3_sizeOf_14 ?_
  refine lv_iconst (v := 2) hx hb dX3_sizeOf_15 (by decide) ?_
  refine lv_idiv hx hb dX3_sizeOf_16 (by decide) ?_
  exact rd_iret hx hb hr hlk (Option.some.inj hf) dX3_sizeOf_17

abbrev rmX3_upFrom : Room := { frames := 2, cells := 0, slots := 0, locals := 44 }
theorem hdX3_upFrom : yX3_upFrom.cls ≠ "java/lang/invoke/MethodHandle" ∧ yX3_upFrom.cls ≠ "java/lang/invoke/VarHandle" ∧ (parseMethodDescriptor yX3_upFrom.desc).map (fun d => d.parameters.length) = some 2 := by decide +kernel
set_option maxHeartbeats 4000000 in
theorem mX3_upFrom (l : Launch) (D : va_G) (k : Nat → ClassId) (ma : Nat → Nat) (mi : Nat → Int32) (st : Nat → Int32) (rp : Nat → Int32) (tp : Nat → Int32) (cr : Nat → Int32) (cw : Nat → Int32) (ik : Nat → Int32) (ln : Nat → Int32) (lg : Nat → Int32) (ce : Nat → Int64) (p1 : Int32) (p2 : Int32) (r : Int32) (hf : fX3_upFrom st p1 p2 = some r) : CtI l yX3_upFrom cX3_upFrom 7 rmX3_upFrom [.ref (ma 0), .int p1, .int p2] D k (wM k ma mi st rp tp cr cw ik ln lg ce) r := by
  refine rd_start (by decide +kernel) (Nat.le_of_ble_eq_true rfl) ?_
  intro p e s m below meth c ls hx hb hr hlk hml hown hts hP hK hl
  have hl : lv_has ls 7 [(0, .ref (ma 0)), (1, .int p1), (2, .int p2)] := hl
  have hown : s.vm.findClass RX3 = some m.cls := hown
  unfold fX3_upFrom at hf
  refine lv_iload_n hx hb dX3_upFrom_0 rfl (lv_at hl 1 rfl) ?_
  refine lv_istore_n (lv' := [(3, .int p1), (0, .ref (ma 0)), (1, .int p1), (2, .int p2)]) hx hb dX3_upFrom_1 rfl hl (by decide) rfl (fun ls hl => ?_)
  refine lv_iconst (v := 0) hx hb dX3_upFrom_2 (by decide) ?_
  refine lv_istore (lv' := [(4, .int (0 : Int32)), (3, .int p1), (0, .ref (ma 0)), (1, .int p1), (2, .int p2)]) hx hb dX3_upFrom_3 hl (by decide) rfl (fun ls hl => ?_)
  have hL5 : ∀ (nn : Nat) (x3_5 : Int32) (x4_5 : Int32), fX3_upFrom_L5 st p1 p2 nn x3_5 x4_5 = some r → ∀ ls : Array Slot, lv_has ls 7 [(0, .ref (ma 0)), (2, .int p2), (3, .int x3_5), (4, .int x4_5)] → gR p l e rmX3_upFrom s m [.ref (ma 0), .int p1, .int p2] below meth c (vp_Si (fun x => x = r)) 5 ls [] := by
    intro nn5
    induction nn5 with
    | zero =>
      intro x3_5 x4_5 hf
      rw [fX3_upFrom_L5] at hf; cases hf
    | succ nn5 ih5 =>
      intro x3_5 x4_5 hf ls hl
      rw [fX3_upFrom_L5] at hf
      refine lv_iload hx hb dX3_upFrom_5 (lv_at hl 3 rfl) ?_
      refine lv_iload_n hx hb dX3_upFrom_7 rfl (lv_at hl 1 rfl) ?_
      refine lv_icmp_ge (tgt := 72) hx hb dX3_upFrom_8 (by decide) (fun c1 => ?_) (fun c1 => ?_)
      · have hf := oi_t c1 hf
        refine lv_iload_n hx hb dX3_upFrom_72 rfl (lv_at hl 2 rfl) ?_
        exact rd_iret hx hb hr hlk (Option.some.inj hf) dX3_upFrom_73
      · have hf := oi_f c1 hf
        refine lv_iload_n hx hb dX3_upFrom_11 rfl (lv_at hl 2 rfl) ?_
        refine lv_bipush (v := (-4)) hx hb dX3_upFrom_12 (by decide) ?_
        refine lv_icmp_eq (tgt := 72) hx hb dX3_upFrom_14 (by decide) (fun c2 => ?_) (fun c2 => ?_)
        · have hf := oi_t c2 hf
          refine lv_iload_n hx hb dX3_upFrom_72 rfl (lv_at hl 2 rfl) ?_
          exact rd_iret hx hb hr hlk (Option.some.inj hf) dX3_upFrom_73
        · have hf := oi_f c2 hf
          refine lv_aload_n hx hb dX3_upFrom_17 rfl (lv_at hl 0 rfl) ?_
          refine lv_iload_n hx hb dX3_upFrom_18 rfl (lv_at hl 2 rfl) ?_
          obtain ⟨v3, ev3, hf⟩ := ob hf
          refine rd_callV (As := [.int x3_5]) (rest := []) ⟨hx, hb, hml, hown, hts⟩ (mX3_depthOf l D k ma mi st rp tp cr cw ik ln lg ce x3_5 _ ev3) (cwV 1 hts (lw_V q1123 q1125 qs69 q94 q1126) rfl rfl rfl ⟨rfl, hdX3_depthOf⟩ ⟨Nat.le_of_ble_eq_true rfl, Nat.le_of_ble_eq_true rfl⟩) hK hP [0, 1, 2, 3, 4, 5, 6, 7, 8, 9] rfl 0 3 rfl rfl rfl hl.1 rfl (Nat.le_of_ble_eq_true rfl) dX3_upFrom_19 ⟨Nat.le_of_ble_eq_true rfl, Nat.le_of_ble_eq_true rfl⟩ ?_
          refine lv_istore (lv' := [(5, .int v3), (0, .ref (ma 0)), (2, .int p2), (3, .int x3_5), (4, .int x4_5)]) hx hb dX3_upFrom_22 hl (by decide) rfl (fun ls hl => ?_)
          refine lv_iload_n hx hb dX3_upFrom_24 rfl (lv_at hl 3 rfl) ?_
          refine lv_iconst (v := 1) hx hb dX3_upFrom_25 (by decide) ?_
          refine lv_isub hx hb dX3_upFrom_26 ?_
          obtain ⟨y5, ey5, hf⟩ := ob hf
          refine x_asI ey5 ?_
          refine lv_istore (lv' := [(6, .int y5), (5, .int v3), (0, .ref (ma 0)), (2, .int p2), (3, .int x3_5), (4, .int x4_5)]) hx hb dX3_upFrom_27 hl (by decide) rfl (fun ls hl => ?_)
          have hL29 : ∀ (nn : Nat) (x4_29 : Int32) (x5_29 : Int32) (x6_29 : Int32), fX3_upFrom_L29 st p1 p2 (fX3_upFrom_L5 st p1 p2 nn5) nn x4_29 x5_29 x6_29 = some r → ∀ ls : Array Slot, lv_has ls 7 [(0, .ref (ma 0)), (2, .int p2), (4, .int x4_29), (5, .int x5_29), (6, .int x6_29)] → gR p l e rmX3_upFrom s m [.ref (ma 0), .int p1, .int p2] below meth c (vp_Si (fun x => x = r)) 29 ls [] := by
            intro nn29
            induction nn29 with
            | zero =>
              intro x4_29 x5_29 x6_29 hf
              rw [fX3_upFrom_L29] at hf; cases hf
            | succ nn29 ih29 =>
              intro x4_29 x5_29 x6_29 hf ls hl
              rw [fX3_upFrom_L29] at hf
              refine lv_iload hx hb dX3_upFrom_29 (lv_at hl 4 rfl) ?_
              have hB53 : ∀ (x4_53 : Int32) (x6_53 : Int32), fX3_upFrom_B53 st p1 p2 (fX3_upFrom_L5 st p1 p2 nn5) x4_53 x6_53 = some r → ∀ ls : Array Slot, lv_has ls 7 [(0, .ref (ma 0)), (2, .int p2), (4, .int x4_53), (6, .int x6_53)] → gR p l e rmX3_upFrom s m [.ref (ma 0), .int p1, .int p2] below meth c (vp_Si (fun x => x = r)) 53 ls [] := by
                intro x4_53 x6_53 hf ls hl
                unfold fX3_upFrom_B53 at hf
                refine lv_iload hx hb dX3_upFrom_53 (lv_at hl 3 rfl) ?_
                have hB65 : ∀ (x4_65 : Int32) (s0_65 : Int32), fX3_upFrom_B65 st p1 p2 (fX3_upFrom_L5 st p1 p2 nn5) x4_65 s0_65 = some r → ∀ ls : Array Slot, lv_has ls 7 [(0, .ref (ma 0)), (2, .int p2), (4, .int x4_65)] → gR p l e rmX3_upFrom s m [.ref (ma 0), .int p1, .int p2] below meth c (vp_Si (fun x => x = r)) 65 ls [.int s0_65] := by
                  intro x4_65 s0_65 hf ls hl
                  unfold fX3_upFrom_B65 at hf
                  refine lv_istore_n (lv' := [(3, .int s0_65), (0, .ref (ma 0)), (2, .int p2), (4, .int x4_65)]) hx hb dX3_upFrom_65 rfl hl (by decide) rfl (fun ls hl => ?_)
                  refine lv_iinc (v := (x4_65 + 1)) (lv' := [(4, .int (x4_65 + 1)), (3, .int s0_65), (0, .ref (ma 0)), (2, .int p2)]) hx hb dX3_upFrom_66 hl (k := 3) rfl rfl (by decide) rfl (fun ls hl => ?_)
                  refine lv_goto (tgt := 5) hx hb dX3_upFrom_69 (by decide) ?_
                  exact ih5 s0_65 (x4_65 + 1) hf ls (lv_sub hl [2, 3, 1, 0] rfl)
                refine lv_if_ge (tgt := 63) hx hb dX3_upFrom_55 (by decide) (fun c7 => ?_) (fun c7 => ?_)
                · have hf := oi_t c7 hf
                  refine lv_iload hx hb dX3_upFrom_63 (lv_at hl 3 rfl) ?_
                  exact hB65 x4_53 x6_53 hf ls (lv_sub hl [0, 1, 2] rfl)
                · have hf := oi_f c7 hf
                  refine lv_bipush (v := (-4)) hx hb dX3_upFrom_58 (by decide) ?_
                  refine lv_goto (tgt := 65) hx hb dX3_upFrom_60 (by decide) ?_
                  exact hB65 x4_53 (-4 : Int32) hf ls (lv_sub hl [0, 1, 2] rfl)
              refine lv_if_lt (tgt := 53) hx hb dX3_upFrom_31 (by decide) (fun c6 => ?_) (fun c6 => ?_)
              · have hf := oi_t c6 hf
                exact hB53 x4_29 x6_29 hf ls (lv_sub hl [0, 1, 2, 4] rfl)
              · have hf := oi_f c6 hf
                refine lv_aload_n hx hb dX3_upFrom_34 rfl (lv_at hl 0 rfl) ?_
                refine lv_iload hx hb dX3_upFrom_35 (lv_at hl 4 rfl) ?_
                obtain ⟨v8, ev8, hf⟩ := ob hf
                refine rd_callV (As := [.int x6_29]) (rest := []) ⟨hx, hb, hml, hown, hts⟩ (mX3_depthOf l D k ma mi st rp tp cr cw ik ln lg ce x6_29 _ ev8) (cwV 1 hts (lw_V q1123 q1125 qs69 q94 q1126) rfl rfl rfl ⟨rfl, hdX3_depthOf⟩ ⟨Nat.le_of_ble_eq_true rfl, Nat.le_of_ble_eq_true rfl⟩) hK hP [0, 1, 2, 3, 4, 5, 6, 7, 8, 9] rfl 0 3 rfl rfl rfl hl.1 rfl (Nat.le_of_ble_eq_true rfl) dX3_upFrom_37 ⟨Nat.le_of_ble_eq_true rfl, Nat.le_of_ble_eq_true rfl⟩ ?_
                refine lv_iload hx hb dX3_upFrom_40 (lv_at hl 3 rfl) ?_
                refine lv_iconst (v := 1) hx hb dX3_upFrom_42 (by decide) ?_
                refine lv_isub hx hb dX3_upFrom_43 ?_
                refine lv_icmp_eq (tgt := 53) hx hb dX3_upFrom_44 (by decide) (fun c10 => ?_) (fun c10 => ?_)
                · have hf := oi_t c10 hf
                  exact hB53 x4_29 x6_29 hf ls (lv_sub hl [0, 1, 2, 4] rfl)
                · have hf := oi_f c10 hf
                  refine lv_iinc (v := (x6_29 + (-1))) (lv' := [(6, .int (x6_29 + (-1))), (0, .ref (ma 0)), (2, .int p2), (4, .int x4_29), (5, .int x5_29)]) hx hb dX3_upFrom_47 hl (k := 4) rfl rfl (by decide) rfl (fun ls hl => ?_)
                  refine lv_goto (tgt := 29) hx hb dX3_upFrom_50 (by decide) ?_
                  exact ih29 x4_29 x5_29 (x6_29 + (-1)) hf ls (lv_sub hl [1, 2, 3, 4, 0] rfl)
          exact hL29 FU x4_5 v3 y5 hf ls (lv_sub hl [2, 3, 5, 1, 0] rfl)
  exact hL5 FU p1 (0 : Int32) hf ls (lv_sub hl [2, 4, 1, 0] rfl)

abbrev rmX3_childrenOf : Room := { frames := 2, cells := 0, slots := 0, locals := 45 }
theorem hdX3_childrenOf : yX3_childrenOf.cls ≠ "java/lang/invoke/MethodHandle" ∧ yX3_childrenOf.cls ≠ "java/lang/invoke/VarHandle" ∧ (parseMethodDescriptor yX3_childrenOf.desc).map (fun d => d.parameters.length) = some 1 := by decide +kernel
set_option maxHeartbeats 4000000 in
theorem mX3_childrenOf (l : Launch) (D : va_G) (k : Nat → ClassId) (ma : Nat → Nat) (mi : Nat → Int32) (st : Nat → Int32) (rp : Nat → Int32) (tp : Nat → Int32) (cr : Nat → Int32) (cw : Nat → Int32) (ik : Nat → Int32) (ln : Nat → Int32) (lg : Nat → Int32) (ce : Nat → Int64) (p1 : Int32) (r : Int32) (hf : fX3_childrenOf st p1 = some r) : CtI l yX3_childrenOf cX3_childrenOf 4 rmX3_childrenOf [.ref (ma 0), .int p1] D k (wM k ma mi st rp tp cr cw ik ln lg ce) r := by
  refine rd_start (by decide +kernel) (Nat.le_of_ble_eq_true rfl) ?_
  intro p e s m below meth c ls hx hb hr hlk hml hown hts hP hK hl
  have hl : lv_has ls 4 [(0, .ref (ma 0)), (1, .int p1)] := hl
  have hown : s.vm.findClass RX3 = some m.cls := hown
  unfold fX3_childrenOf at hf
  refine lv_iconst (v := 0) hx hb dX3_childrenOf_0 (by decide) ?_
  refine lv_istore_n (lv' := [(2, .int (0 : Int32)), (0, .ref (ma 0)), (1, .int p1)]) hx hb dX3_childrenOf_1 rfl hl (by decide) rfl (fun ls hl => ?_)
  refine lv_iload_n hx hb dX3_childrenOf_2 rfl (lv_at hl 2 rfl) ?_
  refine lv_iconst (v := 1) hx hb dX3_childrenOf_3 (by decide) ?_
  refine lv_iadd hx hb dX3_childrenOf_4 ?_
  obtain ⟨y1, ey1, hf⟩ := ob hf
  refine x_asI ey1 ?_
  refine lv_istore_n (lv' := [(3, .int y1), (2, .int (0 : Int32)), (0, .ref (ma 0)), (1, .int p1)]) hx hb dX3_childrenOf_5 rfl hl (by decide) rfl (fun ls hl => ?_)
  have hL6 : ∀ (nn : Nat) (x2_6 : Int32) (x3_6 : Int32), fX3_childrenOf_L6 st p1 nn x2_6 x3_6 = some r → ∀ ls : Array Slot, lv_has ls 4 [(0, .ref (ma 0)), (1, .int p1), (2, .int x2_6), (3, .int x3_6)] → gR p l e rmX3_childrenOf s m [.ref (ma 0), .int p1] below meth c (vp_Si (fun x => x = r)) 6 ls [] := by
    intro nn6
    induction nn6 with
    | zero =>
      intro x2_6 x3_6 hf
      rw [fX3_childrenOf_L6] at hf; cases hf
    | succ nn6 ih6 =>
      intro x2_6 x3_6 hf ls hl
      rw [fX3_childrenOf_L6] at hf
      refine lv_iload_n hx hb dX3_childrenOf_6 rfl (lv_at hl 3 rfl) ?_
      refine lv_iload_n hx hb dX3_childrenOf_7 rfl (lv_at hl 1 rfl) ?_
      refine lv_aload_n hx hb dX3_childrenOf_8 rfl (lv_at hl 0 rfl) ?_
      refine lv_iload_n hx hb dX3_childrenOf_9 rfl (lv_at hl 1 rfl) ?_
      obtain ⟨v2, ev2, hf⟩ := ob hf
      refine rd_callV (As := [.int p1]) (rest := [.int p1, .int x3_6]) ⟨hx, hb, hml, hown, hts⟩ (mX3_sizeOf l D k ma mi st rp tp cr cw ik ln lg ce p1 _ ev2) (cwV 1 hts (lw_V q1131 q1133 qs71 q94 q1134) rfl rfl rfl ⟨rfl, hdX3_sizeOf⟩ ⟨Nat.le_of_ble_eq_true rfl, Nat.le_of_ble_eq_true rfl⟩) hK hP [0, 1, 2, 3, 4, 5, 6, 7, 8, 9] rfl 0 3 rfl rfl rfl hl.1 rfl (Nat.le_of_ble_eq_true rfl) dX3_childrenOf_10 ⟨Nat.le_of_ble_eq_true rfl, Nat.le_of_ble_eq_true rfl⟩ ?_
      refine lv_iadd hx hb dX3_childrenOf_13 ?_
      refine lv_icmp_ge (tgt := 46) hx hb dX3_childrenOf_14 (by decide) (fun c4 => ?_) (fun c4 => ?_)
      · have hf := oi_t c4 hf
        refine lv_iload_n hx hb dX3_childrenOf_46 rfl (lv_at hl 2 rfl) ?_
        exact rd_iret hx hb hr hlk (Option.some.inj hf) dX3_childrenOf_47
      · have hf := oi_f c4 hf
        refine lv_iload_n hx hb dX3_childrenOf_17 rfl (lv_at hl 2 rfl) ?_
        refine lv_aload_n hx hb dX3_childrenOf_18 rfl (lv_at hl 0 rfl) ?_
        refine lv_iload_n hx hb dX3_childrenOf_19 rfl (lv_at hl 3 rfl) ?_
        obtain ⟨v5, ev5, hf⟩ := ob hf
        refine rd_callV (As := [.int x3_6]) (rest := [.int x2_6]) ⟨hx, hb, hml, hown, hts⟩ (mX3_depthOf l D k ma mi st rp tp cr cw ik ln lg ce x3_6 _ ev5) (cwV 1 hts (lw_V q1123 q1125 qs69 q94 q1126) rfl rfl rfl ⟨rfl, hdX3_depthOf⟩ ⟨Nat.le_of_ble_eq_true rfl, Nat.le_of_ble_eq_true rfl⟩) hK hP [0, 1, 2, 3, 4, 5, 6, 7, 8, 9] rfl 0 3 rfl rfl rfl hl.1 rfl (Nat.le_of_ble_eq_true rfl) dX3_childrenOf_20 ⟨Nat.le_of_ble_eq_true rfl, Nat.le_of_ble_eq_true rfl⟩ ?_
        refine lv_aload_n hx hb dX3_childrenOf_23 rfl (lv_at hl 0 rfl) ?_
        refine lv_iload_n hx hb dX3_childrenOf_24 rfl (lv_at hl 1 rfl) ?_
        obtain ⟨v7, ev7, hf⟩ := ob hf
        refine rd_callV (As := [.int p1]) (rest := [.int v5, .int x2_6]) ⟨hx, hb, hml, hown, hts⟩ (mX3_depthOf l D k ma mi st rp tp cr cw ik ln lg ce p1 _ ev7) (cwV 1 hts (lw_V q1123 q1125 qs69 q94 q1126) rfl rfl rfl ⟨rfl, hdX3_depthOf⟩ ⟨Nat.le_of_ble_eq_true rfl, Nat.le_of_ble_eq_true rfl⟩) hK hP [0, 1, 2, 3, 4, 5, 6, 7, 8, 9] rfl 0 3 rfl rfl rfl hl.1 rfl (Nat.le_of_ble_eq_true rfl) dX3_childrenOf_25 ⟨Nat.le_of_ble_eq_true rfl, Nat.le_of_ble_eq_true rfl⟩ ?_
        refine lv_iconst (v := 1) hx hb dX3_childrenOf_28 (by decide) ?_
        refine lv_iadd hx hb dX3_childrenOf_29 ?_
        have hB38 : ∀ (x3_38 : Int32) (s0_38 : Int32) (s1_38 : Int32), fX3_childrenOf_B38 st p1 (fX3_childrenOf_L6 st p1 nn6) x3_38 s0_38 s1_38 = some r → ∀ ls : Array Slot, lv_has ls 4 [(0, .ref (ma 0)), (1, .int p1), (3, .int x3_38)] → gR p l e rmX3_childrenOf s m [.ref (ma 0), .int p1] below meth c (vp_Si (fun x => x = r)) 38 ls [.int s0_38, .int s1_38] := by
          intro x3_38 s0_38 s1_38 hf ls hl
          unfold fX3_childrenOf_B38 at hf
          refine lv_iadd hx hb dX3_childrenOf_38 ?_
          obtain ⟨y10, ey10, hf⟩ := ob hf
          refine x_asI ey10 ?_
          refine lv_istore_n (lv' := [(2, .int y10), (0, .ref (ma 0)), (1, .int p1), (3, .int x3_38)]) hx hb dX3_childrenOf_39 rfl hl (by decide) rfl (fun ls hl => ?_)
          refine lv_iinc (v := (x3_38 + 1)) (lv' := [(3, .int (x3_38 + 1)), (2, .int y10), (0, .ref (ma 0)), (1, .int p1)]) hx hb dX3_childrenOf_40 hl (k := 3) rfl rfl (by decide) rfl (fun ls hl => ?_)
          refine lv_goto (tgt := 6) hx hb dX3_childrenOf_43 (by decide) ?_
          exact ih6 y10 (x3_38 + 1) hf ls (lv_sub hl [2, 3, 1, 0] rfl)
        refine lv_icmp_ne (tgt := 37) hx hb dX3_childrenOf_30 (by decide) (fun c9 => ?_) (fun c9 => ?_)
        · have hf := oi_f c9 hf
          refine lv_iconst (v := 0) hx hb dX3_childrenOf_37 (by decide) ?_
          exact hB38 x3_6 (0 : Int32) x2_6 hf ls (lv_sub hl [0, 1, 3] rfl)
        · have hf := oi_t c9 hf
          refine lv_iconst (v := 1) hx hb dX3_childrenOf_33 (by decide) ?_
          refine lv_goto (tgt := 38) hx hb dX3_childrenOf_34 (by decide) ?_
          exact hB38 x3_6 (1 : Int32) x2_6 hf ls (lv_sub hl [0, 1, 3] rfl)
  exact hL6 FU (0 : Int32) y1 hf ls (lv_sub hl [2, 3, 1, 0] rfl)

abbrev rmX3_childOf : Room := { frames := 2, cells := 0, slots := 0, locals := 45 }
theorem hdX3_childOf : yX3_childOf.cls ≠ "java/lang/invoke/MethodHandle" ∧ yX3_childOf.cls ≠ "java/lang/invoke/VarHandle" ∧ (parseMethodDescriptor yX3_childOf.desc).map (fun d => d.parameters.length) = some 2 := by decide +kernel
set_option maxHeartbeats 4000000 in
theorem mX3_childOf (l : Launch) (D : va_G) (k : Nat → ClassId) (ma : Nat → Nat) (mi : Nat → Int32) (st : Nat → Int32) (rp : Nat → Int32) (tp : Nat → Int32) (cr : Nat → Int32) (cw : Nat → Int32) (ik : Nat → Int32) (ln : Nat → Int32) (lg : Nat → Int32) (ce : Nat → Int64) (p1 : Int32) (p2 : Int32) (r : Int32) (hf : fX3_childOf st p1 p2 = some r) : CtI l yX3_childOf cX3_childOf 5 rmX3_childOf [.ref (ma 0), .int p1, .int p2] D k (wM k ma mi st rp tp cr cw ik ln lg ce) r := by
  refine rd_start (by decide +kernel) (Nat.le_of_ble_eq_true rfl) ?_
  intro p e s m below meth c ls hx hb hr hlk hml hown hts hP hK hl
  have hl : lv_has ls 5 [(0, .ref (ma 0)), (1, .int p1), (2, .int p2)] := hl
  have hown : s.vm.findClass RX3 = some m.cls := hown
  unfold fX3_childOf at hf
  refine lv_iload_n hx hb dX3_childOf_0 rfl (lv_at hl 2 rfl) ?_
  refine lv_istore_n (lv' := [(3, .int p2), (0, .ref (ma 0)), (1, .int p1), (2, .int p2)]) hx hb dX3_childOf_1 rfl hl (by decide) rfl (fun ls hl => ?_)
  refine lv_iload_n hx hb dX3_childOf_2 rfl (lv_at hl 2 rfl) ?_
  refine lv_iconst (v := 1) hx hb dX3_childOf_3 (by decide) ?_
  refine lv_iadd hx hb dX3_childOf_4 ?_
  obtain ⟨y1, ey1, hf⟩ := ob hf
  refine x_asI ey1 ?_
  refine lv_istore (lv' := [(4, .int y1), (3, .int p2), (0, .ref (ma 0)), (1, .int p1), (2, .int p2)]) hx hb dX3_childOf_5 hl (by decide) rfl (fun ls hl => ?_)
  have hL7 : ∀ (nn : Nat) (x3_7 : Int32) (x4_7 : Int32), fX3_childOf_L7 st p1 p2 nn x3_7 x4_7 = some r → ∀ ls : Array Slot, lv_has ls 5 [(0, .ref (ma 0)), (1, .int p1), (3, .int x3_7), (4, .int x4_7)] → gR p l e rmX3_childOf s m [.ref (ma 0), .int p1, .int p2] below meth c (vp_Si (fun x => x = r)) 7 ls [] := by
    intro nn7
    induction nn7 with
    | zero =>
      intro x3_7 x4_7 hf
      rw [fX3_childOf_L7] at hf; cases hf
    | succ nn7 ih7 =>
      intro x3_7 x4_7 hf ls hl
      rw [fX3_childOf_L7] at hf
      refine lv_iload hx hb dX3_childOf_7 (lv_at hl 3 rfl) ?_
      refine lv_iload_n hx hb dX3_childOf_9 rfl (lv_at hl 1 rfl) ?_
      refine lv_aload_n hx hb dX3_childOf_10 rfl (lv_at hl 0 rfl) ?_
      refine lv_iload_n hx hb dX3_childOf_11 rfl (lv_at hl 1 rfl) ?_
      obtain ⟨v2, ev2, hf⟩ := ob hf
      refine rd_callV (As := [.int p1]) (rest := [.int p1, .int x4_7]) ⟨hx, hb, hml, hown, hts⟩ (mX3_sizeOf l D k ma mi st rp tp cr cw ik ln lg ce p1 _ ev2) (cwV 1 hts (lw_V q1131 q1133 qs71 q94 q1134) rfl rfl rfl ⟨rfl, hdX3_sizeOf⟩ ⟨Nat.le_of_ble_eq_true rfl, Nat.le_of_ble_eq_true rfl⟩) hK hP [0, 1, 2, 3, 4, 5, 6, 7, 8, 9] rfl 0 3 rfl rfl rfl hl.1 rfl (Nat.le_of_ble_eq_true rfl) dX3_childOf_12 ⟨Nat.le_of_ble_eq_true rfl, Nat.le_of_ble_eq_true rfl⟩ ?_
      refine lv_iadd hx hb dX3_childOf_15 ?_
      refine lv_icmp_ge (tgt := 51) hx hb dX3_childOf_16 (by decide) (fun c4 => ?_) (fun c4 => ?_)
      · have hf := oi_t c4 hf
        refine lv_bipush (v := (-4)) hx hb dX3_childOf_51 (by decide) ?_
        exact rd_iret hx hb hr hlk (Option.some.inj hf) dX3_childOf_53
      · have hf := oi_f c4 hf
        refine lv_aload_n hx hb dX3_childOf_19 rfl (lv_at hl 0 rfl) ?_
        refine lv_iload hx hb dX3_childOf_20 (lv_at hl 3 rfl) ?_
        obtain ⟨v5, ev5, hf⟩ := ob hf
        refine rd_callV (As := [.int x4_7]) (rest := []) ⟨hx, hb, hml, hown, hts⟩ (mX3_depthOf l D k ma mi st rp tp cr cw ik ln lg ce x4_7 _ ev5) (cwV 1 hts (lw_V q1123 q1125 qs69 q94 q1126) rfl rfl rfl ⟨rfl, hdX3_depthOf⟩ ⟨Nat.le_of_ble_eq_true rfl, Nat.le_of_ble_eq_true rfl⟩) hK hP [0, 1, 2, 3, 4, 5, 6, 7, 8, 9] rfl 0 3 rfl rfl rfl hl.1 rfl (Nat.le_of_ble_eq_true rfl) dX3_childOf_22 ⟨Nat.le_of_ble_eq_true rfl, Nat.le_of_ble_eq_true rfl⟩ ?_
        refine lv_aload_n hx hb dX3_childOf_25 rfl (lv_at hl 0 rfl) ?_
        refine lv_iload_n hx hb dX3_childOf_26 rfl (lv_at hl 1 rfl) ?_
        obtain ⟨v7, ev7, hf⟩ := ob hf
        refine rd_callV (As := [.int p1]) (rest := [.int v5]) ⟨hx, hb, hml, hown, hts⟩ (mX3_depthOf l D k ma mi st rp tp cr cw ik ln lg ce p1 _ ev7) (cwV 1 hts (lw_V q1123 q1125 qs69 q94 q1126) rfl rfl rfl ⟨rfl, hdX3_depthOf⟩ ⟨Nat.le_of_ble_eq_true rfl, Nat.le_of_ble_eq_true rfl⟩) hK hP [0, 1, 2, 3, 4, 5, 6, 7, 8, 9] rfl 0 3 rfl rfl rfl hl.1 rfl (Nat.le_of_ble_eq_true rfl) dX3_childOf_27 ⟨Nat.le_of_ble_eq_true rfl, Nat.le_of_ble_eq_true rfl⟩ ?_
        refine lv_iconst (v := 1) hx hb dX3_childOf_30 (by decide) ?_
        refine lv_iadd hx hb dX3_childOf_31 ?_
        have hB45 : ∀ (x3_45 : Int32) (x4_45 : Int32), fX3_childOf_B45 st p1 p2 (fX3_childOf_L7 st p1 p2 nn7) x3_45 x4_45 = some r → ∀ ls : Array Slot, lv_has ls 5 [(0, .ref (ma 0)), (1, .int p1), (3, .int x3_45), (4, .int x4_45)] → gR p l e rmX3_childOf s m [.ref (ma 0), .int p1, .int p2] below meth c (vp_Si (fun x => x = r)) 45 ls [] := by
          intro x3_45 x4_45 hf ls hl
          unfold fX3_childOf_B45 at hf
          refine lv_iinc (v := (x4_45 + 1)) (lv' := [(4, .int (x4_45 + 1)), (0, .ref (ma 0)), (1, .int p1), (3, .int x3_45)]) hx hb dX3_childOf_45 hl (k := 3) rfl rfl (by decide) rfl (fun ls hl => ?_)
          refine lv_goto (tgt := 7) hx hb dX3_childOf_48 (by decide) ?_
          exact ih7 x3_45 (x4_45 + 1) hf ls (lv_sub hl [1, 2, 3, 0] rfl)
        refine lv_icmp_ne (tgt := 45) hx hb dX3_childOf_32 (by decide) (fun c9 => ?_) (fun c9 => ?_)
        · have hf := oi_f c9 hf
          exact hB45 x3_7 x4_7 hf ls (lv_sub hl [0, 1, 2, 3] rfl)
        · have hf := oi_t c9 hf
          refine lv_iload_n hx hb dX3_childOf_35 rfl (lv_at hl 2 rfl) ?_
          refine lv_if_ne (tgt := 42) hx hb dX3_childOf_36 (by decide) (fun c10 => ?_) (fun c10 => ?_)
          · have hf := oi_f c10 hf
            refine lv_iinc (v := (x3_7 + (-1))) (lv' := [(3, .int (x3_7 + (-1))), (0, .ref (ma 0)), (1, .int p1), (4, .int x4_7)]) hx hb dX3_childOf_42 hl (k := 2) rfl rfl (by decide) rfl (fun ls hl => ?_)
            exact hB45 (x3_7 + (-1)) x4_7 hf ls (lv_sub hl [1, 2, 0, 3] rfl)
          · have hf := oi_t c10 hf
            refine lv_iload hx hb dX3_childOf_39 (lv_at hl 3 rfl) ?_
            exact rd_iret hx hb hr hlk (Option.some.inj hf) dX3_childOf_41
  exact hL7 FU p2 y1 hf ls (lv_sub hl [2, 3, 1, 0] rfl)

abbrev rmX3_whichOf : Room := { frames := 3, cells := 0, slots := 0, locals := 70 }
theorem hdX3_whichOf : yX3_whichOf.cls ≠ "java/lang/invoke/MethodHandle" ∧ yX3_whichOf.cls ≠ "java/lang/invoke/VarHandle" ∧ (parseMethodDescriptor yX3_whichOf.desc).map (fun d => d.parameters.length) = some 1 := by decide +kernel
set_option maxHeartbeats 4000000 in
theorem mX3_whichOf (l : Launch) (D : va_G) (k : Nat → ClassId) (ma : Nat → Nat) (mi : Nat → Int32) (st : Nat → Int32) (rp : Nat → Int32) (tp : Nat → Int32) (cr : Nat → Int32) (cw : Nat → Int32) (ik : Nat → Int32) (ln : Nat → Int32) (lg : Nat → Int32) (ce : Nat → Int64) (p1 : Int32) (r : Int32) (hf : fX3_whichOf st p1 = some r) : CtI l yX3_whichOf cX3_whichOf 6 rmX3_whichOf [.ref (ma 0), .int p1] D k (wM k ma mi st rp tp cr cw ik ln lg ce) r := by
  refine rd_start (by decide +kernel) (Nat.le_of_ble_eq_true rfl) ?_
  intro p e s m below meth c ls hx hb hr hlk hml hown hts hP hK hl
  have hl : lv_has ls 6 [(0, .ref (ma 0)), (1, .int p1)] := hl
  have hown : s.vm.findClass RX3 = some m.cls := hown
  unfold fX3_whichOf at hf
  refine lv_aload_n hx hb dX3_whichOf_0 rfl (lv_at hl 0 rfl) ?_
  refine lv_iload_n hx hb dX3_whichOf_1 rfl (lv_at hl 1 rfl) ?_
  refine lv_iconst (v := 1) hx hb dX3_whichOf_2 (by decide) ?_
  obtain ⟨v1, ev1, hf⟩ := ob hf
  refine rd_callV (As := [.int p1, .int (1 : Int32)]) (rest := []) ⟨hx, hb, hml, hown, hts⟩ (mX3_upFrom l D k ma mi st rp tp cr cw ik ln lg ce p1 (1 : Int32) _ ev1) (cwV 2 hts (lw_V q1119 q1121 qs68 q94 q1122) rfl rfl rfl ⟨rfl, hdX3_upFrom⟩ ⟨Nat.le_of_ble_eq_true rfl, Nat.le_of_ble_eq_true rfl⟩) hK hP [0, 1, 2, 3, 4, 5, 6, 7, 8, 9] rfl 0 3 rfl rfl rfl hl.1 rfl (Nat.le_of_ble_eq_true rfl) dX3_whichOf_3 ⟨Nat.le_of_ble_eq_true rfl, Nat.le_of_ble_eq_true rfl⟩ ?_
  refine lv_istore_n (lv' := [(2, .int v1), (0, .ref (ma 0)), (1, .int p1)]) hx hb dX3_whichOf_6 rfl hl (by decide) rfl (fun ls hl => ?_)
  refine lv_aload_n hx hb dX3_whichOf_7 rfl (lv_at hl 1 rfl) ?_
  refine lv_iload_n hx hb dX3_whichOf_8 rfl (lv_at hl 2 rfl) ?_
  obtain ⟨v3, ev3, hf⟩ := ob hf
  refine rd_callV (As := [.int p1]) (rest := []) ⟨hx, hb, hml, hown, hts⟩ (mX3_depthOf l D k ma mi st rp tp cr cw ik ln lg ce p1 _ ev3) (cwV 1 hts (lw_V q1123 q1125 qs69 q94 q1126) rfl rfl rfl ⟨rfl, hdX3_depthOf⟩ ⟨Nat.le_of_ble_eq_true rfl, Nat.le_of_ble_eq_true rfl⟩) hK hP [0, 1, 2, 3, 4, 5, 6, 7, 8, 9] rfl 0 3 rfl rfl rfl hl.1 rfl (Nat.le_of_ble_eq_true rfl) dX3_whichOf_9 ⟨Nat.le_of_ble_eq_true rfl, Nat.le_of_ble_eq_true rfl⟩ ?_
  refine lv_istore_n (lv' := [(3, .int v3), (2, .int v1), (0, .ref (ma 0)), (1, .int p1)]) hx hb dX3_whichOf_12 rfl hl (by decide) rfl (fun ls hl => ?_)
  refine lv_iconst (v := 0) hx hb dX3_whichOf_13 (by decide) ?_
  refine lv_istore (lv' := [(4, .int (0 : Int32)), (3, .int v3), (2, .int v1), (0, .ref (ma 0)), (1, .int p1)]) hx hb dX3_whichOf_14 hl (by decide) rfl (fun ls hl => ?_)
  refine lv_iload_n hx hb dX3_whichOf_16 rfl (lv_at hl 2 rfl) ?_
  refine lv_iconst (v := 1) hx hb dX3_whichOf_17 (by decide) ?_
  refine lv_iadd hx hb dX3_whichOf_18 ?_
  obtain ⟨y5, ey5, hf⟩ := ob hf
  refine x_asI ey5 ?_
  refine lv_istore (lv' := [(5, .int y5), (4, .int (0 : Int32)), (3, .int v3), (2, .int v1), (0, .ref (ma 0)), (1, .int p1)]) hx hb dX3_whichOf_19 hl (by decide) rfl (fun ls hl => ?_)
  have hL21 : ∀ (nn : Nat) (x2_21 : Int32) (x3_21 : Int32) (x4_21 : Int32) (x5_21 : Int32), fX3_whichOf_L21 st p1 nn x2_21 x3_21 x4_21 x5_21 = some r → ∀ ls : Array Slot, lv_has ls 6 [(0, .ref (ma 0)), (1, .int p1), (2, .int x2_21), (3, .int x3_21), (4, .int x4_21), (5, .int x5_21)] → gR p l e rmX3_whichOf s m [.ref (ma 0), .int p1] below meth c (vp_Si (fun x => x = r)) 21 ls [] := by
    intro nn21
    induction nn21 with
    | zero =>
      intro x2_21 x3_21 x4_21 x5_21 hf
      rw [fX3_whichOf_L21] at hf; cases hf
    | succ nn21 ih21 =>
      intro x2_21 x3_21 x4_21 x5_21 hf ls hl
      rw [fX3_whichOf_L21] at hf
      refine lv_iload_n hx hb dX3_whichOf_21 rfl (lv_at hl 2 rfl) ?_
      refine lv_bipush (v := (-4)) hx hb dX3_whichOf_22 (by decide) ?_
      refine lv_icmp_eq (tgt := 59) hx hb dX3_whichOf_24 (by decide) (fun c6 => ?_) (fun c6 => ?_)
      · have hf := oi_t c6 hf
        refine lv_iload hx hb dX3_whichOf_59 (lv_at hl 4 rfl) ?_
        exact rd_iret hx hb hr hlk (Option.some.inj hf) dX3_whichOf_61
      · have hf := oi_f c6 hf
        refine lv_iload hx hb dX3_whichOf_27 (lv_at hl 5 rfl) ?_
        refine lv_iload_n hx hb dX3_whichOf_29 rfl (lv_at hl 1 rfl) ?_
        refine lv_icmp_ge (tgt := 59) hx hb dX3_whichOf_30 (by decide) (fun c7 => ?_) (fun c7 => ?_)
        · have hf := oi_t c7 hf
          refine lv_iload hx hb dX3_whichOf_59 (lv_at hl 4 rfl) ?_
          exact rd_iret hx hb hr hlk (Option.some.inj hf) dX3_whichOf_61
        · have hf := oi_f c7 hf
          refine lv_iload hx hb dX3_whichOf_33 (lv_at hl 4 rfl) ?_
          refine lv_aload_n hx hb dX3_whichOf_35 rfl (lv_at hl 0 rfl) ?_
          refine lv_iload hx hb dX3_whichOf_36 (lv_at hl 5 rfl) ?_
          obtain ⟨v8, ev8, hf⟩ := ob hf
          refine rd_callV (As := [.int x5_21]) (rest := [.int x4_21]) ⟨hx, hb, hml, hown, hts⟩ (mX3_depthOf l D k ma mi st rp tp cr cw ik ln lg ce x5_21 _ ev8) (cwV 1 hts (lw_V q1123 q1125 qs69 q94 q1126) rfl rfl rfl ⟨rfl, hdX3_depthOf⟩ ⟨Nat.le_of_ble_eq_true rfl, Nat.le_of_ble_eq_true rfl⟩) hK hP [0, 1, 2, 3, 4, 5, 6, 7, 8, 9] rfl 0 3 rfl rfl rfl hl.1 rfl (Nat.le_of_ble_eq_true rfl) dX3_whichOf_38 ⟨Nat.le_of_ble_eq_true rfl, Nat.le_of_ble_eq_true rfl⟩ ?_
          refine lv_iload_n hx hb dX3_whichOf_41 rfl (lv_at hl 3 rfl) ?_
          have hB50 : ∀ (x2_50 : Int32) (x3_50 : Int32) (x5_50 : Int32) (s0_50 : Int32) (s1_50 : Int32), fX3_whichOf_B50 st p1 (fX3_whichOf_L21 st p1 nn21) x2_50 x3_50 x5_50 s0_50 s1_50 = some r → ∀ ls : Array Slot, lv_has ls 6 [(0, .ref (ma 0)), (1, .int p1), (2, .int x2_50), (3, .int x3_50), (5, .int x5_50)] → gR p l e rmX3_whichOf s m [.ref (ma 0), .int p1] below meth c (vp_Si (fun x => x = r)) 50 ls [.int s0_50, .int s1_50] := by
            intro x2_50 x3_50 x5_50 s0_50 s1_50 hf ls hl
            unfold fX3_whichOf_B50 at hf
            refine lv_iadd hx hb dX3_whichOf_50 ?_
            obtain ⟨y11, ey11, hf⟩ := ob hf
            refine x_asI ey11 ?_
            refine lv_istore (lv' := [(4, .int y11), (0, .ref (ma 0)), (1, .int p1), (2, .int x2_50), (3, .int x3_50), (5, .int x5_50)]) hx hb dX3_whichOf_51 hl (by decide) rfl (fun ls hl => ?_)
            refine lv_iinc (v := (x5_50 + 1)) (lv' := [(5, .int (x5_50 + 1)), (4, .int y11), (0, .ref (ma 0)), (1, .int p1), (2, .int x2_50), (3, .int x3_50)]) hx hb dX3_whichOf_53 hl (k := 5) rfl rfl (by decide) rfl (fun ls hl => ?_)
            refine lv_goto (tgt := 21) hx hb dX3_whichOf_56 (by decide) ?_
            exact ih21 x2_50 x3_50 y11 (x5_50 + 1) hf ls (lv_sub hl [2, 3, 4, 5, 1, 0] rfl)
          refine lv_icmp_ne (tgt := 49) hx hb dX3_whichOf_42 (by decide) (fun c10 => ?_) (fun c10 => ?_)
          · have hf := oi_f c10 hf
            refine lv_iconst (v := 0) hx hb dX3_whichOf_49 (by decide) ?_
            exact hB50 x2_21 x3_21 x5_21 (0 : Int32) x4_21 hf ls (lv_sub hl [0, 1, 2, 3, 5] rfl)
          · have hf := oi_t c10 hf
            refine lv_iconst (v := 1) hx hb dX3_whichOf_45 (by decide) ?_
            refine lv_goto (tgt := 50) hx hb dX3_whichOf_46 (by decide) ?_
            exact hB50 x2_21 x3_21 x5_21 (1 : Int32) x4_21 hf ls (lv_sub hl [0, 1, 2, 3, 5] rfl)
  exact hL21 FU v1 v3 (0 : Int32) y5 hf ls (lv_sub hl [4, 5, 3, 2, 1, 0] rfl)

abbrev rmX3_nextOf : Room := { frames := 4, cells := 0, slots := 0, locals := 95 }
theorem hdX3_nextOf : yX3_nextOf.cls ≠ "java/lang/invoke/MethodHandle" ∧ yX3_nextOf.cls ≠ "java/lang/invoke/VarHandle" ∧ (parseMethodDescriptor yX3_nextOf.desc).map (fun d => d.parameters.length) = some 2 := by decide +kernel
set_option maxHeartbeats 4000000 in
theorem mX3_nextOf (l : Launch) (D : va_G) (k : Nat → ClassId) (ma : Nat → Nat) (mi : Nat → Int32) (st : Nat → Int32) (rp : Nat → Int32) (tp : Nat → Int32) (cr : Nat → Int32) (cw : Nat → Int32) (ik : Nat → Int32) (ln : Nat → Int32) (lg : Nat → Int32) (ce : Nat → Int64) (p1 : Int32) (p2 : Int32) (r : Int32) (hf : fX3_nextOf st p1 p2 = some r) : CtI l yX3_nextOf cX3_nextOf 5 rmX3_nextOf [.ref (ma 0), .int p1, .int p2] D k (wM k ma mi st rp tp cr cw ik ln lg ce) r := by
  refine rd_start (by decide +kernel) (Nat.le_of_ble_eq_true rfl) ?_
  intro p e s m below meth c ls hx hb hr hlk hml hown hts hP hK hl
  have hl : lv_has ls 5 [(0, .ref (ma 0)), (1, .int p1), (2, .int p2)] := hl
  have hown : s.vm.findClass RX3 = some m.cls := hown
  unfold fX3_nextOf at hf
  refine lv_aload_n hx hb dX3_nextOf_0 rfl (lv_at hl 0 rfl) ?_
  refine lv_iload_n hx hb dX3_nextOf_1 rfl (lv_at hl 1 rfl) ?_
  refine lv_iconst (v := 1) hx hb dX3_nextOf_2 (by decide) ?_
  obtain ⟨v1, ev1, hf⟩ := ob hf
  refine rd_callV (As := [.int p1, .int (1 : Int32)]) (rest := []) ⟨hx, hb, hml, hown, hts⟩ (mX3_upFrom l D k ma mi st rp tp cr cw ik ln lg ce p1 (1 : Int32) _ ev1) (cwV 2 hts (lw_V q1119 q1121 qs68 q94 q1122) rfl rfl rfl ⟨rfl, hdX3_upFrom⟩ ⟨Nat.le_of_ble_eq_true rfl, Nat.le_of_ble_eq_true rfl⟩) hK hP [0, 1, 2, 3, 4, 5, 6, 7, 8, 9] rfl 0 3 rfl rfl rfl hl.1 rfl (Nat.le_of_ble_eq_true rfl) dX3_nextOf_3 ⟨Nat.le_of_ble_eq_true rfl, Nat.le_of_ble_eq_true rfl⟩ ?_
  refine lv_istore_n (lv' := [(3, .int v1), (0, .ref (ma 0)), (1, .int p1), (2, .int p2)]) hx hb dX3_nextOf_6 rfl hl (by decide) rfl (fun ls hl => ?_)
  refine lv_aload_n hx hb dX3_nextOf_7 rfl (lv_at hl 1 rfl) ?_
  refine lv_iload_n hx hb dX3_nextOf_8 rfl (lv_at hl 2 rfl) ?_
  obtain ⟨v3, ev3, hf⟩ := ob hf
  refine rd_callV (As := [.int p1]) (rest := []) ⟨hx, hb, hml, hown, hts⟩ (mX3_whichOf l D k ma mi st rp tp cr cw ik ln lg ce p1 _ ev3) (cwV 1 hts (lw_V q1143 q1145 qs74 q94 q1146) rfl rfl rfl ⟨rfl, hdX3_whichOf⟩ ⟨Nat.le_of_ble_eq_true rfl, Nat.le_of_ble_eq_true rfl⟩) hK hP [0, 1, 2, 3, 4, 5, 6, 7, 8, 9] rfl 0 3 rfl rfl rfl hl.1 rfl (Nat.le_of_ble_eq_true rfl) dX3_nextOf_9 ⟨Nat.le_of_ble_eq_true rfl, Nat.le_of_ble_eq_true rfl⟩ ?_
  refine lv_iload_n hx hb dX3_nextOf_12 rfl (lv_at hl 3 rfl) ?_
  refine lv_iadd hx hb dX3_nextOf_13 ?_
  obtain ⟨y5, ey5, hf⟩ := ob hf
  refine x_asI ey5 ?_
  refine lv_istore (lv' := [(4, .int y5), (3, .int v1), (0, .ref (ma 0)), (1, .int p1), (2, .int p2)]) hx hb dX3_nextOf_14 hl (by decide) rfl (fun ls hl => ?_)
  refine lv_iload_n hx hb dX3_nextOf_16 rfl (lv_at hl 1 rfl) ?_
  refine lv_bipush (v := (-4)) hx hb dX3_nextOf_17 (by decide) ?_
  refine lv_icmp_eq (tgt := 27) hx hb dX3_nextOf_19 (by decide) (fun c6 => ?_) (fun c6 => ?_)
  · have hf := oi_t c6 hf
    refine lv_bipush (v := (-4)) hx hb dX3_nextOf_27 (by decide) ?_
    refine lv_goto (tgt := 39) hx hb dX3_nextOf_29 (by decide) ?_
    exact rd_iret hx hb hr hlk (Option.some.inj hf) dX3_nextOf_39
  · have hf := oi_f c6 hf
    refine lv_iload hx hb dX3_nextOf_22 (lv_at hl 0 rfl) ?_
    refine lv_if_ge (tgt := 32) hx hb dX3_nextOf_24 (by decide) (fun c7 => ?_) (fun c7 => ?_)
    · have hf := oi_t c7 hf
      refine lv_aload_n hx hb dX3_nextOf_32 rfl (lv_at hl 2 rfl) ?_
      refine lv_iload_n hx hb dX3_nextOf_33 rfl (lv_at hl 1 rfl) ?_
      refine lv_iload hx hb dX3_nextOf_34 (lv_at hl 0 rfl) ?_
      obtain ⟨v8, ev8, hf⟩ := ob hf
      refine rd_callV (As := [.int v1, .int y5]) (rest := []) ⟨hx, hb, hml, hown, hts⟩ (mX3_childOf l D k ma mi st rp tp cr cw ik ln lg ce v1 y5 _ ev8) (cwV 2 hts (lw_V q1127 q1129 qs70 q94 q1130) rfl rfl rfl ⟨rfl, hdX3_childOf⟩ ⟨Nat.le_of_ble_eq_true rfl, Nat.le_of_ble_eq_true rfl⟩) hK hP [0, 1, 2, 3, 4, 5, 6, 7, 8, 9] rfl 0 3 rfl rfl rfl hl.1 rfl (Nat.le_of_ble_eq_true rfl) dX3_nextOf_36 ⟨Nat.le_of_ble_eq_true rfl, Nat.le_of_ble_eq_true rfl⟩ ?_
      exact rd_iret hx hb hr hlk (Option.some.inj hf) dX3_nextOf_39
    · have hf := oi_f c7 hf
      refine lv_bipush (v := (-4)) hx hb dX3_nextOf_27 (by decide) ?_
      refine lv_goto (tgt := 39) hx hb dX3_nextOf_29 (by decide) ?_
      exact rd_iret hx hb hr hlk (Option.some.inj hf) dX3_nextOf_39

abbrev rmX3_leavesOf : Room := { frames := 2, cells := 0, slots := 0, locals := 45 }
theorem hdX3_leavesOf : yX3_leavesOf.cls ≠ "java/lang/invoke/MethodHandle" ∧ yX3_leavesOf.cls ≠ "java/lang/invoke/VarHandle" ∧ (parseMethodDescriptor yX3_leavesOf.desc).map (fun d => d.parameters.length) = some 1 := by decide +kernel
set_option maxHeartbeats 4000000 in
theorem mX3_leavesOf (l : Launch) (D : va_G) (k : Nat → ClassId) (ma : Nat → Nat) (mi : Nat → Int32) (st : Nat → Int32) (rp : Nat → Int32) (tp : Nat → Int32) (cr : Nat → Int32) (cw : Nat → Int32) (ik : Nat → Int32) (ln : Nat → Int32) (lg : Nat → Int32) (ce : Nat → Int64) (p1 : Int32) (r : Int32) (hf : fX3_leavesOf st p1 = some r) : CtI l yX3_leavesOf cX3_leavesOf 4 rmX3_leavesOf [.ref (ma 0), .int p1] D k (wM k ma mi st rp tp cr cw ik ln lg ce) r := by
  refine rd_start (by decide +kernel) (Nat.le_of_ble_eq_true rfl) ?_
  intro p e s m below meth c ls hx hb hr hlk hml hown hts hP hK hl
  have hl : lv_has ls 4 [(0, .ref (ma 0)), (1, .int p1)] := hl
  have hown : s.vm.findClass RX3 = some m.cls := hown
  unfold fX3_leavesOf at hf
  refine lv_iconst (v := 0) hx hb dX3_leavesOf_0 (by decide) ?_
  refine lv_istore_n (lv' := [(2, .int (0 : Int32)), (0, .ref (ma 0)), (1, .int p1)]) hx hb dX3_leavesOf_1 rfl hl (by decide) rfl (fun ls hl => ?_)
  refine lv_iload_n hx hb dX3_leavesOf_2 rfl (lv_at hl 2 rfl) ?_
  refine lv_istore_n (lv' := [(3, .int p1), (2, .int (0 : Int32)), (0, .ref (ma 0)), (1, .int p1)]) hx hb dX3_leavesOf_3 rfl hl (by decide) rfl (fun ls hl => ?_)
  have hL4 : ∀ (nn : Nat) (x2_4 : Int32) (x3_4 : Int32), fX3_leavesOf_L4 st p1 nn x2_4 x3_4 = some r → ∀ ls : Array Slot, lv_has ls 4 [(0, .ref (ma 0)), (1, .int p1), (2, .int x2_4), (3, .int x3_4)] → gR p l e rmX3_leavesOf s m [.ref (ma 0), .int p1] below meth c (vp_Si (fun x => x = r)) 4 ls [] := by
    intro nn4
    induction nn4 with
    | zero =>
      intro x2_4 x3_4 hf
      rw [fX3_leavesOf_L4] at hf; cases hf
    | succ nn4 ih4 =>
      intro x2_4 x3_4 hf ls hl
      rw [fX3_leavesOf_L4] at hf
      refine lv_iload_n hx hb dX3_leavesOf_4 rfl (lv_at hl 3 rfl) ?_
      refine lv_iload_n hx hb dX3_leavesOf_5 rfl (lv_at hl 1 rfl) ?_
      refine lv_aload_n hx hb dX3_leavesOf_6 rfl (lv_at hl 0 rfl) ?_
      refine lv_iload_n hx hb dX3_leavesOf_7 rfl (lv_at hl 1 rfl) ?_
      obtain ⟨v1, ev1, hf⟩ := ob hf
      refine rd_callV (As := [.int p1]) (rest := [.int p1, .int x3_4]) ⟨hx, hb, hml, hown, hts⟩ (mX3_sizeOf l D k ma mi st rp tp cr cw ik ln lg ce p1 _ ev1) (cwV 1 hts (lw_V q1131 q1133 qs71 q94 q1134) rfl rfl rfl ⟨rfl, hdX3_sizeOf⟩ ⟨Nat.le_of_ble_eq_true rfl, Nat.le_of_ble_eq_true rfl⟩) hK hP [0, 1, 2, 3, 4, 5, 6, 7, 8, 9] rfl 0 3 rfl rfl rfl hl.1 rfl (Nat.le_of_ble_eq_true rfl) dX3_leavesOf_8 ⟨Nat.le_of_ble_eq_true rfl, Nat.le_of_ble_eq_true rfl⟩ ?_
      refine lv_iadd hx hb dX3_leavesOf_11 ?_
      refine lv_icmp_ge (tgt := 38) hx hb dX3_leavesOf_12 (by decide) (fun c3 => ?_) (fun c3 => ?_)
      · have hf := oi_t c3 hf
        refine lv_iload_n hx hb dX3_leavesOf_38 rfl (lv_at hl 2 rfl) ?_
        exact rd_iret hx hb hr hlk (Option.some.inj hf) dX3_leavesOf_39
      · have hf := oi_f c3 hf
        refine lv_iload_n hx hb dX3_leavesOf_15 rfl (lv_at hl 2 rfl) ?_
        refine lv_aload_n hx hb dX3_leavesOf_16 rfl (lv_at hl 0 rfl) ?_
        refine lv_iload_n hx hb dX3_leavesOf_17 rfl (lv_at hl 3 rfl) ?_
        obtain ⟨v4, ev4, hf⟩ := ob hf
        refine rd_callV (As := [.int x3_4]) (rest := [.int x2_4]) ⟨hx, hb, hml, hown, hts⟩ (mX3_sizeOf l D k ma mi st rp tp cr cw ik ln lg ce x3_4 _ ev4) (cwV 1 hts (lw_V q1131 q1133 qs71 q94 q1134) rfl rfl rfl ⟨rfl, hdX3_sizeOf⟩ ⟨Nat.le_of_ble_eq_true rfl, Nat.le_of_ble_eq_true rfl⟩) hK hP [0, 1, 2, 3, 4, 5, 6, 7, 8, 9] rfl 0 3 rfl rfl rfl hl.1 rfl (Nat.le_of_ble_eq_true rfl) dX3_leavesOf_18 ⟨Nat.le_of_ble_eq_true rfl, Nat.le_of_ble_eq_true rfl⟩ ?_
        refine lv_iconst (v := 1) hx hb dX3_leavesOf_21 (by decide) ?_
        have hB30 : ∀ (x3_30 : Int32) (s0_30 : Int32) (s1_30 : Int32), fX3_leavesOf_B30 st p1 (fX3_leavesOf_L4 st p1 nn4) x3_30 s0_30 s1_30 = some r → ∀ ls : Array Slot, lv_has ls 4 [(0, .ref (ma 0)), (1, .int p1), (3, .int x3_30)] → gR p l e rmX3_leavesOf s m [.ref (ma 0), .int p1] below meth c (vp_Si (fun x => x = r)) 30 ls [.int s0_30, .int s1_30] := by
          intro x3_30 s0_30 s1_30 hf ls hl
          unfold fX3_leavesOf_B30 at hf
          refine lv_iadd hx hb dX3_leavesOf_30 ?_
          obtain ⟨y7, ey7, hf⟩ := ob hf
          refine x_asI ey7 ?_
          refine lv_istore_n (lv' := [(2, .int y7), (0, .ref (ma 0)), (1, .int p1), (3, .int x3_30)]) hx hb dX3_leavesOf_31 rfl hl (by decide) rfl (fun ls hl => ?_)
          refine lv_iinc (v := (x3_30 + 1)) (lv' := [(3, .int (x3_30 + 1)), (2, .int y7), (0, .ref (ma 0)), (1, .int p1)]) hx hb dX3_leavesOf_32 hl (k := 3) rfl rfl (by decide) rfl (fun ls hl => ?_)
          refine lv_goto (tgt := 4) hx hb dX3_leavesOf_35 (by decide) ?_
          exact ih4 y7 (x3_30 + 1) hf ls (lv_sub hl [2, 3, 1, 0] rfl)
        refine lv_icmp_ne (tgt := 29) hx hb dX3_leavesOf_22 (by decide) (fun c6 => ?_) (fun c6 => ?_)
        · have hf := oi_f c6 hf
          refine lv_iconst (v := 0) hx hb dX3_leavesOf_29 (by decide) ?_
          exact hB30 x3_4 (0 : Int32) x2_4 hf ls (lv_sub hl [0, 1, 3] rfl)
        · have hf := oi_t c6 hf
          refine lv_iconst (v := 1) hx hb dX3_leavesOf_25 (by decide) ?_
          refine lv_goto (tgt := 30) hx hb dX3_leavesOf_26 (by decide) ?_
          exact hB30 x3_4 (1 : Int32) x2_4 hf ls (lv_sub hl [0, 1, 3] rfl)
  exact hL4 FU (0 : Int32) p1 hf ls (lv_sub hl [2, 3, 1, 0] rfl)

abbrev rmX3_deepestOf : Room := { frames := 2, cells := 0, slots := 0, locals := 45 }
theorem hdX3_deepestOf : yX3_deepestOf.cls ≠ "java/lang/invoke/MethodHandle" ∧ yX3_deepestOf.cls ≠ "java/lang/invoke/VarHandle" ∧ (parseMethodDescriptor yX3_deepestOf.desc).map (fun d => d.parameters.length) = some 1 := by decide +kernel
set_option maxHeartbeats 4000000 in
theorem mX3_deepestOf (l : Launch) (D : va_G) (k : Nat → ClassId) (ma : Nat → Nat) (mi : Nat → Int32) (st : Nat → Int32) (rp : Nat → Int32) (tp : Nat → Int32) (cr : Nat → Int32) (cw : Nat → Int32) (ik : Nat → Int32) (ln : Nat → Int32) (lg : Nat → Int32) (ce : Nat → Int64) (p1 : Int32) (r : Int32) (hf : fX3_deepestOf st p1 = some r) : CtI l yX3_deepestOf cX3_deepestOf 4 rmX3_deepestOf [.ref (ma 0), .int p1] D k (wM k ma mi st rp tp cr cw ik ln lg ce) r := by
  refine rd_start (by decide +kernel) (Nat.le_of_ble_eq_true rfl) ?_
  intro p e s m below meth c ls hx hb hr hlk hml hown hts hP hK hl
  have hl : lv_has ls 4 [(0, .ref (ma 0)), (1, .int p1)] := hl
  have hown : s.vm.findClass RX3 = some m.cls := hown
  unfold fX3_deepestOf at hf
  refine lv_iload_n hx hb dX3_deepestOf_0 rfl (lv_at hl 1 rfl) ?_
  refine lv_istore_n (lv' := [(2, .int p1), (0, .ref (ma 0)), (1, .int p1)]) hx hb dX3_deepestOf_1 rfl hl (by decide) rfl (fun ls hl => ?_)
  refine lv_iload_n hx hb dX3_deepestOf_2 rfl (lv_at hl 2 rfl) ?_
  refine lv_istore_n (lv' := [(3, .int p1), (2, .int p1), (0, .ref (ma 0)), (1, .int p1)]) hx hb dX3_deepestOf_3 rfl hl (by decide) rfl (fun ls hl => ?_)
  have hL4 : ∀ (nn : Nat) (x2_4 : Int32) (x3_4 : Int32), fX3_deepestOf_L4 st p1 nn x2_4 x3_4 = some r → ∀ ls : Array Slot, lv_has ls 4 [(0, .ref (ma 0)), (1, .int p1), (2, .int x2_4), (3, .int x3_4)] → gR p l e rmX3_deepestOf s m [.ref (ma 0), .int p1] below meth c (vp_Si (fun x => x = r)) 4 ls [] := by
    intro nn4
    induction nn4 with
    | zero =>
      intro x2_4 x3_4 hf
      rw [fX3_deepestOf_L4] at hf; cases hf
    | succ nn4 ih4 =>
      intro x2_4 x3_4 hf ls hl
      rw [fX3_deepestOf_L4] at hf
      refine lv_iload_n hx hb dX3_deepestOf_4 rfl (lv_at hl 3 rfl) ?_
      refine lv_iload_n hx hb dX3_deepestOf_5 rfl (lv_at hl 1 rfl) ?_
      refine lv_aload_n hx hb dX3_deepestOf_6 rfl (lv_at hl 0 rfl) ?_
      refine lv_iload_n hx hb dX3_deepestOf_7 rfl (lv_at hl 1 rfl) ?_
      obtain ⟨v1, ev1, hf⟩ := ob hf
      refine rd_callV (As := [.int p1]) (rest := [.int p1, .int x3_4]) ⟨hx, hb, hml, hown, hts⟩ (mX3_sizeOf l D k ma mi st rp tp cr cw ik ln lg ce p1 _ ev1) (cwV 1 hts (lw_V q1131 q1133 qs71 q94 q1134) rfl rfl rfl ⟨rfl, hdX3_sizeOf⟩ ⟨Nat.le_of_ble_eq_true rfl, Nat.le_of_ble_eq_true rfl⟩) hK hP [0, 1, 2, 3, 4, 5, 6, 7, 8, 9] rfl 0 3 rfl rfl rfl hl.1 rfl (Nat.le_of_ble_eq_true rfl) dX3_deepestOf_8 ⟨Nat.le_of_ble_eq_true rfl, Nat.le_of_ble_eq_true rfl⟩ ?_
      refine lv_iadd hx hb dX3_deepestOf_11 ?_
      refine lv_icmp_ge (tgt := 40) hx hb dX3_deepestOf_12 (by decide) (fun c3 => ?_) (fun c3 => ?_)
      · have hf := oi_t c3 hf
        refine lv_iload_n hx hb dX3_deepestOf_40 rfl (lv_at hl 2 rfl) ?_
        exact rd_iret hx hb hr hlk (Option.some.inj hf) dX3_deepestOf_41
      · have hf := oi_f c3 hf
        refine lv_aload_n hx hb dX3_deepestOf_15 rfl (lv_at hl 0 rfl) ?_
        refine lv_iload_n hx hb dX3_deepestOf_16 rfl (lv_at hl 3 rfl) ?_
        obtain ⟨v4, ev4, hf⟩ := ob hf
        refine rd_callV (As := [.int x3_4]) (rest := []) ⟨hx, hb, hml, hown, hts⟩ (mX3_depthOf l D k ma mi st rp tp cr cw ik ln lg ce x3_4 _ ev4) (cwV 1 hts (lw_V q1123 q1125 qs69 q94 q1126) rfl rfl rfl ⟨rfl, hdX3_depthOf⟩ ⟨Nat.le_of_ble_eq_true rfl, Nat.le_of_ble_eq_true rfl⟩) hK hP [0, 1, 2, 3, 4, 5, 6, 7, 8, 9] rfl 0 3 rfl rfl rfl hl.1 rfl (Nat.le_of_ble_eq_true rfl) dX3_deepestOf_17 ⟨Nat.le_of_ble_eq_true rfl, Nat.le_of_ble_eq_true rfl⟩ ?_
        refine lv_aload_n hx hb dX3_deepestOf_20 rfl (lv_at hl 0 rfl) ?_
        refine lv_iload_n hx hb dX3_deepestOf_21 rfl (lv_at hl 2 rfl) ?_
        obtain ⟨v6, ev6, hf⟩ := ob hf
        refine rd_callV (As := [.int x2_4]) (rest := [.int v4]) ⟨hx, hb, hml, hown, hts⟩ (mX3_depthOf l D k ma mi st rp tp cr cw ik ln lg ce x2_4 _ ev6) (cwV 1 hts (lw_V q1123 q1125 qs69 q94 q1126) rfl rfl rfl ⟨rfl, hdX3_depthOf⟩ ⟨Nat.le_of_ble_eq_true rfl, Nat.le_of_ble_eq_true rfl⟩) hK hP [0, 1, 2, 3, 4, 5, 6, 7, 8, 9] rfl 0 3 rfl rfl rfl hl.1 rfl (Nat.le_of_ble_eq_true rfl) dX3_deepestOf_22 ⟨Nat.le_of_ble_eq_true rfl, Nat.le_of_ble_eq_true rfl⟩ ?_
        have hB33 : ∀ (x3_33 : Int32) (s0_33 : Int32), fX3_deepestOf_B33 st p1 (fX3_deepestOf_L4 st p1 nn4) x3_33 s0_33 = some r → ∀ ls : Array Slot, lv_has ls 4 [(0, .ref (ma 0)), (1, .int p1), (3, .int x3_33)] → gR p l e rmX3_deepestOf s m [.ref (ma 0), .int p1] below meth c (vp_Si (fun x => x = r)) 33 ls [.int s0_33] := by
          intro x3_33 s0_33 hf ls hl
          unfold fX3_deepestOf_B33 at hf
          refine lv_istore_n (lv' := [(2, .int s0_33), (0, .ref (ma 0)), (1, .int p1), (3, .int x3_33)]) hx hb dX3_deepestOf_33 rfl hl (by decide) rfl (fun ls hl => ?_)
          refine lv_iinc (v := (x3_33 + 1)) (lv' := [(3, .int (x3_33 + 1)), (2, .int s0_33), (0, .ref (ma 0)), (1, .int p1)]) hx hb dX3_deepestOf_34 hl (k := 3) rfl rfl (by decide) rfl (fun ls hl => ?_)
          refine lv_goto (tgt := 4) hx hb dX3_deepestOf_37 (by decide) ?_
          exact ih4 s0_33 (x3_33 + 1) hf ls (lv_sub hl [2, 3, 1, 0] rfl)
        refine lv_icmp_le (tgt := 32) hx hb dX3_deepestOf_25 (by decide) (fun c8 => ?_) (fun c8 => ?_)
        · have hf := oi_t c8 hf
          refine lv_iload_n hx hb dX3_deepestOf_32 rfl (lv_at hl 2 rfl) ?_
          exact hB33 x3_4 x2_4 hf ls (lv_sub hl [0, 1, 3] rfl)
        · have hf := oi_f c8 hf
          refine lv_iload_n hx hb dX3_deepestOf_28 rfl (lv_at hl 3 rfl) ?_
          refine lv_goto (tgt := 33) hx hb dX3_deepestOf_29 (by decide) ?_
          exact hB33 x3_4 x3_4 hf ls (lv_sub hl [0, 1, 3] rfl)
  exact hL4 FU p1 p1 hf ls (lv_sub hl [2, 3, 1, 0] rfl)

abbrev rmX3_fromBelow : Room := { frames := 2, cells := 0, slots := 0, locals := 44 }
theorem hdX3_fromBelow : yX3_fromBelow.cls ≠ "java/lang/invoke/MethodHandle" ∧ yX3_fromBelow.cls ≠ "java/lang/invoke/VarHandle" ∧ (parseMethodDescriptor yX3_fromBelow.desc).map (fun d => d.parameters.length) = some 1 := by decide +kernel
set_option maxHeartbeats 4000000 in
theorem mX3_fromBelow (l : Launch) (D : va_G) (k : Nat → ClassId) (ma : Nat → Nat) (mi : Nat → Int32) (st : Nat → Int32) (rp : Nat → Int32) (tp : Nat → Int32) (cr : Nat → Int32) (cw : Nat → Int32) (ik : Nat → Int32) (ln : Nat → Int32) (lg : Nat → Int32) (ce : Nat → Int64) (p1 : Int32) (r : Int32) (hf : fX3_fromBelow st p1 = some r) : CtI l yX3_fromBelow cX3_fromBelow 3 rmX3_fromBelow [.ref (ma 0), .int p1] D k (wM k ma mi st rp tp cr cw ik ln lg ce) r := by
  refine rd_start (by decide +kernel) (Nat.le_of_ble_eq_true rfl) ?_
  intro p e s m below meth c ls hx hb hr hlk hml hown hts hP hK hl
  have hl : lv_has ls 3 [(0, .ref (ma 0)), (1, .int p1)] := hl
  have hown : s.vm.findClass RX3 = some m.cls := hown
  unfold fX3_fromBelow at hf
  refine lv_aload_n hx hb dX3_fromBelow_0 rfl (lv_at hl 0 rfl) ?_
  refine lv_aload_n hx hb dX3_fromBelow_1 rfl (lv_at hl 0 rfl) ?_
  refine lv_iload_n hx hb dX3_fromBelow_2 rfl (lv_at hl 1 rfl) ?_
  obtain ⟨v1, ev1, hf⟩ := ob hf
  refine rd_callV (As := [.int p1]) (rest := [.ref (ma 0)]) ⟨hx, hb, hml, hown, hts⟩ (mX3_openOf l D k ma mi st rp tp cr cw ik ln lg ce p1 _ ev1) (cwV 1 hts (lw_V q1115 q1117 qs67 q94 q1118) rfl rfl rfl ⟨rfl, hdX3_openOf⟩ ⟨Nat.le_of_ble_eq_true rfl, Nat.le_of_ble_eq_true rfl⟩) hK hP [0, 1, 2, 3, 4, 5, 6, 7, 8, 9] rfl 0 3 rfl rfl rfl hl.1 rfl (Nat.le_of_ble_eq_true rfl) dX3_fromBelow_3 ⟨Nat.le_of_ble_eq_true rfl, Nat.le_of_ble_eq_true rfl⟩ ?_
  obtain ⟨v3, ev3, hf⟩ := ob hf
  refine rd_callV (As := [.int v1]) (rest := []) ⟨hx, hb, hml, hown, hts⟩ (mX3_shutOf l D k ma mi st rp tp cr cw ik ln lg ce v1 _ ev3) (cwV 1 hts (lw_V q1089 q1091 qs64 q94 q1092) rfl rfl rfl ⟨rfl, hdX3_shutOf⟩ ⟨Nat.le_of_ble_eq_true rfl, Nat.le_of_ble_eq_true rfl⟩) hK hP [0, 1, 2, 3, 4, 5, 6, 7, 8, 9] rfl 0 3 rfl rfl rfl hl.1 rfl (Nat.le_of_ble_eq_true rfl) dX3_fromBelow_6 ⟨Nat.le_of_ble_eq_true rfl, Nat.le_of_ble_eq_true rfl⟩ ?_
  refine lv_istore_n (lv' := [(2, .int v3), (0, .ref (ma 0)), (1, .int p1)]) hx hb dX3_fromBelow_9 rfl hl (by decide) rfl (fun ls hl => ?_)
  refine lv_iload_n hx hb dX3_fromBelow_10 rfl (lv_at hl 0 rfl) ?_
  refine lv_aload_n hx hb dX3_fromBelow_11 rfl (lv_at hl 1 rfl) ?_
  refine lv_iload_n hx hb dX3_fromBelow_12 rfl (lv_at hl 0 rfl) ?_
  obtain ⟨v5, ev5, hf⟩ := ob hf
  refine rd_callV (As := [.int v3]) (rest := [.int v3]) ⟨hx, hb, hml, hown, hts⟩ (mX3_opensAt l D k ma mi st rp tp cr cw ik ln lg ce v3 _ ev5) (cwV 1 hts (lw_V q1159 q1161 qs78 q94 q1162) rfl rfl rfl ⟨rfl, hdX3_opensAt⟩ ⟨Nat.le_of_ble_eq_true rfl, Nat.le_of_ble_eq_true rfl⟩) hK hP [0, 1, 2, 3, 4, 5, 6, 7, 8, 9] rfl 0 3 rfl rfl rfl hl.1 rfl (Nat.le_of_ble_eq_true rfl) dX3_fromBelow_13 ⟨Nat.le_of_ble_eq_true rfl, Nat.le_of_ble_eq_true rfl⟩ ?_
  refine lv_isub hx hb dX3_fromBelow_16 ?_
  exact rd_iret hx hb hr hlk (Option.some.inj hf) dX3_fromBelow_17

abbrev rmX3_placeAsked : Room := { frames := 1, cells := 0, slots := 0, locals := 23 }
theorem hdX3_placeAsked : yX3_placeAsked.cls ≠ "java/lang/invoke/MethodHandle" ∧ yX3_placeAsked.cls ≠ "java/lang/invoke/VarHandle" ∧ (parseMethodDescriptor yX3_placeAsked.desc).map (fun d => d.parameters.length) = some 2 := by decide +kernel
set_option maxHeartbeats 4000000 in
theorem mX3_placeAsked (l : Launch) (D : va_G) (k : Nat → ClassId) (ma : Nat → Nat) (mi : Nat → Int32) (st : Nat → Int32) (rp : Nat → Int32) (tp : Nat → Int32) (cr : Nat → Int32) (cw : Nat → Int32) (ik : Nat → Int32) (ln : Nat → Int32) (lg : Nat → Int32) (ce : Nat → Int64) (p1 : Int32) (p2 : Int32) (r : Int32) (hf : fX3_placeAsked st p1 p2 = some r) : CtI l yX3_placeAsked cX3_placeAsked 4 rmX3_placeAsked [.ref (ma 0), .int p1, .int p2] D k (wM k ma mi st rp tp cr cw ik ln lg ce) r := by
  refine rd_start (by decide +kernel) (Nat.le_of_ble_eq_true rfl) ?_
  intro p e s m below meth c ls hx hb hr hlk hml hown hts hP hK hl
  have hl : lv_has ls 4 [(0, .ref (ma 0)), (1, .int p1), (2, .int p2)] := hl
  have hown : s.vm.findClass RX3 = some m.cls := hown
  unfold fX3_placeAsked at hf
  refine lv_aload_n hx hb dX3_placeAsked_0 rfl (lv_at hl 0 rfl) ?_
  refine lv_iload_n hx hb dX3_placeAsked_1 rfl (lv_at hl 1 rfl) ?_
  obtain ⟨v1, ev1, hf⟩ := ob hf
  refine rd_callV (As := [.int p1]) (rest := []) ⟨hx, hb, hml, hown, hts⟩ (mX3_openOf l D k ma mi st rp tp cr cw ik ln lg ce p1 _ ev1) (cwV 1 hts (lw_V q1115 q1117 qs67 q94 q1118) rfl rfl rfl ⟨rfl, hdX3_openOf⟩ ⟨Nat.le_of_ble_eq_true rfl, Nat.le_of_ble_eq_true rfl⟩) hK hP [0, 1, 2, 3, 4, 5, 6, 7, 8, 9] rfl 0 3 rfl rfl rfl hl.1 rfl (Nat.le_of_ble_eq_true rfl) dX3_placeAsked_2 ⟨Nat.le_of_ble_eq_true rfl, Nat.le_of_ble_eq_true rfl⟩ ?_
  refine lv_istore_n (lv' := [(3, .int v1), (0, .ref (ma 0)), (1, .int p1), (2, .int p2)]) hx hb dX3_placeAsked_5 rfl hl (by decide) rfl (fun ls hl => ?_)
  refine lv_iload_n hx hb dX3_placeAsked_6 rfl (lv_at hl 3 rfl) ?_
  refine lv_if_ne (tgt := 14) hx hb dX3_placeAsked_7 (by decide) (fun c3 => ?_) (fun c3 => ?_)
  · have hf := oi_f c3 hf
    refine lv_iload_n hx hb dX3_placeAsked_14 rfl (lv_at hl 3 rfl) ?_
    refine lv_iconst (v := 1) hx hb dX3_placeAsked_15 (by decide) ?_
    refine lv_icmp_ne (tgt := 27) hx hb dX3_placeAsked_16 (by decide) (fun c4 => ?_) (fun c4 => ?_)
    · have hf := oi_f c4 hf
      refine lv_aload_n hx hb dX3_placeAsked_27 rfl (lv_at hl 1 rfl) ?_
      refine lv_iload_n hx hb dX3_placeAsked_28 rfl (lv_at hl 0 rfl) ?_
      obtain ⟨v5, ev5, hf⟩ := ob hf
      refine rd_callV (As := [.int v1]) (rest := []) ⟨hx, hb, hml, hown, hts⟩ (mX3_excessAt l D k ma mi st rp tp cr cw ik ln lg ce v1 _ ev5) (cwV 1 hts (lw_V q1044 q1046 qs60 q94 q1047) rfl rfl rfl ⟨rfl, hdX3_excessAt⟩ ⟨Nat.le_of_ble_eq_true rfl, Nat.le_of_ble_eq_true rfl⟩) hK hP [0, 1, 2, 3, 4, 5, 6, 7, 8, 9] rfl 0 3 rfl rfl rfl hl.1 rfl (Nat.le_of_ble_eq_true rfl) dX3_placeAsked_29 ⟨Nat.le_of_ble_eq_true rfl, Nat.le_of_ble_eq_true rfl⟩ ?_
      exact rd_iret hx hb hr hlk (Option.some.inj hf) dX3_placeAsked_32
    · have hf := oi_t c4 hf
      refine lv_aload_n hx hb dX3_placeAsked_19 rfl (lv_at hl 1 rfl) ?_
      refine lv_iload_n hx hb dX3_placeAsked_20 rfl (lv_at hl 0 rfl) ?_
      obtain ⟨v7, ev7, hf⟩ := ob hf
      refine rd_callV (As := [.int v1]) (rest := []) ⟨hx, hb, hml, hown, hts⟩ (mX3_shutOf l D k ma mi st rp tp cr cw ik ln lg ce v1 _ ev7) (cwV 1 hts (lw_V q1089 q1091 qs64 q94 q1092) rfl rfl rfl ⟨rfl, hdX3_shutOf⟩ ⟨Nat.le_of_ble_eq_true rfl, Nat.le_of_ble_eq_true rfl⟩) hK hP [0, 1, 2, 3, 4, 5, 6, 7, 8, 9] rfl 0 3 rfl rfl rfl hl.1 rfl (Nat.le_of_ble_eq_true rfl) dX3_placeAsked_21 ⟨Nat.le_of_ble_eq_true rfl, Nat.le_of_ble_eq_true rfl⟩ ?_
      refine lv_goto (tgt := 32) hx hb dX3_placeAsked_24 (by decide) ?_
      exact rd_iret hx hb hr hlk (Option.some.inj hf) dX3_placeAsked_32
  · have hf := oi_t c3 hf
    refine lv_iload_n hx hb dX3_placeAsked_10 rfl (lv_at hl 0 rfl) ?_
    refine lv_goto (tgt := 32) hx hb dX3_placeAsked_11 (by decide) ?_
    exact rd_iret hx hb hr hlk (Option.some.inj hf) dX3_placeAsked_32

abbrev rmX3_node : Room := { frames := 5, cells := 0, slots := 0, locals := 119 }
theorem hdX3_node : yX3_node.cls ≠ "java/lang/invoke/MethodHandle" ∧ yX3_node.cls ≠ "java/lang/invoke/VarHandle" ∧ (parseMethodDescriptor yX3_node.desc).map (fun d => d.parameters.length) = some 2 := by decide +kernel
set_option maxHeartbeats 4000000 in
theorem mX3_node (l : Launch) (D : va_G) (k : Nat → ClassId) (ma : Nat → Nat) (mi : Nat → Int32) (st : Nat → Int32) (rp : Nat → Int32) (tp : Nat → Int32) (cr : Nat → Int32) (cw : Nat → Int32) (ik : Nat → Int32) (ln : Nat → Int32) (lg : Nat → Int32) (ce : Nat → Int64) (p1 : Int32) (p2 : Int32) (r : Int32) (hf : fX3_node st p1 p2 = some r) : CtI l yX3_node cX3_node 3 rmX3_node [.ref (ma 0), .int p1, .int p2] D k (wM k ma mi st rp tp cr cw ik ln lg ce) r := by
  refine rd_start (by decide +kernel) (Nat.le_of_ble_eq_true rfl) ?_
  intro p e s m below meth c ls hx hb hr hlk hml hown hts hP hK hl
  have hl : lv_has ls 3 [(0, .ref (ma 0)), (1, .int p1), (2, .int p2)] := hl
  have hown : s.vm.findClass RX3 = some m.cls := hown
  unfold fX3_node at hf
  refine lv_aload_n hx hb dX3_node_0 rfl (lv_at hl 0 rfl) ?_
  refine lv_iload_n hx hb dX3_node_1 rfl (lv_at hl 1 rfl) ?_
  obtain ⟨v1, ev1, hf⟩ := ob hf
  refine rd_callVZ (As := [.int p1]) (rest := []) ⟨hx, hb, hml, hown, hts⟩ (mX3_isNode l D k ma mi st rp tp cr cw ik ln lg ce p1 _ ev1) (cwV 1 hts (lw_V q1107 q1109 qs65 q94 q1110) rfl rfl rfl ⟨rfl, hdX3_isNode⟩ ⟨Nat.le_of_ble_eq_true rfl, Nat.le_of_ble_eq_true rfl⟩) hK hP [0, 1, 2, 3, 4, 5, 6, 7, 8, 9] rfl 0 3 rfl rfl rfl hl.1 rfl (Nat.le_of_ble_eq_true rfl) dX3_node_2 ⟨Nat.le_of_ble_eq_true rfl, Nat.le_of_ble_eq_true rfl⟩ (fun zv1 => ?_)
  refine lv_if_ne (tgt := 10) hx hb dX3_node_5 (by decide) (fun c3 => ?_) (fun c3 => ?_)
  · have hf := oi_f c3 hf
    refine lv_iload_n hx hb dX3_node_10 rfl (lv_at hl 2 rfl) ?_
    have hB80 :  fX3_node_B80 st p1 p2  = some r → ∀ ls : Array Slot, lv_has ls 3 [(0, .ref (ma 0)), (1, .int p1), (2, .int p2)] → gR p l e rmX3_node s m [.ref (ma 0), .int p1, .int p2] below meth c (vp_Si (fun x => x = r)) 80 ls [] := by
      intro  hf ls hl
      unfold fX3_node_B80 at hf
      refine lv_aload_n hx hb dX3_node_80 rfl (lv_at hl 0 rfl) ?_
      refine lv_iload_n hx hb dX3_node_81 rfl (lv_at hl 1 rfl) ?_
      refine lv_iload_n hx hb dX3_node_82 rfl (lv_at hl 2 rfl) ?_
      obtain ⟨v4, ev4, hf⟩ := ob hf
      refine rd_callV (As := [.int p1, .int p2]) (rest := []) ⟨hx, hb, hml, hown, hts⟩ (mX3_placeAsked l D k ma mi st rp tp cr cw ik ln lg ce p1 p2 _ ev4) (cwV 2 hts (lw_V q1111 q1113 qs66 q94 q1114) rfl rfl rfl ⟨rfl, hdX3_placeAsked⟩ ⟨Nat.le_of_ble_eq_true rfl, Nat.le_of_ble_eq_true rfl⟩) hK hP [0, 1, 2, 3, 4, 5, 6, 7, 8, 9] rfl 0 3 rfl rfl rfl hl.1 rfl (Nat.le_of_ble_eq_true rfl) dX3_node_83 ⟨Nat.le_of_ble_eq_true rfl, Nat.le_of_ble_eq_true rfl⟩ ?_
      exact rd_iret hx hb hr hlk (Option.some.inj hf) dX3_node_86
    by_cases c6 : p2 = 0
    · have hf := oi_t c6 hf
      refine lv_tableIn (off := 69) (tgt := 80) hx hb dX3_node_11 (by rw [c6]; decide) (by rw [c6]; decide) (by rw [c6]; rfl) (by decide) ?_
      exact hB80  hf ls (lv_sub hl [0, 1, 2] rfl)
    have hf := oi_f c6 hf
    by_cases c7 : p2 = 1
    · have hf := oi_t c7 hf
      refine lv_tableIn (off := 69) (tgt := 80) hx hb dX3_node_11 (by rw [c7]; decide) (by rw [c7]; decide) (by rw [c7]; rfl) (by decide) ?_
      exact hB80  hf ls (lv_sub hl [0, 1, 2] rfl)
    have hf := oi_f c7 hf
    by_cases c8 : p2 = 2
    · have hf := oi_t c8 hf
      refine lv_tableIn (off := 69) (tgt := 80) hx hb dX3_node_11 (by rw [c8]; decide) (by rw [c8]; decide) (by rw [c8]; rfl) (by decide) ?_
      exact hB80  hf ls (lv_sub hl [0, 1, 2] rfl)
    have hf := oi_f c8 hf
    by_cases c9 : p2 = 3
    · have hf := oi_t c9 hf
      refine lv_tableIn (off := 76) (tgt := 87) hx hb dX3_node_11 (by rw [c9]; decide) (by rw [c9]; decide) (by rw [c9]; rfl) (by decide) ?_
      refine lv_aload_n hx hb dX3_node_87 rfl (lv_at hl 0 rfl) ?_
      refine lv_iload_n hx hb dX3_node_88 rfl (lv_at hl 1 rfl) ?_
      refine lv_iconst (v := 1) hx hb dX3_node_89 (by decide) ?_
      obtain ⟨v10, ev10, hf⟩ := ob hf
      refine rd_callV (As := [.int p1, .int (1 : Int32)]) (rest := []) ⟨hx, hb, hml, hown, hts⟩ (mX3_upFrom l D k ma mi st rp tp cr cw ik ln lg ce p1 (1 : Int32) _ ev10) (cwV 2 hts (lw_V q1119 q1121 qs68 q94 q1122) rfl rfl rfl ⟨rfl, hdX3_upFrom⟩ ⟨Nat.le_of_ble_eq_true rfl, Nat.le_of_ble_eq_true rfl⟩) hK hP [0, 1, 2, 3, 4, 5, 6, 7, 8, 9] rfl 0 3 rfl rfl rfl hl.1 rfl (Nat.le_of_ble_eq_true rfl) dX3_node_90 ⟨Nat.le_of_ble_eq_true rfl, Nat.le_of_ble_eq_true rfl⟩ ?_
      exact rd_iret hx hb hr hlk (Option.some.inj hf) dX3_node_93
    have hf := oi_f c9 hf
    by_cases c12 : p2 = 4
    · have hf := oi_t c12 hf
      refine lv_tableIn (off := 83) (tgt := 94) hx hb dX3_node_11 (by rw [c12]; decide) (by rw [c12]; decide) (by rw [c12]; rfl) (by decide) ?_
      refine lv_aload_n hx hb dX3_node_94 rfl (lv_at hl 0 rfl) ?_
      refine lv_iload_n hx hb dX3_node_95 rfl (lv_at hl 1 rfl) ?_
      refine lv_iconst (v := 0) hx hb dX3_node_96 (by decide) ?_
      obtain ⟨v13, ev13, hf⟩ := ob hf
      refine rd_callV (As := [.int p1, .int (0 : Int32)]) (rest := []) ⟨hx, hb, hml, hown, hts⟩ (mX3_childOf l D k ma mi st rp tp cr cw ik ln lg ce p1 (0 : Int32) _ ev13) (cwV 2 hts (lw_V q1127 q1129 qs70 q94 q1130) rfl rfl rfl ⟨rfl, hdX3_childOf⟩ ⟨Nat.le_of_ble_eq_true rfl, Nat.le_of_ble_eq_true rfl⟩) hK hP [0, 1, 2, 3, 4, 5, 6, 7, 8, 9] rfl 0 3 rfl rfl rfl hl.1 rfl (Nat.le_of_ble_eq_true rfl) dX3_node_97 ⟨Nat.le_of_ble_eq_true rfl, Nat.le_of_ble_eq_true rfl⟩ ?_
      exact rd_iret hx hb hr hlk (Option.some.inj hf) dX3_node_100
    have hf := oi_f c12 hf
    by_cases c15 : p2 = 5
    · have hf := oi_t c15 hf
      refine lv_tableIn (off := 90) (tgt := 101) hx hb dX3_node_11 (by rw [c15]; decide) (by rw [c15]; decide) (by rw [c15]; rfl) (by decide) ?_
      refine lv_aload_n hx hb dX3_node_101 rfl (lv_at hl 0 rfl) ?_
      refine lv_iload_n hx hb dX3_node_102 rfl (lv_at hl 1 rfl) ?_
      obtain ⟨v16, ev16, hf⟩ := ob hf
      refine rd_callV (As := [.int p1]) (rest := []) ⟨hx, hb, hml, hown, hts⟩ (mX3_childrenOf l D k ma mi st rp tp cr cw ik ln lg ce p1 _ ev16) (cwV 1 hts (lw_V q1135 q1137 qs72 q94 q1138) rfl rfl rfl ⟨rfl, hdX3_childrenOf⟩ ⟨Nat.le_of_ble_eq_true rfl, Nat.le_of_ble_eq_true rfl⟩) hK hP [0, 1, 2, 3, 4, 5, 6, 7, 8, 9] rfl 0 3 rfl rfl rfl hl.1 rfl (Nat.le_of_ble_eq_true rfl) dX3_node_103 ⟨Nat.le_of_ble_eq_true rfl, Nat.le_of_ble_eq_true rfl⟩ ?_
      refine lv_if_ne (tgt := 114) hx hb dX3_node_106 (by decide) (fun c18 => ?_) (fun c18 => ?_)
      · have hf := oi_f c18 hf
        refine lv_aload_n hx hb dX3_node_114 rfl (lv_at hl 0 rfl) ?_
        refine lv_iload_n hx hb dX3_node_115 rfl (lv_at hl 1 rfl) ?_
        refine lv_aload_n hx hb dX3_node_116 rfl (lv_at hl 0 rfl) ?_
        refine lv_iload_n hx hb dX3_node_117 rfl (lv_at hl 1 rfl) ?_
        obtain ⟨v19, ev19, hf⟩ := ob hf
        refine rd_callV (As := [.int p1]) (rest := [.int p1, .ref (ma 0)]) ⟨hx, hb, hml, hown, hts⟩ (mX3_childrenOf l D k ma mi st rp tp cr cw ik ln lg ce p1 _ ev19) (cwV 1 hts (lw_V q1135 q1137 qs72 q94 q1138) rfl rfl rfl ⟨rfl, hdX3_childrenOf⟩ ⟨Nat.le_of_ble_eq_true rfl, Nat.le_of_ble_eq_true rfl⟩) hK hP [0, 1, 2, 3, 4, 5, 6, 7, 8, 9] rfl 0 3 rfl rfl rfl hl.1 rfl (Nat.le_of_ble_eq_true rfl) dX3_node_118 ⟨Nat.le_of_ble_eq_true rfl, Nat.le_of_ble_eq_true rfl⟩ ?_
        refine lv_iconst (v := 1) hx hb dX3_node_121 (by decide) ?_
        refine lv_isub hx hb dX3_node_122 ?_
        obtain ⟨v21, ev21, hf⟩ := ob hf
        refine rd_callV (As := [.int p1, .int (v19 - (1 : Int32))]) (rest := []) ⟨hx, hb, hml, hown, hts⟩ (mX3_childOf l D k ma mi st rp tp cr cw ik ln lg ce p1 (v19 - (1 : Int32)) _ ev21) (cwV 2 hts (lw_V q1127 q1129 qs70 q94 q1130) rfl rfl rfl ⟨rfl, hdX3_childOf⟩ ⟨Nat.le_of_ble_eq_true rfl, Nat.le_of_ble_eq_true rfl⟩) hK hP [0, 1, 2, 3, 4, 5, 6, 7, 8, 9] rfl 0 3 rfl rfl rfl hl.1 rfl (Nat.le_of_ble_eq_true rfl) dX3_node_123 ⟨Nat.le_of_ble_eq_true rfl, Nat.le_of_ble_eq_true rfl⟩ ?_
        exact rd_iret hx hb hr hlk (Option.some.inj hf) dX3_node_126
      · have hf := oi_t c18 hf
        refine lv_bipush (v := (-4)) hx hb dX3_node_109 (by decide) ?_
        refine lv_goto (tgt := 126) hx hb dX3_node_111 (by decide) ?_
        exact rd_iret hx hb hr hlk (Option.some.inj hf) dX3_node_126
    have hf := oi_f c15 hf
    by_cases c23 : p2 = 6
    · have hf := oi_t c23 hf
      refine lv_tableIn (off := 116) (tgt := 127) hx hb dX3_node_11 (by rw [c23]; decide) (by rw [c23]; decide) (by rw [c23]; rfl) (by decide) ?_
      refine lv_aload_n hx hb dX3_node_127 rfl (lv_at hl 0 rfl) ?_
      refine lv_iload_n hx hb dX3_node_128 rfl (lv_at hl 1 rfl) ?_
      refine lv_iconst (v := 1) hx hb dX3_node_129 (by decide) ?_
      obtain ⟨v24, ev24, hf⟩ := ob hf
      refine rd_callV (As := [.int p1, .int (1 : Int32)]) (rest := []) ⟨hx, hb, hml, hown, hts⟩ (mX3_nextOf l D k ma mi st rp tp cr cw ik ln lg ce p1 (1 : Int32) _ ev24) (cwV 2 hts (lw_V q1139 q1141 qs73 q94 q1142) rfl rfl rfl ⟨rfl, hdX3_nextOf⟩ ⟨Nat.le_of_ble_eq_true rfl, Nat.le_of_ble_eq_true rfl⟩) hK hP [0, 1, 2, 3, 4, 5, 6, 7, 8, 9] rfl 0 3 rfl rfl rfl hl.1 rfl (Nat.le_of_ble_eq_true rfl) dX3_node_130 ⟨Nat.le_of_ble_eq_true rfl, Nat.le_of_ble_eq_true rfl⟩ ?_
      exact rd_iret hx hb hr hlk (Option.some.inj hf) dX3_node_133
    have hf := oi_f c23 hf
    by_cases c26 : p2 = 7
    · have hf := oi_t c26 hf
      refine lv_tableIn (off := 123) (tgt := 134) hx hb dX3_node_11 (by rw [c26]; decide) (by rw [c26]; decide) (by rw [c26]; rfl) (by decide) ?_
      refine lv_aload_n hx hb dX3_node_134 rfl (lv_at hl 0 rfl) ?_
      refine lv_iload_n hx hb dX3_node_135 rfl (lv_at hl 1 rfl) ?_
      refine lv_iconst (v := (-1)) hx hb dX3_node_136 (by decide) ?_
      obtain ⟨v27, ev27, hf⟩ := ob hf
      refine rd_callV (As := [.int p1, .int (-1 : Int32)]) (rest := []) ⟨hx, hb, hml, hown, hts⟩ (mX3_nextOf l D k ma mi st rp tp cr cw ik ln lg ce p1 (-1 : Int32) _ ev27) (cwV 2 hts (lw_V q1139 q1141 qs73 q94 q1142) rfl rfl rfl ⟨rfl, hdX3_nextOf⟩ ⟨Nat.le_of_ble_eq_true rfl, Nat.le_of_ble_eq_true rfl⟩) hK hP [0, 1, 2, 3, 4, 5, 6, 7, 8, 9] rfl 0 3 rfl rfl rfl hl.1 rfl (Nat.le_of_ble_eq_true rfl) dX3_node_137 ⟨Nat.le_of_ble_eq_true rfl, Nat.le_of_ble_eq_true rfl⟩ ?_
      exact rd_iret hx hb hr hlk (Option.some.inj hf) dX3_node_140
    have hf := oi_f c26 hf
    by_cases c29 : p2 = 8
    · have hf := oi_t c29 hf
      refine lv_tableIn (off := 130) (tgt := 141) hx hb dX3_node_11 (by rw [c29]; decide) (by rw [c29]; decide) (by rw [c29]; rfl) (by decide) ?_
      refine lv_aload_n hx hb dX3_node_141 rfl (lv_at hl 0 rfl) ?_
      refine lv_iload_n hx hb dX3_node_142 rfl (lv_at hl 1 rfl) ?_
      obtain ⟨v30, ev30, hf⟩ := ob hf
      refine rd_callV (As := [.int p1]) (rest := []) ⟨hx, hb, hml, hown, hts⟩ (mX3_childrenOf l D k ma mi st rp tp cr cw ik ln lg ce p1 _ ev30) (cwV 1 hts (lw_V q1135 q1137 qs72 q94 q1138) rfl rfl rfl ⟨rfl, hdX3_childrenOf⟩ ⟨Nat.le_of_ble_eq_true rfl, Nat.le_of_ble_eq_true rfl⟩) hK hP [0, 1, 2, 3, 4, 5, 6, 7, 8, 9] rfl 0 3 rfl rfl rfl hl.1 rfl (Nat.le_of_ble_eq_true rfl) dX3_node_143 ⟨Nat.le_of_ble_eq_true rfl, Nat.le_of_ble_eq_true rfl⟩ ?_
      exact rd_iret hx hb hr hlk (Option.some.inj hf) dX3_node_146
    have hf := oi_f c29 hf
    by_cases c32 : p2 = 9
    · have hf := oi_t c32 hf
      refine lv_tableIn (off := 136) (tgt := 147) hx hb dX3_node_11 (by rw [c32]; decide) (by rw [c32]; decide) (by rw [c32]; rfl) (by decide) ?_
      refine lv_aload_n hx hb dX3_node_147 rfl (lv_at hl 0 rfl) ?_
      refine lv_iload_n hx hb dX3_node_148 rfl (lv_at hl 1 rfl) ?_
      obtain ⟨v33, ev33, hf⟩ := ob hf
      refine rd_callV (As := [.int p1]) (rest := []) ⟨hx, hb, hml, hown, hts⟩ (mX3_sizeOf l D k ma mi st rp tp cr cw ik ln lg ce p1 _ ev33) (cwV 1 hts (lw_V q1131 q1133 qs71 q94 q1134) rfl rfl rfl ⟨rfl, hdX3_sizeOf⟩ ⟨Nat.le_of_ble_eq_true rfl, Nat.le_of_ble_eq_true rfl⟩) hK hP [0, 1, 2, 3, 4, 5, 6, 7, 8, 9] rfl 0 3 rfl rfl rfl hl.1 rfl (Nat.le_of_ble_eq_true rfl) dX3_node_149 ⟨Nat.le_of_ble_eq_true rfl, Nat.le_of_ble_eq_true rfl⟩ ?_
      exact rd_iret hx hb hr hlk (Option.some.inj hf) dX3_node_152
    have hf := oi_f c32 hf
    by_cases c35 : p2 = 10
    · have hf := oi_t c35 hf
      refine lv_tableIn (off := 142) (tgt := 153) hx hb dX3_node_11 (by rw [c35]; decide) (by rw [c35]; decide) (by rw [c35]; rfl) (by decide) ?_
      refine lv_aload_n hx hb dX3_node_153 rfl (lv_at hl 0 rfl) ?_
      refine lv_iload_n hx hb dX3_node_154 rfl (lv_at hl 1 rfl) ?_
      obtain ⟨v36, ev36, hf⟩ := ob hf
      refine rd_callV (As := [.int p1]) (rest := []) ⟨hx, hb, hml, hown, hts⟩ (mX3_leavesOf l D k ma mi st rp tp cr cw ik ln lg ce p1 _ ev36) (cwV 1 hts (lw_V q1147 q1149 qs75 q94 q1150) rfl rfl rfl ⟨rfl, hdX3_leavesOf⟩ ⟨Nat.le_of_ble_eq_true rfl, Nat.le_of_ble_eq_true rfl⟩) hK hP [0, 1, 2, 3, 4, 5, 6, 7, 8, 9] rfl 0 3 rfl rfl rfl hl.1 rfl (Nat.le_of_ble_eq_true rfl) dX3_node_155 ⟨Nat.le_of_ble_eq_true rfl, Nat.le_of_ble_eq_true rfl⟩ ?_
      exact rd_iret hx hb hr hlk (Option.some.inj hf) dX3_node_158
    have hf := oi_f c35 hf
    by_cases c38 : p2 = 11
    · have hf := oi_t c38 hf
      refine lv_tableIn (off := 148) (tgt := 159) hx hb dX3_node_11 (by rw [c38]; decide) (by rw [c38]; decide) (by rw [c38]; rfl) (by decide) ?_
      refine lv_aload_n hx hb dX3_node_159 rfl (lv_at hl 0 rfl) ?_
      refine lv_aload_n hx hb dX3_node_160 rfl (lv_at hl 0 rfl) ?_
      refine lv_iload_n hx hb dX3_node_161 rfl (lv_at hl 1 rfl) ?_
      obtain ⟨v39, ev39, hf⟩ := ob hf
      refine rd_callV (As := [.int p1]) (rest := [.ref (ma 0)]) ⟨hx, hb, hml, hown, hts⟩ (mX3_deepestOf l D k ma mi st rp tp cr cw ik ln lg ce p1 _ ev39) (cwV 1 hts (lw_V q1151 q1153 qs76 q94 q1154) rfl rfl rfl ⟨rfl, hdX3_deepestOf⟩ ⟨Nat.le_of_ble_eq_true rfl, Nat.le_of_ble_eq_true rfl⟩) hK hP [0, 1, 2, 3, 4, 5, 6, 7, 8, 9] rfl 0 3 rfl rfl rfl hl.1 rfl (Nat.le_of_ble_eq_true rfl) dX3_node_162 ⟨Nat.le_of_ble_eq_true rfl, Nat.le_of_ble_eq_true rfl⟩ ?_
      obtain ⟨v41, ev41, hf⟩ := ob hf
      refine rd_callV (As := [.int v39]) (rest := []) ⟨hx, hb, hml, hown, hts⟩ (mX3_depthOf l D k ma mi st rp tp cr cw ik ln lg ce v39 _ ev41) (cwV 1 hts (lw_V q1123 q1125 qs69 q94 q1126) rfl rfl rfl ⟨rfl, hdX3_depthOf⟩ ⟨Nat.le_of_ble_eq_true rfl, Nat.le_of_ble_eq_true rfl⟩) hK hP [0, 1, 2, 3, 4, 5, 6, 7, 8, 9] rfl 0 3 rfl rfl rfl hl.1 rfl (Nat.le_of_ble_eq_true rfl) dX3_node_165 ⟨Nat.le_of_ble_eq_true rfl, Nat.le_of_ble_eq_true rfl⟩ ?_
      refine lv_aload_n hx hb dX3_node_168 rfl (lv_at hl 0 rfl) ?_
      refine lv_iload_n hx hb dX3_node_169 rfl (lv_at hl 1 rfl) ?_
      obtain ⟨v43, ev43, hf⟩ := ob hf
      refine rd_callV (As := [.int p1]) (rest := [.int v41]) ⟨hx, hb, hml, hown, hts⟩ (mX3_depthOf l D k ma mi st rp tp cr cw ik ln lg ce p1 _ ev43) (cwV 1 hts (lw_V q1123 q1125 qs69 q94 q1126) rfl rfl rfl ⟨rfl, hdX3_depthOf⟩ ⟨Nat.le_of_ble_eq_true rfl, Nat.le_of_ble_eq_true rfl⟩) hK hP [0, 1, 2, 3, 4, 5, 6, 7, 8, 9] rfl 0 3 rfl rfl rfl hl.1 rfl (Nat.le_of_ble_eq_true rfl) dX3_node_170 ⟨Nat.le_of_ble_eq_true rfl, Nat.le_of_ble_eq_true rfl⟩ ?_
      refine lv_isub hx hb dX3_node_173 ?_
      exact rd_iret hx hb hr hlk (Option.some.inj hf) dX3_node_174
    have hf := oi_f c38 hf
    by_cases c45 : p2 = 12
    · have hf := oi_t c45 hf
      refine lv_tableIn (off := 164) (tgt := 175) hx hb dX3_node_11 (by rw [c45]; decide) (by rw [c45]; decide) (by rw [c45]; rfl) (by decide) ?_
      refine lv_aload_n hx hb dX3_node_175 rfl (lv_at hl 0 rfl) ?_
      refine lv_iload_n hx hb dX3_node_176 rfl (lv_at hl 1 rfl) ?_
      obtain ⟨v46, ev46, hf⟩ := ob hf
      refine rd_callV (As := [.int p1]) (rest := []) ⟨hx, hb, hml, hown, hts⟩ (mX3_fromBelow l D k ma mi st rp tp cr cw ik ln lg ce p1 _ ev46) (cwV 1 hts (lw_V q1155 q1157 qs77 q94 q1158) rfl rfl rfl ⟨rfl, hdX3_fromBelow⟩ ⟨Nat.le_of_ble_eq_true rfl, Nat.le_of_ble_eq_true rfl⟩) hK hP [0, 1, 2, 3, 4, 5, 6, 7, 8, 9] rfl 0 3 rfl rfl rfl hl.1 rfl (Nat.le_of_ble_eq_true rfl) dX3_node_177 ⟨Nat.le_of_ble_eq_true rfl, Nat.le_of_ble_eq_true rfl⟩ ?_
      exact rd_iret hx hb hr hlk (Option.some.inj hf) dX3_node_180
    have hf := oi_f c45 hf
    by_cases c48 : p2 = 13
    · have hf := oi_t c48 hf
      refine lv_tableIn (off := 170) (tgt := 181) hx hb dX3_node_11 (by rw [c48]; decide) (by rw [c48]; decide) (by rw [c48]; rfl) (by decide) ?_
      refine lv_aload_n hx hb dX3_node_181 rfl (lv_at hl 0 rfl) ?_
      refine lv_iload_n hx hb dX3_node_182 rfl (lv_at hl 1 rfl) ?_
      obtain ⟨v49, ev49, hf⟩ := ob hf
      refine rd_callV (As := [.int p1]) (rest := []) ⟨hx, hb, hml, hown, hts⟩ (mX3_whichOf l D k ma mi st rp tp cr cw ik ln lg ce p1 _ ev49) (cwV 1 hts (lw_V q1143 q1145 qs74 q94 q1146) rfl rfl rfl ⟨rfl, hdX3_whichOf⟩ ⟨Nat.le_of_ble_eq_true rfl, Nat.le_of_ble_eq_true rfl⟩) hK hP [0, 1, 2, 3, 4, 5, 6, 7, 8, 9] rfl 0 3 rfl rfl rfl hl.1 rfl (Nat.le_of_ble_eq_true rfl) dX3_node_183 ⟨Nat.le_of_ble_eq_true rfl, Nat.le_of_ble_eq_true rfl⟩ ?_
      exact rd_iret hx hb hr hlk (Option.some.inj hf) dX3_node_186
    have hf := oi_f c48 hf
    refine lv_tableOut (tgt := 187) hx hb dX3_node_11 (tb_out14 c6 c7 c8 c9 c12 c15 c23 c26 c29 c32 c35 c38 c45 c48) (by decide) ?_
    refine lv_iconst (v := (-1)) hx hb dX3_node_187 (by decide) ?_
    exact rd_iret hx hb hr hlk (Option.some.inj hf) dX3_node_188
  · have hf := oi_t c3 hf
    refine lv_iconst (v := (-1)) hx hb dX3_node_8 (by decide) ?_
    exact rd_iret hx hb hr hlk (Option.some.inj hf) dX3_node_9
