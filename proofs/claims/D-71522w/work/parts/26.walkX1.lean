/-! walks of the tree, by program -/
set_option maxRecDepth 100000
abbrev rmX0_in : Room := { frames := 0, cells := 0, slots := 0, locals := 0 }
theorem hdX0_in : yX0_in.cls ≠ "java/lang/invoke/MethodHandle" ∧ yX0_in.cls ≠ "java/lang/invoke/VarHandle" ∧ (parseMethodDescriptor yX0_in.desc).map (fun d => d.parameters.length) = some 3 := by decide +kernel
set_option maxHeartbeats 4000000 in
theorem mX0_in (l : Launch) (D : va_G) (k : Nat → ClassId) (p1 : Int64) (p2 : Int64) (p3 : Int64) (r : Int32) (hf : fX0_in p1 p2 p3 = some r) : CtZ l yX0_in cX0_in 6 rmX0_in [.long p1, .long p2, .long p3] D k [] r := by
  refine rd_start (by decide +kernel) (Nat.le_of_ble_eq_true rfl) ?_
  intro p e s m below meth c ls hx hb hr hlk hml hown hts hP hK hl
  have hl : lv_has ls 6 [(0, .long p1), (2, .long p2), (4, .long p3)] := hl
  have hown : s.vm.findClass RX0 = some m.cls := hown
  unfold fX0_in at hf
  refine lv_lload_n hx hb dX0_in_0 rfl (lv_at hl 0 rfl) ?_
  refine lv_lload_n hx hb dX0_in_1 rfl (lv_at hl 1 rfl) ?_
  refine W.lcmp hx hb dX0_in_2 ?_
  refine lv_if_lt (tgt := 17) hx hb dX0_in_3 (by decide) (fun c1 => ?_) (fun c1 => ?_)
  · have hf := oi_t c1 hf
    refine lv_iconst (v := 0) hx hb dX0_in_17 (by decide) ?_
    exact rd_zret hx hb hr hlk (Or.inl rfl) (Option.some.inj hf) dX0_in_18
  · have hf := oi_f c1 hf
    refine lv_lload_n hx hb dX0_in_6 rfl (lv_at hl 0 rfl) ?_
    refine lv_lload hx hb dX0_in_7 (lv_at hl 2 rfl) ?_
    refine W.lcmp hx hb dX0_in_9 ?_
    refine lv_if_gt (tgt := 17) hx hb dX0_in_10 (by decide) (fun c2 => ?_) (fun c2 => ?_)
    · have hf := oi_t c2 hf
      refine lv_iconst (v := 0) hx hb dX0_in_17 (by decide) ?_
      exact rd_zret hx hb hr hlk (Or.inl rfl) (Option.some.inj hf) dX0_in_18
    · have hf := oi_f c2 hf
      refine lv_iconst (v := 1) hx hb dX0_in_13 (by decide) ?_
      refine lv_goto (tgt := 18) hx hb dX0_in_14 (by decide) ?_
      exact rd_zret hx hb hr hlk (Or.inr rfl) (Option.some.inj hf) dX0_in_18

abbrev rmX0_nodes : Room := { frames := 0, cells := 0, slots := 0, locals := 0 }
theorem hdX0_nodes : yX0_nodes.cls ≠ "java/lang/invoke/MethodHandle" ∧ yX0_nodes.cls ≠ "java/lang/invoke/VarHandle" ∧ (parseMethodDescriptor yX0_nodes.desc).map (fun d => d.parameters.length) = some 0 := by decide +kernel
set_option maxHeartbeats 4000000 in
theorem mX0_nodes (l : Launch) (D : va_G) (k : Nat → ClassId) (xa : Nat → Nat) (ra : Nat → Nat → Nat) (xi : Nat → Int32) (rs : RS) (r : Int32) (hf : fX0_nodes rs = some r) : CtI l yX0_nodes cX0_nodes 1 rmX0_nodes [.ref (xa 0)] D k (wN k xa ra xi rs) r := by
  refine rd_start (by decide +kernel) (Nat.le_of_ble_eq_true rfl) ?_
  intro p e s m below meth c ls hx hb hr hlk hml hown hts hP hK hl
  have hl : lv_has ls 1 [(0, .ref (xa 0))] := hl
  have hown : s.vm.findClass RX0 = some m.cls := hown
  unfold fX0_nodes at hf
  refine lv_aload_n hx hb dX0_nodes_0 rfl (lv_at hl 0 rfl) ?_
  refine va_get (D := D) (cl := vwCl) (ci := 0) (v := .ref (ra 0 0)) (C := RX0) (T := TX0) (N := 15) hx hb hts in_X0 hown hK.1 hP 0 rfl rfl 0 (by decide) (hts _ q190) (fun _ h9 => h9) rfl dX0_nodes_1 ?_
  refine va_getN (D := D) (cl := vwCl) (ci := 1) (v := .int (rP rs)) (C := RX1) (T := TX1) (N := 6) hx hb hts in_X1 hown hK.1 hP 1 rfl rfl 1 (by decide) (hK.nw 2 rfl) (fun _ h9 => h9) rfl dX0_nodes_4 ?_
  refine lv_iconst (v := 2) hx hb dX0_nodes_7 (by decide) ?_
  refine lv_idiv hx hb dX0_nodes_8 (by decide) ?_
  exact rd_iret hx hb hr hlk (Option.some.inj hf) dX0_nodes_9

abbrev rmX0_onInBlock : Room := { frames := 2, cells := 0, slots := 0, locals := 42 }
theorem hdX0_onInBlock : yX0_onInBlock.cls ≠ "java/lang/invoke/MethodHandle" ∧ yX0_onInBlock.cls ≠ "java/lang/invoke/VarHandle" ∧ (parseMethodDescriptor yX0_onInBlock.desc).map (fun d => d.parameters.length) = some 3 := by decide +kernel
set_option maxHeartbeats 4000000 in
theorem mX0_onInBlock (l : Launch) (D : va_G) (k : Nat → ClassId) (xa : Nat → Nat) (ra : Nat → Nat → Nat) (xi : Nat → Int32) (rs : RS) (p1 : Int32) (p2 : Int32) (p3 : Int32) (r : Int32) (hf : fX0_onInBlock rs p1 p2 p3 = some r) : CtI l yX0_onInBlock cX0_onInBlock 7 rmX0_onInBlock [.ref (xa 0), .int p1, .int p2, .int p3] D k (wN k xa ra xi rs) r := by
  refine rd_start (by decide +kernel) (Nat.le_of_ble_eq_true rfl) ?_
  intro p e s m below meth c ls hx hb hr hlk hml hown hts hP hK hl
  have hl : lv_has ls 7 [(0, .ref (xa 0)), (1, .int p1), (2, .int p2), (3, .int p3)] := hl
  have hown : s.vm.findClass RX0 = some m.cls := hown
  unfold fX0_onInBlock at hf
  refine lv_iload_n hx hb dX0_onInBlock_0 rfl (lv_at hl 1 rfl) ?_
  refine lv_istore (lv' := [(4, .int p1), (0, .ref (xa 0)), (1, .int p1), (2, .int p2), (3, .int p3)]) hx hb dX0_onInBlock_1 hl (by decide) rfl (fun ls hl => ?_)
  refine lv_iload_n hx hb dX0_onInBlock_3 rfl (lv_at hl 3 rfl) ?_
  refine lv_istore (lv' := [(5, .int p2), (4, .int p1), (0, .ref (xa 0)), (1, .int p1), (2, .int p2), (3, .int p3)]) hx hb dX0_onInBlock_4 hl (by decide) rfl (fun ls hl => ?_)
  refine lv_aload_n hx hb dX0_onInBlock_6 rfl (lv_at hl 2 rfl) ?_
  refine va_get (D := D) (cl := vwCl) (ci := 0) (v := .ref (ra 0 0)) (C := RX0) (T := TX0) (N := 15) hx hb hts in_X0 hown hK.1 hP 0 rfl rfl 0 (by decide) (hts _ q190) (fun _ h9 => h9) rfl dX0_onInBlock_7 ?_
  refine va_getN (D := D) (cl := vwCl) (ci := 1) (v := .int (rP rs)) (C := RX1) (T := TX1) (N := 6) hx hb hts in_X1 hown hK.1 hP 1 rfl rfl 1 (by decide) (hK.nw 2 rfl) (fun _ h9 => h9) rfl dX0_onInBlock_10 ?_
  refine lv_iload_n hx hb dX0_onInBlock_13 rfl (lv_at hl 3 rfl) ?_
  refine lv_bipush (v := 16) hx hb dX0_onInBlock_14 (by decide) ?_
  refine lv_idiv hx hb dX0_onInBlock_16 (by decide) ?_
  refine lv_iconst (v := 1) hx hb dX0_onInBlock_17 (by decide) ?_
  refine lv_iadd hx hb dX0_onInBlock_18 ?_
  refine lv_bipush (v := 16) hx hb dX0_onInBlock_19 (by decide) ?_
  refine lv_imul hx hb dX0_onInBlock_21 ?_
  refine x_mmin hx hb (hml.trans hl.1.symm) hown (hts _ q490) (hts _ q177) (hts _ q93) (hts _ q178) (Nat.le_of_ble_eq_true rfl) (Nat.le_of_ble_eq_true rfl) (Nat.le_of_ble_eq_true rfl) (Nat.le_of_ble_eq_true rfl) dX0_onInBlock_22 ?_
  obtain ⟨y1, ey1, hf⟩ := ob hf
  refine x_asI ey1 ?_
  refine lv_istore (lv' := [(6, .int y1), (5, .int p2), (4, .int p1), (0, .ref (xa 0)), (1, .int p1), (2, .int p2), (3, .int p3)]) hx hb dX0_onInBlock_25 hl (by decide) rfl (fun ls hl => ?_)
  have hL27 : ∀ (nn : Nat) (x4_27 : Int32) (x5_27 : Int32) (x6_27 : Int32), fX0_onInBlock_L27 rs p1 p2 p3 nn x4_27 x5_27 x6_27 = some r → ∀ ls : Array Slot, lv_has ls 7 [(0, .ref (xa 0)), (3, .int p3), (4, .int x4_27), (5, .int x5_27), (6, .int x6_27)] → gR p l e rmX0_onInBlock s m [.ref (xa 0), .int p1, .int p2, .int p3] below meth c (vp_Si (fun x => x = r)) 27 ls [] := by
    intro nn27
    induction nn27 with
    | zero =>
      intro x4_27 x5_27 x6_27 hf
      rw [fX0_onInBlock_L27] at hf; cases hf
    | succ nn27 ih27 =>
      intro x4_27 x5_27 x6_27 hf ls hl
      rw [fX0_onInBlock_L27] at hf
      refine lv_iload hx hb dX0_onInBlock_27 (lv_at hl 2 rfl) ?_
      refine lv_iload hx hb dX0_onInBlock_29 (lv_at hl 4 rfl) ?_
      refine lv_icmp_ge (tgt := 60) hx hb dX0_onInBlock_31 (by decide) (fun c2 => ?_) (fun c2 => ?_)
      · have hf := oi_t c2 hf
        refine lv_bipush (v := (-4)) hx hb dX0_onInBlock_60 (by decide) ?_
        exact rd_iret hx hb hr hlk (Option.some.inj hf) dX0_onInBlock_62
      · have hf := oi_f c2 hf
        refine lv_iload hx hb dX0_onInBlock_34 (lv_at hl 3 rfl) ?_
        refine lv_aload_n hx hb dX0_onInBlock_36 rfl (lv_at hl 0 rfl) ?_
        refine va_get (D := D) (cl := vwCl) (ci := 0) (v := .ref (ra 0 0)) (C := RX0) (T := TX0) (N := 15) hx hb hts in_X0 hown hK.1 hP 0 rfl rfl 0 (by decide) (hts _ q190) (fun _ h9 => h9) rfl dX0_onInBlock_37 ?_
        refine lv_iload hx hb dX0_onInBlock_40 (lv_at hl 2 rfl) ?_
        obtain ⟨v3, ev3, hf⟩ := ob hf
        refine rd_callV (As := [.int x4_27]) (rest := [.int x5_27]) ⟨hx, hb, hml, hown, hts⟩ (mX1_step l D k (ra 0) rs x4_27 _ ev3) (cwV 1 hts (lw_V q491 q180 q181 q91 q182) rfl rfl rfl ⟨rfl, hdX1_step⟩ ⟨Nat.le_of_ble_eq_true rfl, Nat.le_of_ble_eq_true rfl⟩) hK hP [1, 2, 3, 4, 5, 6] rfl 1 1 rfl rfl rfl hl.1 rfl (Nat.le_of_ble_eq_true rfl) dX0_onInBlock_42 ⟨Nat.le_of_ble_eq_true rfl, Nat.le_of_ble_eq_true rfl⟩ ?_
        refine lv_iadd hx hb dX0_onInBlock_45 ?_
        obtain ⟨y5, ey5, hf⟩ := ob hf
        refine x_asI ey5 ?_
        refine lv_istore (lv' := [(5, .int y5), (0, .ref (xa 0)), (3, .int p3), (4, .int x4_27), (6, .int x6_27)]) hx hb dX0_onInBlock_46 hl (by decide) rfl (fun ls hl => ?_)
        refine lv_iinc (v := (x4_27 + 1)) (lv' := [(4, .int (x4_27 + 1)), (5, .int y5), (0, .ref (xa 0)), (3, .int p3), (6, .int x6_27)]) hx hb dX0_onInBlock_48 hl (k := 3) rfl rfl (by decide) rfl (fun ls hl => ?_)
        refine lv_iload hx hb dX0_onInBlock_51 (lv_at hl 1 rfl) ?_
        refine lv_iload_n hx hb dX0_onInBlock_53 rfl (lv_at hl 3 rfl) ?_
        refine lv_icmp_ne (tgt := 27) hx hb dX0_onInBlock_54 (by decide) (fun c6 => ?_) (fun c6 => ?_)
        · have hf := oi_f c6 hf
          exact ih27 (x4_27 + 1) y5 x6_27 hf ls (lv_sub hl [2, 3, 0, 1, 4] rfl)
        · have hf := oi_t c6 hf
          refine lv_iload hx hb dX0_onInBlock_57 (lv_at hl 0 rfl) ?_
          exact rd_iret hx hb hr hlk (Option.some.inj hf) dX0_onInBlock_59
  exact hL27 FU p1 p2 y1 hf ls (lv_sub hl [3, 6, 2, 1, 0] rfl)

abbrev rmX0_searchOn : Room := { frames := 3, cells := 0, slots := 0, locals := 68 }
theorem hdX0_searchOn : yX0_searchOn.cls ≠ "java/lang/invoke/MethodHandle" ∧ yX0_searchOn.cls ≠ "java/lang/invoke/VarHandle" ∧ (parseMethodDescriptor yX0_searchOn.desc).map (fun d => d.parameters.length) = some 2 := by decide +kernel
set_option maxHeartbeats 4000000 in
theorem mX0_searchOn (l : Launch) (D : va_G) (k : Nat → ClassId) (xa : Nat → Nat) (ra : Nat → Nat → Nat) (xi : Nat → Int32) (rs : RS) (p1 : Int32) (p2 : Int32) (r : Int32) (hf : fX0_searchOn rs p1 p2 = some r) : CtI l yX0_searchOn cX0_searchOn 7 rmX0_searchOn [.ref (xa 0), .int p1, .int p2] D k (wN k xa ra xi rs) r := by
  refine rd_start (by decide +kernel) (Nat.le_of_ble_eq_true rfl) ?_
  intro p e s m below meth c ls hx hb hr hlk hml hown hts hP hK hl
  have hl : lv_has ls 7 [(0, .ref (xa 0)), (1, .int p1), (2, .int p2)] := hl
  have hown : s.vm.findClass RX0 = some m.cls := hown
  unfold fX0_searchOn at hf
  refine lv_iload_n hx hb dX0_searchOn_0 rfl (lv_at hl 1 rfl) ?_
  refine lv_aload_n hx hb dX0_searchOn_1 rfl (lv_at hl 0 rfl) ?_
  refine va_get (D := D) (cl := vwCl) (ci := 0) (v := .ref (ra 0 0)) (C := RX0) (T := TX0) (N := 15) hx hb hts in_X0 hown hK.1 hP 0 rfl rfl 0 (by decide) (hts _ q190) (fun _ h9 => h9) rfl dX0_searchOn_2 ?_
  refine va_getN (D := D) (cl := vwCl) (ci := 1) (v := .int (rP rs)) (C := RX1) (T := TX1) (N := 6) hx hb hts in_X1 hown hK.1 hP 1 rfl rfl 1 (by decide) (hK.nw 2 rfl) (fun _ h9 => h9) rfl dX0_searchOn_5 ?_
  refine lv_icmp_lt (tgt := 14) hx hb dX0_searchOn_8 (by decide) (fun c1 => ?_) (fun c1 => ?_)
  · have hf := oi_t c1 hf
    refine lv_aload_n hx hb dX0_searchOn_14 rfl (lv_at hl 0 rfl) ?_
    refine lv_iload_n hx hb dX0_searchOn_15 rfl (lv_at hl 1 rfl) ?_
    refine lv_aload_n hx hb dX0_searchOn_16 rfl (lv_at hl 0 rfl) ?_
    refine va_get (D := D) (cl := vwCl) (ci := 0) (v := .ref (ra 0 0)) (C := RX0) (T := TX0) (N := 15) hx hb hts in_X0 hown hK.1 hP 0 rfl rfl 0 (by decide) (hts _ q190) (fun _ h9 => h9) rfl dX0_searchOn_17 ?_
    refine lv_iload_n hx hb dX0_searchOn_20 rfl (lv_at hl 1 rfl) ?_
    obtain ⟨v2, ev2, hf⟩ := ob hf
    refine rd_callV (As := [.int p1]) (rest := [.int p1, .ref (xa 0)]) ⟨hx, hb, hml, hown, hts⟩ (mX1_excess l D k (ra 0) rs p1 _ ev2) (cwV 1 hts (lw_V q460 q461 q462 q91 q463) rfl rfl rfl ⟨rfl, hdX1_excess⟩ ⟨Nat.le_of_ble_eq_true rfl, Nat.le_of_ble_eq_true rfl⟩) hK hP [1, 2, 3, 4, 5, 6] rfl 1 1 rfl rfl rfl hl.1 rfl (Nat.le_of_ble_eq_true rfl) dX0_searchOn_21 ⟨Nat.le_of_ble_eq_true rfl, Nat.le_of_ble_eq_true rfl⟩ ?_
    refine lv_iload_n hx hb dX0_searchOn_24 rfl (lv_at hl 2 rfl) ?_
    obtain ⟨v4, ev4, hf⟩ := ob hf
    refine rd_callV (As := [.int p1, .int v2, .int p2]) (rest := []) ⟨hx, hb, hml, hown, hts⟩ (mX0_onInBlock l D k xa ra xi rs p1 v2 p2 _ ev4) (cwV 3 hts (lw_V q486 q488 qs14 q90 q489) rfl rfl rfl ⟨rfl, hdX0_onInBlock⟩ ⟨Nat.le_of_ble_eq_true rfl, Nat.le_of_ble_eq_true rfl⟩) hK hP [0, 1, 2, 3, 4, 5, 6] rfl 0 0 rfl rfl rfl hl.1 rfl (Nat.le_of_ble_eq_true rfl) dX0_searchOn_25 ⟨Nat.le_of_ble_eq_true rfl, Nat.le_of_ble_eq_true rfl⟩ ?_
    refine lv_istore_n (lv' := [(3, .int v4), (0, .ref (xa 0)), (1, .int p1), (2, .int p2)]) hx hb dX0_searchOn_28 rfl hl (by decide) rfl (fun ls hl => ?_)
    refine lv_iload_n hx hb dX0_searchOn_29 rfl (lv_at hl 0 rfl) ?_
    refine lv_bipush (v := (-4)) hx hb dX0_searchOn_30 (by decide) ?_
    refine lv_icmp_eq (tgt := 37) hx hb dX0_searchOn_32 (by decide) (fun c6 => ?_) (fun c6 => ?_)
    · have hf := oi_t c6 hf
      refine lv_aload_n hx hb dX0_searchOn_37 rfl (lv_at hl 1 rfl) ?_
      refine va_get (D := D) (cl := vwCl) (ci := 0) (v := .ref (ra 0 0)) (C := RX0) (T := TX0) (N := 15) hx hb hts in_X0 hown hK.1 hP 0 rfl rfl 0 (by decide) (hts _ q190) (fun _ h9 => h9) rfl dX0_searchOn_38 ?_
      refine va_getN (D := D) (cl := vwCl) (ci := 1) (v := .int (rP rs)) (C := RX1) (T := TX1) (N := 6) hx hb hts in_X1 hown hK.1 hP 1 rfl rfl 1 (by decide) (hK.nw 2 rfl) (fun _ h9 => h9) rfl dX0_searchOn_41 ?_
      refine lv_iload_n hx hb dX0_searchOn_44 rfl (lv_at hl 2 rfl) ?_
      refine lv_bipush (v := 16) hx hb dX0_searchOn_45 (by decide) ?_
      refine lv_idiv hx hb dX0_searchOn_47 (by decide) ?_
      refine lv_iconst (v := 1) hx hb dX0_searchOn_48 (by decide) ?_
      refine lv_iadd hx hb dX0_searchOn_49 ?_
      refine lv_bipush (v := 16) hx hb dX0_searchOn_50 (by decide) ?_
      refine lv_imul hx hb dX0_searchOn_52 ?_
      refine x_mmin hx hb (hml.trans hl.1.symm) hown (hts _ q490) (hts _ q177) (hts _ q93) (hts _ q178) (Nat.le_of_ble_eq_true rfl) (Nat.le_of_ble_eq_true rfl) (Nat.le_of_ble_eq_true rfl) (Nat.le_of_ble_eq_true rfl) dX0_searchOn_53 ?_
      obtain ⟨y7, ey7, hf⟩ := ob hf
      refine x_asI ey7 ?_
      refine lv_istore (lv' := [(4, .int y7), (3, .int v4), (0, .ref (xa 0)), (1, .int p1), (2, .int p2)]) hx hb dX0_searchOn_56 hl (by decide) rfl (fun ls hl => ?_)
      refine lv_aload_n hx hb dX0_searchOn_58 rfl (lv_at hl 2 rfl) ?_
      refine va_get (D := D) (cl := vwCl) (ci := 0) (v := .ref (ra 0 0)) (C := RX0) (T := TX0) (N := 15) hx hb hts in_X0 hown hK.1 hP 0 rfl rfl 0 (by decide) (hts _ q190) (fun _ h9 => h9) rfl dX0_searchOn_59 ?_
      refine lv_iload hx hb dX0_searchOn_62 (lv_at hl 0 rfl) ?_
      obtain ⟨v8, ev8, hf⟩ := ob hf
      refine rd_callV (As := [.int y7]) (rest := []) ⟨hx, hb, hml, hown, hts⟩ (mX1_excess l D k (ra 0) rs y7 _ ev8) (cwV 1 hts (lw_V q460 q461 q462 q91 q463) rfl rfl rfl ⟨rfl, hdX1_excess⟩ ⟨Nat.le_of_ble_eq_true rfl, Nat.le_of_ble_eq_true rfl⟩) hK hP [1, 2, 3, 4, 5, 6] rfl 1 1 rfl rfl rfl hl.1 rfl (Nat.le_of_ble_eq_true rfl) dX0_searchOn_64 ⟨Nat.le_of_ble_eq_true rfl, Nat.le_of_ble_eq_true rfl⟩ ?_
      refine lv_istore (lv' := [(5, .int v8), (4, .int y7), (3, .int v4), (0, .ref (xa 0)), (1, .int p1), (2, .int p2)]) hx hb dX0_searchOn_67 hl (by decide) rfl (fun ls hl => ?_)
      refine lv_bipush (v := 8) hx hb dX0_searchOn_69 (by decide) ?_
      refine lv_iload_n hx hb dX0_searchOn_71 rfl (lv_at hl 4 rfl) ?_
      refine lv_bipush (v := 16) hx hb dX0_searchOn_72 (by decide) ?_
      refine lv_idiv hx hb dX0_searchOn_74 (by decide) ?_
      refine lv_iadd hx hb dX0_searchOn_75 ?_
      obtain ⟨y10, ey10, hf⟩ := ob hf
      refine x_asI ey10 ?_
      refine lv_istore (lv' := [(6, .int y10), (5, .int v8), (4, .int y7), (3, .int v4), (0, .ref (xa 0)), (1, .int p1), (2, .int p2)]) hx hb dX0_searchOn_76 hl (by decide) rfl (fun ls hl => ?_)
      have hL78 : ∀ (nn : Nat) (x5_78 : Int32) (x6_78 : Int32), fX0_searchOn_L78 rs p1 p2 nn x5_78 x6_78 = some r → ∀ ls : Array Slot, lv_has ls 7 [(0, .ref (xa 0)), (2, .int p2), (5, .int x5_78), (6, .int x6_78)] → gR p l e rmX0_searchOn s m [.ref (xa 0), .int p1, .int p2] below meth c (vp_Si (fun x => x = r)) 78 ls [] := by
        intro nn78
        induction nn78 with
        | zero =>
          intro x5_78 x6_78 hf
          rw [fX0_searchOn_L78] at hf; cases hf
        | succ nn78 ih78 =>
          intro x5_78 x6_78 hf ls hl
          rw [fX0_searchOn_L78] at hf
          refine lv_iload hx hb dX0_searchOn_78 (lv_at hl 3 rfl) ?_
          refine lv_iconst (v := 1) hx hb dX0_searchOn_80 (by decide) ?_
          refine lv_icmp_ne (tgt := 87) hx hb dX0_searchOn_81 (by decide) (fun c11 => ?_) (fun c11 => ?_)
          · have hf := oi_f c11 hf
            refine lv_iload hx hb dX0_searchOn_87 (lv_at hl 3 rfl) ?_
            refine lv_iconst (v := 2) hx hb dX0_searchOn_89 (by decide) ?_
            refine lv_irem hx hb dX0_searchOn_90 (by decide) ?_
            have hB134 : ∀ (x5_134 : Int32) (x6_134 : Int32), fX0_searchOn_B134 rs p1 p2 (fX0_searchOn_L78 rs p1 p2 nn78) x5_134 x6_134 = some r → ∀ ls : Array Slot, lv_has ls 7 [(0, .ref (xa 0)), (2, .int p2), (5, .int x5_134), (6, .int x6_134)] → gR p l e rmX0_searchOn s m [.ref (xa 0), .int p1, .int p2] below meth c (vp_Si (fun x => x = r)) 134 ls [] := by
              intro x5_134 x6_134 hf ls hl
              unfold fX0_searchOn_B134 at hf
              refine lv_iload hx hb dX0_searchOn_134 (lv_at hl 3 rfl) ?_
              refine lv_iconst (v := 2) hx hb dX0_searchOn_136 (by decide) ?_
              refine lv_idiv hx hb dX0_searchOn_137 (by decide) ?_
              obtain ⟨y13, ey13, hf⟩ := ob hf
              refine x_asI ey13 ?_
              refine lv_istore (lv' := [(6, .int y13), (0, .ref (xa 0)), (2, .int p2), (5, .int x5_134)]) hx hb dX0_searchOn_138 hl (by decide) rfl (fun ls hl => ?_)
              refine lv_goto (tgt := 78) hx hb dX0_searchOn_140 (by decide) ?_
              exact ih78 x5_134 y13 hf ls (lv_sub hl [1, 2, 3, 0] rfl)
            refine lv_if_ne (tgt := 134) hx hb dX0_searchOn_91 (by decide) (fun c12 => ?_) (fun c12 => ?_)
            · have hf := oi_f c12 hf
              exact hB134 x5_78 x6_78 hf ls (lv_sub hl [0, 1, 2, 3] rfl)
            · have hf := oi_t c12 hf
              refine lv_aload_n hx hb dX0_searchOn_94 rfl (lv_at hl 0 rfl) ?_
              refine va_get (D := D) (cl := vwCl) (ci := 0) (v := .ref (ra 0 0)) (C := RX0) (T := TX0) (N := 15) hx hb hts in_X0 hown hK.1 hP 0 rfl rfl 0 (by decide) (hts _ q190) (fun _ h9 => h9) rfl dX0_searchOn_95 ?_
              refine lv_iload hx hb dX0_searchOn_98 (lv_at hl 3 rfl) ?_
              refine lv_iconst (v := 1) hx hb dX0_searchOn_100 (by decide) ?_
              refine lv_iadd hx hb dX0_searchOn_101 ?_
              refine lv_iload hx hb dX0_searchOn_102 (lv_at hl 2 rfl) ?_
              refine lv_iload_n hx hb dX0_searchOn_104 rfl (lv_at hl 1 rfl) ?_
              obtain ⟨v14, ev14, hf⟩ := ob hf
              refine rd_callVZ (As := [.int (x6_78 + (1 : Int32)), .int x5_78, .int p2]) (rest := []) ⟨hx, hb, hml, hown, hts⟩ (mX1_comesTo l D k (ra 0) rs (x6_78 + (1 : Int32)) x5_78 p2 _ ev14) (cwV 3 hts (lw_V q492 q493 q494 q91 q495) rfl rfl rfl ⟨rfl, hdX1_comesTo⟩ ⟨Nat.le_of_ble_eq_true rfl, Nat.le_of_ble_eq_true rfl⟩) hK hP [1, 2, 3, 4, 5, 6] rfl 1 1 rfl rfl rfl hl.1 rfl (Nat.le_of_ble_eq_true rfl) dX0_searchOn_105 ⟨Nat.le_of_ble_eq_true rfl, Nat.le_of_ble_eq_true rfl⟩ (fun zv14 => ?_)
              refine lv_if_eq (tgt := 117) hx hb dX0_searchOn_108 (by decide) (fun c16 => ?_) (fun c16 => ?_)
              · have hf := oi_t c16 hf
                refine lv_iload hx hb dX0_searchOn_117 (lv_at hl 2 rfl) ?_
                refine lv_aload_n hx hb dX0_searchOn_119 rfl (lv_at hl 0 rfl) ?_
                refine va_get (D := D) (cl := vwCl) (ci := 0) (v := .ref (ra 0 0)) (C := RX0) (T := TX0) (N := 15) hx hb hts in_X0 hown hK.1 hP 0 rfl rfl 0 (by decide) (hts _ q190) (fun _ h9 => h9) rfl dX0_searchOn_120 ?_
                refine va_getN (D := D) (cl := vwCl) (ci := 1) (v := .ref (ra 0 3)) (C := RX1) (T := TX1) (N := 6) hx hb hts in_X1 hown hK.1 hP 1 rfl rfl 3 (by decide) (hK.nw 4 rfl) (fun _ h9 => h9) rfl dX0_searchOn_123 ?_
                refine lv_iload hx hb dX0_searchOn_126 (lv_at hl 3 rfl) ?_
                refine lv_iconst (v := 1) hx hb dX0_searchOn_128 (by decide) ?_
                refine lv_iadd hx hb dX0_searchOn_129 ?_
                obtain ⟨v17, ev17, hf⟩ := ob hf
                refine x_sald hx hb hK hP 4 2 ev17 rfl rfl dX0_searchOn_130 ?_
                refine lv_iadd hx hb dX0_searchOn_131 ?_
                obtain ⟨y18, ey18, hf⟩ := ob hf
                refine x_asI ey18 ?_
                refine lv_istore (lv' := [(5, .int y18), (0, .ref (xa 0)), (2, .int p2), (6, .int x6_78)]) hx hb dX0_searchOn_132 hl (by decide) rfl (fun ls hl => ?_)
                exact hB134 y18 x6_78 hf ls (lv_sub hl [1, 2, 0, 3] rfl)
              · have hf := oi_f c16 hf
                refine lv_iinc (v := (x6_78 + 1)) (lv' := [(6, .int (x6_78 + 1)), (0, .ref (xa 0)), (2, .int p2), (5, .int x5_78)]) hx hb dX0_searchOn_111 hl (k := 3) rfl rfl (by decide) rfl (fun ls hl => ?_)
                refine lv_goto (tgt := 143) hx hb dX0_searchOn_114 (by decide) ?_
                have hL143 : ∀ (nn : Nat) (x5_143 : Int32) (x6_143 : Int32), fX0_searchOn_L143 rs p1 p2 nn x5_143 x6_143 = some r → ∀ ls : Array Slot, lv_has ls 7 [(0, .ref (xa 0)), (2, .int p2), (5, .int x5_143), (6, .int x6_143)] → gR p l e rmX0_searchOn s m [.ref (xa 0), .int p1, .int p2] below meth c (vp_Si (fun x => x = r)) 143 ls [] := by
                  intro nn143
                  induction nn143 with
                  | zero =>
                    intro x5_143 x6_143 hf
                    rw [fX0_searchOn_L143] at hf; cases hf
                  | succ nn143 ih143 =>
                    intro x5_143 x6_143 hf ls hl
                    rw [fX0_searchOn_L143] at hf
                    refine lv_iload hx hb dX0_searchOn_143 (lv_at hl 3 rfl) ?_
                    refine lv_bipush (v := 8) hx hb dX0_searchOn_145 (by decide) ?_
                    refine lv_icmp_ge (tgt := 192) hx hb dX0_searchOn_147 (by decide) (fun c19 => ?_) (fun c19 => ?_)
                    · have hf := oi_t c19 hf
                      refine lv_aload_n hx hb dX0_searchOn_192 rfl (lv_at hl 0 rfl) ?_
                      refine lv_bipush (v := 16) hx hb dX0_searchOn_193 (by decide) ?_
                      refine lv_iload hx hb dX0_searchOn_195 (lv_at hl 3 rfl) ?_
                      refine lv_bipush (v := 8) hx hb dX0_searchOn_197 (by decide) ?_
                      refine lv_isub hx hb dX0_searchOn_199 ?_
                      refine lv_imul hx hb dX0_searchOn_200 ?_
                      refine lv_iload hx hb dX0_searchOn_201 (lv_at hl 2 rfl) ?_
                      refine lv_iload_n hx hb dX0_searchOn_203 rfl (lv_at hl 1 rfl) ?_
                      obtain ⟨v20, ev20, hf⟩ := ob hf
                      refine rd_callV (As := [.int ((16 : Int32) * (x6_143 - (8 : Int32))), .int x5_143, .int p2]) (rest := []) ⟨hx, hb, hml, hown, hts⟩ (mX0_onInBlock l D k xa ra xi rs ((16 : Int32) * (x6_143 - (8 : Int32))) x5_143 p2 _ ev20) (cwV 3 hts (lw_V q486 q488 qs14 q90 q489) rfl rfl rfl ⟨rfl, hdX0_onInBlock⟩ ⟨Nat.le_of_ble_eq_true rfl, Nat.le_of_ble_eq_true rfl⟩) hK hP [0, 1, 2, 3, 4, 5, 6] rfl 0 0 rfl rfl rfl hl.1 rfl (Nat.le_of_ble_eq_true rfl) dX0_searchOn_204 ⟨Nat.le_of_ble_eq_true rfl, Nat.le_of_ble_eq_true rfl⟩ ?_
                      exact rd_iret hx hb hr hlk (Option.some.inj hf) dX0_searchOn_207
                    · have hf := oi_f c19 hf
                      refine lv_iload hx hb dX0_searchOn_150 (lv_at hl 3 rfl) ?_
                      refine lv_iconst (v := 2) hx hb dX0_searchOn_152 (by decide) ?_
                      refine lv_imul hx hb dX0_searchOn_153 ?_
                      obtain ⟨y22, ey22, hf⟩ := ob hf
                      refine x_asI ey22 ?_
                      refine lv_istore (lv' := [(6, .int y22), (0, .ref (xa 0)), (2, .int p2), (5, .int x5_143)]) hx hb dX0_searchOn_154 hl (by decide) rfl (fun ls hl => ?_)
                      refine lv_aload_n hx hb dX0_searchOn_156 rfl (lv_at hl 1 rfl) ?_
                      refine va_get (D := D) (cl := vwCl) (ci := 0) (v := .ref (ra 0 0)) (C := RX0) (T := TX0) (N := 15) hx hb hts in_X0 hown hK.1 hP 0 rfl rfl 0 (by decide) (hts _ q190) (fun _ h9 => h9) rfl dX0_searchOn_157 ?_
                      refine lv_iload hx hb dX0_searchOn_160 (lv_at hl 0 rfl) ?_
                      refine lv_iload hx hb dX0_searchOn_162 (lv_at hl 3 rfl) ?_
                      refine lv_iload_n hx hb dX0_searchOn_164 rfl (lv_at hl 2 rfl) ?_
                      obtain ⟨v23, ev23, hf⟩ := ob hf
                      refine rd_callVZ (As := [.int y22, .int x5_143, .int p2]) (rest := []) ⟨hx, hb, hml, hown, hts⟩ (mX1_comesTo l D k (ra 0) rs y22 x5_143 p2 _ ev23) (cwV 3 hts (lw_V q492 q493 q494 q91 q495) rfl rfl rfl ⟨rfl, hdX1_comesTo⟩ ⟨Nat.le_of_ble_eq_true rfl, Nat.le_of_ble_eq_true rfl⟩) hK hP [1, 2, 3, 4, 5, 6] rfl 1 1 rfl rfl rfl hl.1 rfl (Nat.le_of_ble_eq_true rfl) dX0_searchOn_165 ⟨Nat.le_of_ble_eq_true rfl, Nat.le_of_ble_eq_true rfl⟩ (fun zv23 => ?_)
                      refine lv_if_ne (tgt := 143) hx hb dX0_searchOn_168 (by decide) (fun c25 => ?_) (fun c25 => ?_)
                      · have hf := oi_f c25 hf
                        exact ih143 x5_143 y22 hf ls (lv_sub hl [1, 2, 3, 0] rfl)
                      · have hf := oi_t c25 hf
                        refine lv_iload hx hb dX0_searchOn_171 (lv_at hl 3 rfl) ?_
                        refine lv_aload_n hx hb dX0_searchOn_173 rfl (lv_at hl 1 rfl) ?_
                        refine va_get (D := D) (cl := vwCl) (ci := 0) (v := .ref (ra 0 0)) (C := RX0) (T := TX0) (N := 15) hx hb hts in_X0 hown hK.1 hP 0 rfl rfl 0 (by decide) (hts _ q190) (fun _ h9 => h9) rfl dX0_searchOn_174 ?_
                        refine va_getN (D := D) (cl := vwCl) (ci := 1) (v := .ref (ra 0 3)) (C := RX1) (T := TX1) (N := 6) hx hb hts in_X1 hown hK.1 hP 1 rfl rfl 3 (by decide) (hK.nw 4 rfl) (fun _ h9 => h9) rfl dX0_searchOn_177 ?_
                        refine lv_iload hx hb dX0_searchOn_180 (lv_at hl 0 rfl) ?_
                        obtain ⟨v26, ev26, hf⟩ := ob hf
                        refine x_sald hx hb hK hP 4 2 ev26 rfl rfl dX0_searchOn_182 ?_
                        refine lv_iadd hx hb dX0_searchOn_183 ?_
                        obtain ⟨y27, ey27, hf⟩ := ob hf
                        refine x_asI ey27 ?_
                        refine lv_istore (lv' := [(5, .int y27), (6, .int y22), (0, .ref (xa 0)), (2, .int p2)]) hx hb dX0_searchOn_184 hl (by decide) rfl (fun ls hl => ?_)
                        refine lv_iinc (v := (y22 + 1)) (lv' := [(6, .int (y22 + 1)), (5, .int y27), (0, .ref (xa 0)), (2, .int p2)]) hx hb dX0_searchOn_186 hl (k := 1) rfl rfl (by decide) rfl (fun ls hl => ?_)
                        refine lv_goto (tgt := 143) hx hb dX0_searchOn_189 (by decide) ?_
                        exact ih143 y27 (y22 + 1) hf ls (lv_sub hl [2, 3, 1, 0] rfl)
                exact hL143 FU x5_78 (x6_78 + 1) hf ls (lv_sub hl [1, 2, 3, 0] rfl)
          · have hf := oi_t c11 hf
            refine lv_bipush (v := (-4)) hx hb dX0_searchOn_84 (by decide) ?_
            exact rd_iret hx hb hr hlk (Option.some.inj hf) dX0_searchOn_86
      exact hL78 FU v8 y10 hf ls (lv_sub hl [4, 6, 1, 0] rfl)
    · have hf := oi_f c6 hf
      refine lv_iload_n hx hb dX0_searchOn_35 rfl (lv_at hl 0 rfl) ?_
      exact rd_iret hx hb hr hlk (Option.some.inj hf) dX0_searchOn_36
  · have hf := oi_f c1 hf
    refine lv_bipush (v := (-4)) hx hb dX0_searchOn_11 (by decide) ?_
    exact rd_iret hx hb hr hlk (Option.some.inj hf) dX0_searchOn_13

abbrev rmX0_backInBlock : Room := { frames := 2, cells := 0, slots := 0, locals := 42 }
theorem hdX0_backInBlock : yX0_backInBlock.cls ≠ "java/lang/invoke/MethodHandle" ∧ yX0_backInBlock.cls ≠ "java/lang/invoke/VarHandle" ∧ (parseMethodDescriptor yX0_backInBlock.desc).map (fun d => d.parameters.length) = some 4 := by decide +kernel
set_option maxHeartbeats 4000000 in
theorem mX0_backInBlock (l : Launch) (D : va_G) (k : Nat → ClassId) (xa : Nat → Nat) (ra : Nat → Nat → Nat) (xi : Nat → Int32) (rs : RS) (p1 : Int32) (p2 : Int32) (p3 : Int32) (p4 : Int32) (r : Int32) (hf : fX0_backInBlock rs p1 p2 p3 p4 = some r) : CtI l yX0_backInBlock cX0_backInBlock 7 rmX0_backInBlock [.ref (xa 0), .int p1, .int p2, .int p3, .int p4] D k (wN k xa ra xi rs) r := by
  refine rd_start (by decide +kernel) (Nat.le_of_ble_eq_true rfl) ?_
  intro p e s m below meth c ls hx hb hr hlk hml hown hts hP hK hl
  have hl : lv_has ls 7 [(0, .ref (xa 0)), (1, .int p1), (2, .int p2), (3, .int p3), (4, .int p4)] := hl
  have hown : s.vm.findClass RX0 = some m.cls := hown
  unfold fX0_backInBlock at hf
  refine lv_iload_n hx hb dX0_backInBlock_0 rfl (lv_at hl 1 rfl) ?_
  refine lv_istore (lv' := [(5, .int p1), (0, .ref (xa 0)), (1, .int p1), (2, .int p2), (3, .int p3), (4, .int p4)]) hx hb dX0_backInBlock_1 hl (by decide) rfl (fun ls hl => ?_)
  refine lv_iload_n hx hb dX0_backInBlock_3 rfl (lv_at hl 3 rfl) ?_
  refine lv_istore (lv' := [(6, .int p2), (5, .int p1), (0, .ref (xa 0)), (1, .int p1), (2, .int p2), (3, .int p3), (4, .int p4)]) hx hb dX0_backInBlock_4 hl (by decide) rfl (fun ls hl => ?_)
  have hL6 : ∀ (nn : Nat) (x5_6 : Int32) (x6_6 : Int32), fX0_backInBlock_L6 rs p1 p2 p3 p4 nn x5_6 x6_6 = some r → ∀ ls : Array Slot, lv_has ls 7 [(0, .ref (xa 0)), (3, .int p3), (4, .int p4), (5, .int x5_6), (6, .int x6_6)] → gR p l e rmX0_backInBlock s m [.ref (xa 0), .int p1, .int p2, .int p3, .int p4] below meth c (vp_Si (fun x => x = r)) 6 ls [] := by
    intro nn6
    induction nn6 with
    | zero =>
      intro x5_6 x6_6 hf
      rw [fX0_backInBlock_L6] at hf; cases hf
    | succ nn6 ih6 =>
      intro x5_6 x6_6 hf ls hl
      rw [fX0_backInBlock_L6] at hf
      refine lv_iload hx hb dX0_backInBlock_6 (lv_at hl 3 rfl) ?_
      refine lv_iload hx hb dX0_backInBlock_8 (lv_at hl 2 rfl) ?_
      refine lv_icmp_le (tgt := 51) hx hb dX0_backInBlock_10 (by decide) (fun c1 => ?_) (fun c1 => ?_)
      · have hf := oi_t c1 hf
        refine lv_bipush (v := (-4)) hx hb dX0_backInBlock_51 (by decide) ?_
        exact rd_iret hx hb hr hlk (Option.some.inj hf) dX0_backInBlock_53
      · have hf := oi_f c1 hf
        refine lv_iinc (v := (x5_6 + (-1))) (lv' := [(5, .int (x5_6 + (-1))), (0, .ref (xa 0)), (3, .int p3), (4, .int p4), (6, .int x6_6)]) hx hb dX0_backInBlock_13 hl (k := 3) rfl rfl (by decide) rfl (fun ls hl => ?_)
        refine lv_iload hx hb dX0_backInBlock_16 (lv_at hl 4 rfl) ?_
        refine lv_aload_n hx hb dX0_backInBlock_18 rfl (lv_at hl 1 rfl) ?_
        refine va_get (D := D) (cl := vwCl) (ci := 0) (v := .ref (ra 0 0)) (C := RX0) (T := TX0) (N := 15) hx hb hts in_X0 hown hK.1 hP 0 rfl rfl 0 (by decide) (hts _ q190) (fun _ h9 => h9) rfl dX0_backInBlock_19 ?_
        refine lv_iload hx hb dX0_backInBlock_22 (lv_at hl 0 rfl) ?_
        obtain ⟨v2, ev2, hf⟩ := ob hf
        refine rd_callV (As := [.int (x5_6 + (-1))]) (rest := [.int x6_6]) ⟨hx, hb, hml, hown, hts⟩ (mX1_step l D k (ra 0) rs (x5_6 + (-1)) _ ev2) (cwV 1 hts (lw_V q491 q180 q181 q91 q182) rfl rfl rfl ⟨rfl, hdX1_step⟩ ⟨Nat.le_of_ble_eq_true rfl, Nat.le_of_ble_eq_true rfl⟩) hK hP [1, 2, 3, 4, 5, 6] rfl 1 1 rfl rfl rfl hl.1 rfl (Nat.le_of_ble_eq_true rfl) dX0_backInBlock_24 ⟨Nat.le_of_ble_eq_true rfl, Nat.le_of_ble_eq_true rfl⟩ ?_
        refine lv_isub hx hb dX0_backInBlock_27 ?_
        obtain ⟨y4, ey4, hf⟩ := ob hf
        refine x_asI ey4 ?_
        refine lv_istore (lv' := [(6, .int y4), (5, .int (x5_6 + (-1))), (0, .ref (xa 0)), (3, .int p3), (4, .int p4)]) hx hb dX0_backInBlock_28 hl (by decide) rfl (fun ls hl => ?_)
        refine lv_iload hx hb dX0_backInBlock_30 (lv_at hl 0 rfl) ?_
        refine lv_iload_n hx hb dX0_backInBlock_32 rfl (lv_at hl 3 rfl) ?_
        refine lv_icmp_ne (tgt := 6) hx hb dX0_backInBlock_33 (by decide) (fun c5 => ?_) (fun c5 => ?_)
        · have hf := oi_f c5 hf
          exact ih6 (x5_6 + (-1)) y4 hf ls (lv_sub hl [2, 3, 4, 1, 0] rfl)
        · have hf := oi_t c5 hf
          refine lv_iload hx hb dX0_backInBlock_36 (lv_at hl 1 rfl) ?_
          refine lv_iload hx hb dX0_backInBlock_38 (lv_at hl 4 rfl) ?_
          refine lv_icmp_gt (tgt := 48) hx hb dX0_backInBlock_40 (by decide) (fun c6 => ?_) (fun c6 => ?_)
          · have hf := oi_t c6 hf
            refine lv_iload hx hb dX0_backInBlock_48 (lv_at hl 1 rfl) ?_
            exact rd_iret hx hb hr hlk (Option.some.inj hf) dX0_backInBlock_50
          · have hf := oi_f c6 hf
            refine lv_iload hx hb dX0_backInBlock_43 (lv_at hl 1 rfl) ?_
            refine lv_if_ne (tgt := 6) hx hb dX0_backInBlock_45 (by decide) (fun c7 => ?_) (fun c7 => ?_)
            · have hf := oi_f c7 hf
              exact ih6 (x5_6 + (-1)) y4 hf ls (lv_sub hl [2, 3, 4, 1, 0] rfl)
            · have hf := oi_t c7 hf
              refine lv_iload hx hb dX0_backInBlock_48 (lv_at hl 1 rfl) ?_
              exact rd_iret hx hb hr hlk (Option.some.inj hf) dX0_backInBlock_50
  exact hL6 FU p1 p2 hf ls (lv_sub hl [2, 5, 6, 1, 0] rfl)

abbrev rmX0_searchBack : Room := { frames := 3, cells := 0, slots := 0, locals := 68 }
theorem hdX0_searchBack : yX0_searchBack.cls ≠ "java/lang/invoke/MethodHandle" ∧ yX0_searchBack.cls ≠ "java/lang/invoke/VarHandle" ∧ (parseMethodDescriptor yX0_searchBack.desc).map (fun d => d.parameters.length) = some 2 := by decide +kernel
set_option maxHeartbeats 4000000 in
theorem mX0_searchBack (l : Launch) (D : va_G) (k : Nat → ClassId) (xa : Nat → Nat) (ra : Nat → Nat → Nat) (xi : Nat → Int32) (rs : RS) (p1 : Int32) (p2 : Int32) (r : Int32) (hf : fX0_searchBack rs p1 p2 = some r) : CtI l yX0_searchBack cX0_searchBack 8 rmX0_searchBack [.ref (xa 0), .int p1, .int p2] D k (wN k xa ra xi rs) r := by
  refine rd_start (by decide +kernel) (Nat.le_of_ble_eq_true rfl) ?_
  intro p e s m below meth c ls hx hb hr hlk hml hown hts hP hK hl
  have hl : lv_has ls 8 [(0, .ref (xa 0)), (1, .int p1), (2, .int p2)] := hl
  have hown : s.vm.findClass RX0 = some m.cls := hown
  unfold fX0_searchBack at hf
  refine lv_iload_n hx hb dX0_searchBack_0 rfl (lv_at hl 1 rfl) ?_
  refine lv_if_ne (tgt := 7) hx hb dX0_searchBack_1 (by decide) (fun c1 => ?_) (fun c1 => ?_)
  · have hf := oi_f c1 hf
    refine lv_iload_n hx hb dX0_searchBack_7 rfl (lv_at hl 1 rfl) ?_
    refine lv_iconst (v := 1) hx hb dX0_searchBack_8 (by decide) ?_
    refine lv_isub hx hb dX0_searchBack_9 ?_
    refine lv_bipush (v := 16) hx hb dX0_searchBack_10 (by decide) ?_
    refine lv_idiv hx hb dX0_searchBack_12 (by decide) ?_
    obtain ⟨y2, ey2, hf⟩ := ob hf
    refine x_asI ey2 ?_
    refine lv_istore_n (lv' := [(3, .int y2), (0, .ref (xa 0)), (1, .int p1), (2, .int p2)]) hx hb dX0_searchBack_13 rfl hl (by decide) rfl (fun ls hl => ?_)
    refine lv_aload_n hx hb dX0_searchBack_14 rfl (lv_at hl 1 rfl) ?_
    refine lv_iload_n hx hb dX0_searchBack_15 rfl (lv_at hl 2 rfl) ?_
    refine lv_aload_n hx hb dX0_searchBack_16 rfl (lv_at hl 1 rfl) ?_
    refine va_get (D := D) (cl := vwCl) (ci := 0) (v := .ref (ra 0 0)) (C := RX0) (T := TX0) (N := 15) hx hb hts in_X0 hown hK.1 hP 0 rfl rfl 0 (by decide) (hts _ q190) (fun _ h9 => h9) rfl dX0_searchBack_17 ?_
    refine lv_iload_n hx hb dX0_searchBack_20 rfl (lv_at hl 2 rfl) ?_
    obtain ⟨v3, ev3, hf⟩ := ob hf
    refine rd_callV (As := [.int p1]) (rest := [.int p1, .ref (xa 0)]) ⟨hx, hb, hml, hown, hts⟩ (mX1_excess l D k (ra 0) rs p1 _ ev3) (cwV 1 hts (lw_V q460 q461 q462 q91 q463) rfl rfl rfl ⟨rfl, hdX1_excess⟩ ⟨Nat.le_of_ble_eq_true rfl, Nat.le_of_ble_eq_true rfl⟩) hK hP [1, 2, 3, 4, 5, 6] rfl 1 1 rfl rfl rfl hl.1 rfl (Nat.le_of_ble_eq_true rfl) dX0_searchBack_21 ⟨Nat.le_of_ble_eq_true rfl, Nat.le_of_ble_eq_true rfl⟩ ?_
    refine lv_iload_n hx hb dX0_searchBack_24 rfl (lv_at hl 3 rfl) ?_
    refine lv_bipush (v := 16) hx hb dX0_searchBack_25 (by decide) ?_
    refine lv_iload_n hx hb dX0_searchBack_27 rfl (lv_at hl 0 rfl) ?_
    refine lv_imul hx hb dX0_searchBack_28 ?_
    obtain ⟨v5, ev5, hf⟩ := ob hf
    refine rd_callV (As := [.int p1, .int v3, .int p2, .int ((16 : Int32) * y2)]) (rest := []) ⟨hx, hb, hml, hown, hts⟩ (mX0_backInBlock l D k xa ra xi rs p1 v3 p2 ((16 : Int32) * y2) _ ev5) (cwV 4 hts (lw_V q504 q506 qs16 q90 q507) rfl rfl rfl ⟨rfl, hdX0_backInBlock⟩ ⟨Nat.le_of_ble_eq_true rfl, Nat.le_of_ble_eq_true rfl⟩) hK hP [0, 1, 2, 3, 4, 5, 6] rfl 0 0 rfl rfl rfl hl.1 rfl (Nat.le_of_ble_eq_true rfl) dX0_searchBack_29 ⟨Nat.le_of_ble_eq_true rfl, Nat.le_of_ble_eq_true rfl⟩ ?_
    refine lv_istore (lv' := [(4, .int v5), (3, .int y2), (0, .ref (xa 0)), (1, .int p1), (2, .int p2)]) hx hb dX0_searchBack_32 hl (by decide) rfl (fun ls hl => ?_)
    refine lv_iload hx hb dX0_searchBack_34 (lv_at hl 0 rfl) ?_
    refine lv_bipush (v := (-4)) hx hb dX0_searchBack_36 (by decide) ?_
    refine lv_icmp_ne (tgt := 45) hx hb dX0_searchBack_38 (by decide) (fun c7 => ?_) (fun c7 => ?_)
    · have hf := oi_f c7 hf
      refine lv_iload hx hb dX0_searchBack_45 (lv_at hl 0 rfl) ?_
      exact rd_iret hx hb hr hlk (Option.some.inj hf) dX0_searchBack_47
    · have hf := oi_t c7 hf
      refine lv_iload_n hx hb dX0_searchBack_41 rfl (lv_at hl 1 rfl) ?_
      refine lv_if_ne (tgt := 48) hx hb dX0_searchBack_42 (by decide) (fun c8 => ?_) (fun c8 => ?_)
      · have hf := oi_f c8 hf
        refine lv_aload_n hx hb dX0_searchBack_48 rfl (lv_at hl 2 rfl) ?_
        refine va_get (D := D) (cl := vwCl) (ci := 0) (v := .ref (ra 0 0)) (C := RX0) (T := TX0) (N := 15) hx hb hts in_X0 hown hK.1 hP 0 rfl rfl 0 (by decide) (hts _ q190) (fun _ h9 => h9) rfl dX0_searchBack_49 ?_
        refine lv_bipush (v := 16) hx hb dX0_searchBack_52 (by decide) ?_
        refine lv_iload_n hx hb dX0_searchBack_54 rfl (lv_at hl 1 rfl) ?_
        refine lv_imul hx hb dX0_searchBack_55 ?_
        obtain ⟨v9, ev9, hf⟩ := ob hf
        refine rd_callV (As := [.int ((16 : Int32) * y2)]) (rest := []) ⟨hx, hb, hml, hown, hts⟩ (mX1_excess l D k (ra 0) rs ((16 : Int32) * y2) _ ev9) (cwV 1 hts (lw_V q460 q461 q462 q91 q463) rfl rfl rfl ⟨rfl, hdX1_excess⟩ ⟨Nat.le_of_ble_eq_true rfl, Nat.le_of_ble_eq_true rfl⟩) hK hP [1, 2, 3, 4, 5, 6] rfl 1 1 rfl rfl rfl hl.1 rfl (Nat.le_of_ble_eq_true rfl) dX0_searchBack_56 ⟨Nat.le_of_ble_eq_true rfl, Nat.le_of_ble_eq_true rfl⟩ ?_
        refine lv_istore (lv' := [(5, .int v9), (4, .int v5), (3, .int y2), (0, .ref (xa 0)), (1, .int p1), (2, .int p2)]) hx hb dX0_searchBack_59 hl (by decide) rfl (fun ls hl => ?_)
        refine lv_bipush (v := 8) hx hb dX0_searchBack_61 (by decide) ?_
        refine lv_iload_n hx hb dX0_searchBack_63 rfl (lv_at hl 2 rfl) ?_
        refine lv_iadd hx hb dX0_searchBack_64 ?_
        obtain ⟨y11, ey11, hf⟩ := ob hf
        refine x_asI ey11 ?_
        refine lv_istore (lv' := [(6, .int y11), (5, .int v9), (4, .int v5), (3, .int y2), (0, .ref (xa 0)), (1, .int p1), (2, .int p2)]) hx hb dX0_searchBack_65 hl (by decide) rfl (fun ls hl => ?_)
        have hL67 : ∀ (nn : Nat) (x5_67 : Int32) (x6_67 : Int32), fX0_searchBack_L67 rs p1 p2 nn x5_67 x6_67 = some r → ∀ ls : Array Slot, lv_has ls 8 [(0, .ref (xa 0)), (2, .int p2), (5, .int x5_67), (6, .int x6_67)] → gR p l e rmX0_searchBack s m [.ref (xa 0), .int p1, .int p2] below meth c (vp_Si (fun x => x = r)) 67 ls [] := by
          intro nn67
          induction nn67 with
          | zero =>
            intro x5_67 x6_67 hf
            rw [fX0_searchBack_L67] at hf; cases hf
          | succ nn67 ih67 =>
            intro x5_67 x6_67 hf ls hl
            rw [fX0_searchBack_L67] at hf
            refine lv_iload hx hb dX0_searchBack_67 (lv_at hl 3 rfl) ?_
            refine lv_iconst (v := 1) hx hb dX0_searchBack_69 (by decide) ?_
            refine lv_icmp_ne (tgt := 84) hx hb dX0_searchBack_70 (by decide) (fun c12 => ?_) (fun c12 => ?_)
            · have hf := oi_f c12 hf
              refine lv_iload hx hb dX0_searchBack_84 (lv_at hl 3 rfl) ?_
              refine lv_iconst (v := 2) hx hb dX0_searchBack_86 (by decide) ?_
              refine lv_irem hx hb dX0_searchBack_87 (by decide) ?_
              refine lv_iconst (v := 1) hx hb dX0_searchBack_88 (by decide) ?_
              have hB145 : ∀ (x5_145 : Int32) (x6_145 : Int32), fX0_searchBack_B145 rs p1 p2 (fX0_searchBack_L67 rs p1 p2 nn67) x5_145 x6_145 = some r → ∀ ls : Array Slot, lv_has ls 8 [(0, .ref (xa 0)), (2, .int p2), (5, .int x5_145), (6, .int x6_145)] → gR p l e rmX0_searchBack s m [.ref (xa 0), .int p1, .int p2] below meth c (vp_Si (fun x => x = r)) 145 ls [] := by
                intro x5_145 x6_145 hf ls hl
                unfold fX0_searchBack_B145 at hf
                refine lv_iload hx hb dX0_searchBack_145 (lv_at hl 3 rfl) ?_
                refine lv_iconst (v := 2) hx hb dX0_searchBack_147 (by decide) ?_
                refine lv_idiv hx hb dX0_searchBack_148 (by decide) ?_
                obtain ⟨y14, ey14, hf⟩ := ob hf
                refine x_asI ey14 ?_
                refine lv_istore (lv' := [(6, .int y14), (0, .ref (xa 0)), (2, .int p2), (5, .int x5_145)]) hx hb dX0_searchBack_149 hl (by decide) rfl (fun ls hl => ?_)
                refine lv_goto (tgt := 67) hx hb dX0_searchBack_151 (by decide) ?_
                exact ih67 x5_145 y14 hf ls (lv_sub hl [1, 2, 3, 0] rfl)
              refine lv_icmp_ne (tgt := 145) hx hb dX0_searchBack_89 (by decide) (fun c13 => ?_) (fun c13 => ?_)
              · have hf := oi_f c13 hf
                exact hB145 x5_67 x6_67 hf ls (lv_sub hl [0, 1, 2, 3] rfl)
              · have hf := oi_t c13 hf
                refine lv_aload_n hx hb dX0_searchBack_92 rfl (lv_at hl 0 rfl) ?_
                refine va_get (D := D) (cl := vwCl) (ci := 0) (v := .ref (ra 0 0)) (C := RX0) (T := TX0) (N := 15) hx hb hts in_X0 hown hK.1 hP 0 rfl rfl 0 (by decide) (hts _ q190) (fun _ h9 => h9) rfl dX0_searchBack_93 ?_
                refine lv_iload hx hb dX0_searchBack_96 (lv_at hl 3 rfl) ?_
                refine lv_iconst (v := 1) hx hb dX0_searchBack_98 (by decide) ?_
                refine lv_isub hx hb dX0_searchBack_99 ?_
                refine lv_iload hx hb dX0_searchBack_100 (lv_at hl 2 rfl) ?_
                refine lv_aload_n hx hb dX0_searchBack_102 rfl (lv_at hl 0 rfl) ?_
                refine va_get (D := D) (cl := vwCl) (ci := 0) (v := .ref (ra 0 0)) (C := RX0) (T := TX0) (N := 15) hx hb hts in_X0 hown hK.1 hP 0 rfl rfl 0 (by decide) (hts _ q190) (fun _ h9 => h9) rfl dX0_searchBack_103 ?_
                refine va_getN (D := D) (cl := vwCl) (ci := 1) (v := .ref (ra 0 3)) (C := RX1) (T := TX1) (N := 6) hx hb hts in_X1 hown hK.1 hP 1 rfl rfl 3 (by decide) (hK.nw 4 rfl) (fun _ h9 => h9) rfl dX0_searchBack_106 ?_
                refine lv_iload hx hb dX0_searchBack_109 (lv_at hl 3 rfl) ?_
                refine lv_iconst (v := 1) hx hb dX0_searchBack_111 (by decide) ?_
                refine lv_isub hx hb dX0_searchBack_112 ?_
                obtain ⟨v15, ev15, hf⟩ := ob hf
                refine x_sald hx hb hK hP 4 2 ev15 rfl rfl dX0_searchBack_113 ?_
                refine lv_isub hx hb dX0_searchBack_114 ?_
                refine lv_iload_n hx hb dX0_searchBack_115 rfl (lv_at hl 1 rfl) ?_
                obtain ⟨v16, ev16, hf⟩ := ob hf
                refine rd_callVZ (As := [.int (x6_67 - (1 : Int32)), .int (x5_67 - v15), .int p2]) (rest := []) ⟨hx, hb, hml, hown, hts⟩ (mX1_comesTo l D k (ra 0) rs (x6_67 - (1 : Int32)) (x5_67 - v15) p2 _ ev16) (cwV 3 hts (lw_V q492 q493 q494 q91 q495) rfl rfl rfl ⟨rfl, hdX1_comesTo⟩ ⟨Nat.le_of_ble_eq_true rfl, Nat.le_of_ble_eq_true rfl⟩) hK hP [1, 2, 3, 4, 5, 6] rfl 1 1 rfl rfl rfl hl.1 rfl (Nat.le_of_ble_eq_true rfl) dX0_searchBack_116 ⟨Nat.le_of_ble_eq_true rfl, Nat.le_of_ble_eq_true rfl⟩ (fun zv16 => ?_)
                refine lv_if_eq (tgt := 128) hx hb dX0_searchBack_119 (by decide) (fun c18 => ?_) (fun c18 => ?_)
                · have hf := oi_t c18 hf
                  refine lv_iload hx hb dX0_searchBack_128 (lv_at hl 2 rfl) ?_
                  refine lv_aload_n hx hb dX0_searchBack_130 rfl (lv_at hl 0 rfl) ?_
                  refine va_get (D := D) (cl := vwCl) (ci := 0) (v := .ref (ra 0 0)) (C := RX0) (T := TX0) (N := 15) hx hb hts in_X0 hown hK.1 hP 0 rfl rfl 0 (by decide) (hts _ q190) (fun _ h9 => h9) rfl dX0_searchBack_131 ?_
                  refine va_getN (D := D) (cl := vwCl) (ci := 1) (v := .ref (ra 0 3)) (C := RX1) (T := TX1) (N := 6) hx hb hts in_X1 hown hK.1 hP 1 rfl rfl 3 (by decide) (hK.nw 4 rfl) (fun _ h9 => h9) rfl dX0_searchBack_134 ?_
                  refine lv_iload hx hb dX0_searchBack_137 (lv_at hl 3 rfl) ?_
                  refine lv_iconst (v := 1) hx hb dX0_searchBack_139 (by decide) ?_
                  refine lv_isub hx hb dX0_searchBack_140 ?_
                  obtain ⟨v19, ev19, hf⟩ := ob hf
                  refine x_sald hx hb hK hP 4 2 ev19 rfl rfl dX0_searchBack_141 ?_
                  refine lv_isub hx hb dX0_searchBack_142 ?_
                  obtain ⟨y20, ey20, hf⟩ := ob hf
                  refine x_asI ey20 ?_
                  refine lv_istore (lv' := [(5, .int y20), (0, .ref (xa 0)), (2, .int p2), (6, .int x6_67)]) hx hb dX0_searchBack_143 hl (by decide) rfl (fun ls hl => ?_)
                  exact hB145 y20 x6_67 hf ls (lv_sub hl [1, 2, 0, 3] rfl)
                · have hf := oi_f c18 hf
                  refine lv_iinc (v := (x6_67 + (-1))) (lv' := [(6, .int (x6_67 + (-1))), (0, .ref (xa 0)), (2, .int p2), (5, .int x5_67)]) hx hb dX0_searchBack_122 hl (k := 3) rfl rfl (by decide) rfl (fun ls hl => ?_)
                  refine lv_goto (tgt := 154) hx hb dX0_searchBack_125 (by decide) ?_
                  have hL154 : ∀ (nn : Nat) (x5_154 : Int32) (x6_154 : Int32), fX0_searchBack_L154 rs p1 p2 nn x5_154 x6_154 = some r → ∀ ls : Array Slot, lv_has ls 8 [(0, .ref (xa 0)), (2, .int p2), (5, .int x5_154), (6, .int x6_154)] → gR p l e rmX0_searchBack s m [.ref (xa 0), .int p1, .int p2] below meth c (vp_Si (fun x => x = r)) 154 ls [] := by
                    intro nn154
                    induction nn154 with
                    | zero =>
                      intro x5_154 x6_154 hf
                      rw [fX0_searchBack_L154] at hf; cases hf
                    | succ nn154 ih154 =>
                      intro x5_154 x6_154 hf ls hl
                      rw [fX0_searchBack_L154] at hf
                      refine lv_iload hx hb dX0_searchBack_154 (lv_at hl 3 rfl) ?_
                      refine lv_bipush (v := 8) hx hb dX0_searchBack_156 (by decide) ?_
                      refine lv_icmp_ge (tgt := 216) hx hb dX0_searchBack_158 (by decide) (fun c21 => ?_) (fun c21 => ?_)
                      · have hf := oi_t c21 hf
                        refine lv_bipush (v := 16) hx hb dX0_searchBack_216 (by decide) ?_
                        refine lv_iload hx hb dX0_searchBack_218 (lv_at hl 3 rfl) ?_
                        refine lv_bipush (v := 8) hx hb dX0_searchBack_220 (by decide) ?_
                        refine lv_isub hx hb dX0_searchBack_222 ?_
                        refine lv_iconst (v := 1) hx hb dX0_searchBack_223 (by decide) ?_
                        refine lv_iadd hx hb dX0_searchBack_224 ?_
                        refine lv_imul hx hb dX0_searchBack_225 ?_
                        obtain ⟨y22, ey22, hf⟩ := ob hf
                        refine x_asI ey22 ?_
                        refine lv_istore (lv' := [(7, .int y22), (0, .ref (xa 0)), (2, .int p2), (5, .int x5_154), (6, .int x6_154)]) hx hb dX0_searchBack_226 hl (by decide) rfl (fun ls hl => ?_)
                        refine lv_iload hx hb dX0_searchBack_228 (lv_at hl 3 rfl) ?_
                        refine lv_iload_n hx hb dX0_searchBack_230 rfl (lv_at hl 2 rfl) ?_
                        refine lv_icmp_ne (tgt := 239) hx hb dX0_searchBack_231 (by decide) (fun c23 => ?_) (fun c23 => ?_)
                        · have hf := oi_f c23 hf
                          refine lv_aload_n hx hb dX0_searchBack_239 rfl (lv_at hl 1 rfl) ?_
                          refine lv_iload hx hb dX0_searchBack_240 (lv_at hl 0 rfl) ?_
                          refine lv_iload hx hb dX0_searchBack_242 (lv_at hl 3 rfl) ?_
                          refine lv_iload_n hx hb dX0_searchBack_244 rfl (lv_at hl 2 rfl) ?_
                          refine lv_iload hx hb dX0_searchBack_245 (lv_at hl 0 rfl) ?_
                          refine lv_bipush (v := 16) hx hb dX0_searchBack_247 (by decide) ?_
                          refine lv_isub hx hb dX0_searchBack_249 ?_
                          obtain ⟨v24, ev24, hf⟩ := ob hf
                          refine rd_callV (As := [.int y22, .int x5_154, .int p2, .int (y22 - (16 : Int32))]) (rest := []) ⟨hx, hb, hml, hown, hts⟩ (mX0_backInBlock l D k xa ra xi rs y22 x5_154 p2 (y22 - (16 : Int32)) _ ev24) (cwV 4 hts (lw_V q504 q506 qs16 q90 q507) rfl rfl rfl ⟨rfl, hdX0_backInBlock⟩ ⟨Nat.le_of_ble_eq_true rfl, Nat.le_of_ble_eq_true rfl⟩) hK hP [0, 1, 2, 3, 4, 5, 6] rfl 0 0 rfl rfl rfl hl.1 rfl (Nat.le_of_ble_eq_true rfl) dX0_searchBack_250 ⟨Nat.le_of_ble_eq_true rfl, Nat.le_of_ble_eq_true rfl⟩ ?_
                          exact rd_iret hx hb hr hlk (Option.some.inj hf) dX0_searchBack_253
                        · have hf := oi_t c23 hf
                          refine lv_iload hx hb dX0_searchBack_234 (lv_at hl 0 rfl) ?_
                          refine lv_goto (tgt := 253) hx hb dX0_searchBack_236 (by decide) ?_
                          exact rd_iret hx hb hr hlk (Option.some.inj hf) dX0_searchBack_253
                      · have hf := oi_f c21 hf
                        refine lv_iconst (v := 2) hx hb dX0_searchBack_161 (by decide) ?_
                        refine lv_iload hx hb dX0_searchBack_162 (lv_at hl 3 rfl) ?_
                        refine lv_imul hx hb dX0_searchBack_164 ?_
                        refine lv_iconst (v := 1) hx hb dX0_searchBack_165 (by decide) ?_
                        refine lv_iadd hx hb dX0_searchBack_166 ?_
                        obtain ⟨y26, ey26, hf⟩ := ob hf
                        refine x_asI ey26 ?_
                        refine lv_istore (lv' := [(6, .int y26), (0, .ref (xa 0)), (2, .int p2), (5, .int x5_154)]) hx hb dX0_searchBack_167 hl (by decide) rfl (fun ls hl => ?_)
                        refine lv_aload_n hx hb dX0_searchBack_169 rfl (lv_at hl 1 rfl) ?_
                        refine va_get (D := D) (cl := vwCl) (ci := 0) (v := .ref (ra 0 0)) (C := RX0) (T := TX0) (N := 15) hx hb hts in_X0 hown hK.1 hP 0 rfl rfl 0 (by decide) (hts _ q190) (fun _ h9 => h9) rfl dX0_searchBack_170 ?_
                        refine lv_iload hx hb dX0_searchBack_173 (lv_at hl 0 rfl) ?_
                        refine lv_iload hx hb dX0_searchBack_175 (lv_at hl 3 rfl) ?_
                        refine lv_aload_n hx hb dX0_searchBack_177 rfl (lv_at hl 1 rfl) ?_
                        refine va_get (D := D) (cl := vwCl) (ci := 0) (v := .ref (ra 0 0)) (C := RX0) (T := TX0) (N := 15) hx hb hts in_X0 hown hK.1 hP 0 rfl rfl 0 (by decide) (hts _ q190) (fun _ h9 => h9) rfl dX0_searchBack_178 ?_
                        refine va_getN (D := D) (cl := vwCl) (ci := 1) (v := .ref (ra 0 3)) (C := RX1) (T := TX1) (N := 6) hx hb hts in_X1 hown hK.1 hP 1 rfl rfl 3 (by decide) (hK.nw 4 rfl) (fun _ h9 => h9) rfl dX0_searchBack_181 ?_
                        refine lv_iload hx hb dX0_searchBack_184 (lv_at hl 0 rfl) ?_
                        obtain ⟨v27, ev27, hf⟩ := ob hf
                        refine x_sald hx hb hK hP 4 2 ev27 rfl rfl dX0_searchBack_186 ?_
                        refine lv_isub hx hb dX0_searchBack_187 ?_
                        refine lv_iload_n hx hb dX0_searchBack_188 rfl (lv_at hl 2 rfl) ?_
                        obtain ⟨v28, ev28, hf⟩ := ob hf
                        refine rd_callVZ (As := [.int y26, .int (x5_154 - v27), .int p2]) (rest := []) ⟨hx, hb, hml, hown, hts⟩ (mX1_comesTo l D k (ra 0) rs y26 (x5_154 - v27) p2 _ ev28) (cwV 3 hts (lw_V q492 q493 q494 q91 q495) rfl rfl rfl ⟨rfl, hdX1_comesTo⟩ ⟨Nat.le_of_ble_eq_true rfl, Nat.le_of_ble_eq_true rfl⟩) hK hP [1, 2, 3, 4, 5, 6] rfl 1 1 rfl rfl rfl hl.1 rfl (Nat.le_of_ble_eq_true rfl) dX0_searchBack_189 ⟨Nat.le_of_ble_eq_true rfl, Nat.le_of_ble_eq_true rfl⟩ (fun zv28 => ?_)
                        refine lv_if_ne (tgt := 154) hx hb dX0_searchBack_192 (by decide) (fun c30 => ?_) (fun c30 => ?_)
                        · have hf := oi_f c30 hf
                          exact ih154 x5_154 y26 hf ls (lv_sub hl [1, 2, 3, 0] rfl)
                        · have hf := oi_t c30 hf
                          refine lv_iload hx hb dX0_searchBack_195 (lv_at hl 3 rfl) ?_
                          refine lv_aload_n hx hb dX0_searchBack_197 rfl (lv_at hl 1 rfl) ?_
                          refine va_get (D := D) (cl := vwCl) (ci := 0) (v := .ref (ra 0 0)) (C := RX0) (T := TX0) (N := 15) hx hb hts in_X0 hown hK.1 hP 0 rfl rfl 0 (by decide) (hts _ q190) (fun _ h9 => h9) rfl dX0_searchBack_198 ?_
                          refine va_getN (D := D) (cl := vwCl) (ci := 1) (v := .ref (ra 0 3)) (C := RX1) (T := TX1) (N := 6) hx hb hts in_X1 hown hK.1 hP 1 rfl rfl 3 (by decide) (hK.nw 4 rfl) (fun _ h9 => h9) rfl dX0_searchBack_201 ?_
                          refine lv_iload hx hb dX0_searchBack_204 (lv_at hl 0 rfl) ?_
                          obtain ⟨v31, ev31, hf⟩ := ob hf
                          refine x_sald hx hb hK hP 4 2 ev31 rfl rfl dX0_searchBack_206 ?_
                          refine lv_isub hx hb dX0_searchBack_207 ?_
                          obtain ⟨y32, ey32, hf⟩ := ob hf
                          refine x_asI ey32 ?_
                          refine lv_istore (lv' := [(5, .int y32), (6, .int y26), (0, .ref (xa 0)), (2, .int p2)]) hx hb dX0_searchBack_208 hl (by decide) rfl (fun ls hl => ?_)
                          refine lv_iinc (v := (y26 + (-1))) (lv' := [(6, .int (y26 + (-1))), (5, .int y32), (0, .ref (xa 0)), (2, .int p2)]) hx hb dX0_searchBack_210 hl (k := 1) rfl rfl (by decide) rfl (fun ls hl => ?_)
                          refine lv_goto (tgt := 154) hx hb dX0_searchBack_213 (by decide) ?_
                          exact ih154 y32 (y26 + (-1)) hf ls (lv_sub hl [2, 3, 1, 0] rfl)
                  exact hL154 FU x5_67 (x6_67 + (-1)) hf ls (lv_sub hl [1, 2, 3, 0] rfl)
            · have hf := oi_t c12 hf
              refine lv_iload_n hx hb dX0_searchBack_73 rfl (lv_at hl 1 rfl) ?_
              refine lv_if_ne (tgt := 81) hx hb dX0_searchBack_74 (by decide) (fun c33 => ?_) (fun c33 => ?_)
              · have hf := oi_f c33 hf
                refine lv_bipush (v := (-4)) hx hb dX0_searchBack_81 (by decide) ?_
                exact rd_iret hx hb hr hlk (Option.some.inj hf) dX0_searchBack_83
              · have hf := oi_t c33 hf
                refine lv_iconst (v := 0) hx hb dX0_searchBack_77 (by decide) ?_
                refine lv_goto (tgt := 83) hx hb dX0_searchBack_78 (by decide) ?_
                exact rd_iret hx hb hr hlk (Option.some.inj hf) dX0_searchBack_83
        exact hL67 FU v9 y11 hf ls (lv_sub hl [4, 6, 1, 0] rfl)
      · have hf := oi_t c8 hf
        refine lv_iload hx hb dX0_searchBack_45 (lv_at hl 0 rfl) ?_
        exact rd_iret hx hb hr hlk (Option.some.inj hf) dX0_searchBack_47
  · have hf := oi_t c1 hf
    refine lv_bipush (v := (-4)) hx hb dX0_searchBack_4 (by decide) ?_
    exact rd_iret hx hb hr hlk (Option.some.inj hf) dX0_searchBack_6

abbrev rmX0_partner : Room := { frames := 4, cells := 0, slots := 0, locals := 95 }
theorem hdX0_partner : yX0_partner.cls ≠ "java/lang/invoke/MethodHandle" ∧ yX0_partner.cls ≠ "java/lang/invoke/VarHandle" ∧ (parseMethodDescriptor yX0_partner.desc).map (fun d => d.parameters.length) = some 1 := by decide +kernel
set_option maxHeartbeats 4000000 in
theorem mX0_partner (l : Launch) (D : va_G) (k : Nat → ClassId) (xa : Nat → Nat) (ra : Nat → Nat → Nat) (xi : Nat → Int32) (rs : RS) (p1 : Int32) (r : Int32) (hf : fX0_partner rs p1 = some r) : CtI l yX0_partner cX0_partner 2 rmX0_partner [.ref (xa 0), .int p1] D k (wN k xa ra xi rs) r := by
  refine rd_start (by decide +kernel) (Nat.le_of_ble_eq_true rfl) ?_
  intro p e s m below meth c ls hx hb hr hlk hml hown hts hP hK hl
  have hl : lv_has ls 2 [(0, .ref (xa 0)), (1, .int p1)] := hl
  have hown : s.vm.findClass RX0 = some m.cls := hown
  unfold fX0_partner at hf
  refine lv_aload_n hx hb dX0_partner_0 rfl (lv_at hl 0 rfl) ?_
  refine va_get (D := D) (cl := vwCl) (ci := 0) (v := .ref (ra 0 0)) (C := RX0) (T := TX0) (N := 15) hx hb hts in_X0 hown hK.1 hP 0 rfl rfl 0 (by decide) (hts _ q190) (fun _ h9 => h9) rfl dX0_partner_1 ?_
  refine lv_iload_n hx hb dX0_partner_4 rfl (lv_at hl 1 rfl) ?_
  obtain ⟨v1, ev1, hf⟩ := ob hf
  refine rd_callVZ (As := [.int p1]) (rest := []) ⟨hx, hb, hml, hown, hts⟩ (mX1_isOpen l D k (ra 0) rs p1 _ ev1) (cwV 1 hts (lw_V q439 q184 q185 q91 q186) rfl rfl rfl ⟨rfl, hdX1_isOpen⟩ ⟨Nat.le_of_ble_eq_true rfl, Nat.le_of_ble_eq_true rfl⟩) hK hP [1, 2, 3, 4, 5, 6] rfl 1 1 rfl rfl rfl hl.1 rfl (Nat.le_of_ble_eq_true rfl) dX0_partner_5 ⟨Nat.le_of_ble_eq_true rfl, Nat.le_of_ble_eq_true rfl⟩ (fun zv1 => ?_)
  refine lv_if_eq (tgt := 29) hx hb dX0_partner_8 (by decide) (fun c3 => ?_) (fun c3 => ?_)
  · have hf := oi_t c3 hf
    refine lv_aload_n hx hb dX0_partner_29 rfl (lv_at hl 0 rfl) ?_
    refine lv_iload_n hx hb dX0_partner_30 rfl (lv_at hl 1 rfl) ?_
    refine lv_iconst (v := 1) hx hb dX0_partner_31 (by decide) ?_
    refine lv_iadd hx hb dX0_partner_32 ?_
    refine lv_aload_n hx hb dX0_partner_33 rfl (lv_at hl 0 rfl) ?_
    refine va_get (D := D) (cl := vwCl) (ci := 0) (v := .ref (ra 0 0)) (C := RX0) (T := TX0) (N := 15) hx hb hts in_X0 hown hK.1 hP 0 rfl rfl 0 (by decide) (hts _ q190) (fun _ h9 => h9) rfl dX0_partner_34 ?_
    refine lv_iload_n hx hb dX0_partner_37 rfl (lv_at hl 1 rfl) ?_
    refine lv_iconst (v := 1) hx hb dX0_partner_38 (by decide) ?_
    refine lv_iadd hx hb dX0_partner_39 ?_
    obtain ⟨v4, ev4, hf⟩ := ob hf
    refine rd_callV (As := [.int (p1 + (1 : Int32))]) (rest := [.int (p1 + (1 : Int32)), .ref (xa 0)]) ⟨hx, hb, hml, hown, hts⟩ (mX1_excess l D k (ra 0) rs (p1 + (1 : Int32)) _ ev4) (cwV 1 hts (lw_V q460 q461 q462 q91 q463) rfl rfl rfl ⟨rfl, hdX1_excess⟩ ⟨Nat.le_of_ble_eq_true rfl, Nat.le_of_ble_eq_true rfl⟩) hK hP [1, 2, 3, 4, 5, 6] rfl 1 1 rfl rfl rfl hl.1 rfl (Nat.le_of_ble_eq_true rfl) dX0_partner_40 ⟨Nat.le_of_ble_eq_true rfl, Nat.le_of_ble_eq_true rfl⟩ ?_
    obtain ⟨v6, ev6, hf⟩ := ob hf
    refine rd_callV (As := [.int (p1 + (1 : Int32)), .int v4]) (rest := []) ⟨hx, hb, hml, hown, hts⟩ (mX0_searchBack l D k xa ra xi rs (p1 + (1 : Int32)) v4 _ ev6) (cwV 2 hts (lw_V q500 q502 qs15 q90 q503) rfl rfl rfl ⟨rfl, hdX0_searchBack⟩ ⟨Nat.le_of_ble_eq_true rfl, Nat.le_of_ble_eq_true rfl⟩) hK hP [0, 1, 2, 3, 4, 5, 6] rfl 0 0 rfl rfl rfl hl.1 rfl (Nat.le_of_ble_eq_true rfl) dX0_partner_43 ⟨Nat.le_of_ble_eq_true rfl, Nat.le_of_ble_eq_true rfl⟩ ?_
    exact rd_iret hx hb hr hlk (Option.some.inj hf) dX0_partner_46
  · have hf := oi_f c3 hf
    refine lv_aload_n hx hb dX0_partner_11 rfl (lv_at hl 0 rfl) ?_
    refine lv_iload_n hx hb dX0_partner_12 rfl (lv_at hl 1 rfl) ?_
    refine lv_aload_n hx hb dX0_partner_13 rfl (lv_at hl 0 rfl) ?_
    refine va_get (D := D) (cl := vwCl) (ci := 0) (v := .ref (ra 0 0)) (C := RX0) (T := TX0) (N := 15) hx hb hts in_X0 hown hK.1 hP 0 rfl rfl 0 (by decide) (hts _ q190) (fun _ h9 => h9) rfl dX0_partner_14 ?_
    refine lv_iload_n hx hb dX0_partner_17 rfl (lv_at hl 1 rfl) ?_
    obtain ⟨v8, ev8, hf⟩ := ob hf
    refine rd_callV (As := [.int p1]) (rest := [.int p1, .ref (xa 0)]) ⟨hx, hb, hml, hown, hts⟩ (mX1_excess l D k (ra 0) rs p1 _ ev8) (cwV 1 hts (lw_V q460 q461 q462 q91 q463) rfl rfl rfl ⟨rfl, hdX1_excess⟩ ⟨Nat.le_of_ble_eq_true rfl, Nat.le_of_ble_eq_true rfl⟩) hK hP [1, 2, 3, 4, 5, 6] rfl 1 1 rfl rfl rfl hl.1 rfl (Nat.le_of_ble_eq_true rfl) dX0_partner_18 ⟨Nat.le_of_ble_eq_true rfl, Nat.le_of_ble_eq_true rfl⟩ ?_
    obtain ⟨v10, ev10, hf⟩ := ob hf
    refine rd_callV (As := [.int p1, .int v8]) (rest := []) ⟨hx, hb, hml, hown, hts⟩ (mX0_searchOn l D k xa ra xi rs p1 v8 _ ev10) (cwV 2 hts (lw_V q482 q484 qs13 q90 q485) rfl rfl rfl ⟨rfl, hdX0_searchOn⟩ ⟨Nat.le_of_ble_eq_true rfl, Nat.le_of_ble_eq_true rfl⟩) hK hP [0, 1, 2, 3, 4, 5, 6] rfl 0 0 rfl rfl rfl hl.1 rfl (Nat.le_of_ble_eq_true rfl) dX0_partner_21 ⟨Nat.le_of_ble_eq_true rfl, Nat.le_of_ble_eq_true rfl⟩ ?_
    refine lv_iconst (v := 1) hx hb dX0_partner_24 (by decide) ?_
    refine lv_isub hx hb dX0_partner_25 ?_
    refine lv_goto (tgt := 46) hx hb dX0_partner_26 (by decide) ?_
    exact rd_iret hx hb hr hlk (Option.some.inj hf) dX0_partner_46

abbrev rmX0_selected : Room := { frames := 1, cells := 0, slots := 0, locals := 21 }
theorem hdX0_selected : yX0_selected.cls ≠ "java/lang/invoke/MethodHandle" ∧ yX0_selected.cls ≠ "java/lang/invoke/VarHandle" ∧ (parseMethodDescriptor yX0_selected.desc).map (fun d => d.parameters.length) = some 2 := by decide +kernel
set_option maxHeartbeats 4000000 in
theorem mX0_selected (l : Launch) (D : va_G) (k : Nat → ClassId) (xa : Nat → Nat) (ra : Nat → Nat → Nat) (xi : Nat → Int32) (rs : RS) (p1 : Int32) (p2 : Int32) (r : Int32) (hf : fX0_selected rs p1 p2 = some r) : CtI l yX0_selected cX0_selected 6 rmX0_selected [.ref (xa 0), .int p1, .int p2] D k (wN k xa ra xi rs) r := by
  refine rd_start (by decide +kernel) (Nat.le_of_ble_eq_true rfl) ?_
  intro p e s m below meth c ls hx hb hr hlk hml hown hts hP hK hl
  have hl : lv_has ls 6 [(0, .ref (xa 0)), (1, .int p1), (2, .int p2)] := hl
  have hown : s.vm.findClass RX0 = some m.cls := hown
  unfold fX0_selected at hf
  refine lv_iload_n hx hb dX0_selected_0 rfl (lv_at hl 1 rfl) ?_
  refine lv_istore_n (lv' := [(3, .int p1), (0, .ref (xa 0)), (1, .int p1), (2, .int p2)]) hx hb dX0_selected_1 rfl hl (by decide) rfl (fun ls hl => ?_)
  refine lv_iconst (v := 0) hx hb dX0_selected_2 (by decide) ?_
  refine lv_istore (lv' := [(4, .int (0 : Int32)), (3, .int p1), (0, .ref (xa 0)), (1, .int p1), (2, .int p2)]) hx hb dX0_selected_3 hl (by decide) rfl (fun ls hl => ?_)
  have hL5 : ∀ (nn : Nat) (x3_5 : Int32) (x4_5 : Int32), fX0_selected_L5 rs p1 p2 nn x3_5 x4_5 = some r → ∀ ls : Array Slot, lv_has ls 6 [(0, .ref (xa 0)), (2, .int p2), (3, .int x3_5), (4, .int x4_5)] → gR p l e rmX0_selected s m [.ref (xa 0), .int p1, .int p2] below meth c (vp_Si (fun x => x = r)) 5 ls [] := by
    intro nn5
    induction nn5 with
    | zero =>
      intro x3_5 x4_5 hf
      rw [fX0_selected_L5] at hf; cases hf
    | succ nn5 ih5 =>
      intro x3_5 x4_5 hf ls hl
      rw [fX0_selected_L5] at hf
      refine lv_iload hx hb dX0_selected_5 (lv_at hl 3 rfl) ?_
      refine lv_aload_n hx hb dX0_selected_7 rfl (lv_at hl 0 rfl) ?_
      refine va_get (D := D) (cl := vwCl) (ci := 0) (v := .ref (ra 0 0)) (C := RX0) (T := TX0) (N := 15) hx hb hts in_X0 hown hK.1 hP 0 rfl rfl 0 (by decide) (hts _ q190) (fun _ h9 => h9) rfl dX0_selected_8 ?_
      refine va_getN (D := D) (cl := vwCl) (ci := 1) (v := .int (rP rs)) (C := RX1) (T := TX1) (N := 6) hx hb hts in_X1 hown hK.1 hP 1 rfl rfl 1 (by decide) (hK.nw 2 rfl) (fun _ h9 => h9) rfl dX0_selected_11 ?_
      refine lv_icmp_ge (tgt := 100) hx hb dX0_selected_14 (by decide) (fun c1 => ?_) (fun c1 => ?_)
      · have hf := oi_t c1 hf
        refine lv_bipush (v := (-4)) hx hb dX0_selected_100 (by decide) ?_
        exact rd_iret hx hb hr hlk (Option.some.inj hf) dX0_selected_102
      · have hf := oi_f c1 hf
        refine lv_iload_n hx hb dX0_selected_17 rfl (lv_at hl 1 rfl) ?_
        refine lv_iconst (v := 1) hx hb dX0_selected_18 (by decide) ?_
        have hB77 : ∀ (x3_77 : Int32) (x4_77 : Int32) (s0_77 : Int32), fX0_selected_B77 rs p1 p2 (fX0_selected_L5 rs p1 p2 nn5) x3_77 x4_77 s0_77 = some r → ∀ ls : Array Slot, lv_has ls 6 [(0, .ref (xa 0)), (2, .int p2), (3, .int x3_77), (4, .int x4_77)] → gR p l e rmX0_selected s m [.ref (xa 0), .int p1, .int p2] below meth c (vp_Si (fun x => x = r)) 77 ls [.int s0_77] := by
          intro x3_77 x4_77 s0_77 hf ls hl
          unfold fX0_selected_B77 at hf
          refine lv_istore (lv' := [(5, .int s0_77), (0, .ref (xa 0)), (2, .int p2), (3, .int x3_77), (4, .int x4_77)]) hx hb dX0_selected_77 hl (by decide) rfl (fun ls hl => ?_)
          refine lv_iload hx hb dX0_selected_79 (lv_at hl 0 rfl) ?_
          have hB94 : ∀ (x3_94 : Int32) (x4_94 : Int32), fX0_selected_B94 rs p1 p2 (fX0_selected_L5 rs p1 p2 nn5) x3_94 x4_94 = some r → ∀ ls : Array Slot, lv_has ls 6 [(0, .ref (xa 0)), (2, .int p2), (3, .int x3_94), (4, .int x4_94)] → gR p l e rmX0_selected s m [.ref (xa 0), .int p1, .int p2] below meth c (vp_Si (fun x => x = r)) 94 ls [] := by
            intro x3_94 x4_94 hf ls hl
            unfold fX0_selected_B94 at hf
            refine lv_iinc (v := (x4_94 + 1)) (lv' := [(4, .int (x4_94 + 1)), (0, .ref (xa 0)), (2, .int p2), (3, .int x3_94)]) hx hb dX0_selected_94 hl (k := 3) rfl rfl (by decide) rfl (fun ls hl => ?_)
            refine lv_goto (tgt := 5) hx hb dX0_selected_97 (by decide) ?_
            exact ih5 x3_94 (x4_94 + 1) hf ls (lv_sub hl [1, 2, 3, 0] rfl)
          refine lv_if_eq (tgt := 94) hx hb dX0_selected_81 (by decide) (fun c3 => ?_) (fun c3 => ?_)
          · have hf := oi_t c3 hf
            exact hB94 x3_77 x4_77 hf ls (lv_sub hl [1, 2, 3, 4] rfl)
          · have hf := oi_f c3 hf
            refine lv_iload_n hx hb dX0_selected_84 rfl (lv_at hl 3 rfl) ?_
            refine lv_iinc (v := (x3_77 + (-1))) (lv' := [(3, .int (x3_77 + (-1))), (5, .int s0_77), (0, .ref (xa 0)), (2, .int p2), (4, .int x4_77)]) hx hb dX0_selected_85 hl (k := 3) rfl rfl (by decide) rfl (fun ls hl => ?_)
            refine lv_if_ne (tgt := 94) hx hb dX0_selected_88 (by decide) (fun c4 => ?_) (fun c4 => ?_)
            · have hf := oi_f c4 hf
              exact hB94 (x3_77 + (-1)) x4_77 hf ls (lv_sub hl [2, 3, 0, 4] rfl)
            · have hf := oi_t c4 hf
              refine lv_iload hx hb dX0_selected_91 (lv_at hl 4 rfl) ?_
              exact rd_iret hx hb hr hlk (Option.some.inj hf) dX0_selected_93
        refine lv_icmp_ne (tgt := 42) hx hb dX0_selected_19 (by decide) (fun c2 => ?_) (fun c2 => ?_)
        · have hf := oi_f c2 hf
          refine lv_aload_n hx hb dX0_selected_42 rfl (lv_at hl 0 rfl) ?_
          refine va_get (D := D) (cl := vwCl) (ci := 0) (v := .ref (ra 0 0)) (C := RX0) (T := TX0) (N := 15) hx hb hts in_X0 hown hK.1 hP 0 rfl rfl 0 (by decide) (hts _ q190) (fun _ h9 => h9) rfl dX0_selected_43 ?_
          refine lv_iload hx hb dX0_selected_46 (lv_at hl 3 rfl) ?_
          obtain ⟨v5, ev5, hf⟩ := ob hf
          refine rd_callVZ (As := [.int x4_5]) (rest := []) ⟨hx, hb, hml, hown, hts⟩ (mX1_isOpen l D k (ra 0) rs x4_5 _ ev5) (cwV 1 hts (lw_V q439 q184 q185 q91 q186) rfl rfl rfl ⟨rfl, hdX1_isOpen⟩ ⟨Nat.le_of_ble_eq_true rfl, Nat.le_of_ble_eq_true rfl⟩) hK hP [1, 2, 3, 4, 5, 6] rfl 1 1 rfl rfl rfl hl.1 rfl (Nat.le_of_ble_eq_true rfl) dX0_selected_48 ⟨Nat.le_of_ble_eq_true rfl, Nat.le_of_ble_eq_true rfl⟩ (fun zv5 => ?_)
          have hB76 : ∀ (x3_76 : Int32) (x4_76 : Int32), fX0_selected_B76 rs p1 p2 (fX0_selected_L5 rs p1 p2 nn5) x3_76 x4_76 = some r → ∀ ls : Array Slot, lv_has ls 6 [(0, .ref (xa 0)), (2, .int p2), (3, .int x3_76), (4, .int x4_76)] → gR p l e rmX0_selected s m [.ref (xa 0), .int p1, .int p2] below meth c (vp_Si (fun x => x = r)) 76 ls [] := by
            intro x3_76 x4_76 hf ls hl
            unfold fX0_selected_B76 at hf
            refine lv_iconst (v := 0) hx hb dX0_selected_76 (by decide) ?_
            exact hB77 x3_76 x4_76 (0 : Int32) hf ls (lv_sub hl [0, 1, 2, 3] rfl)
          refine lv_if_eq (tgt := 76) hx hb dX0_selected_51 (by decide) (fun c7 => ?_) (fun c7 => ?_)
          · have hf := oi_t c7 hf
            exact hB76 x3_5 x4_5 hf ls (lv_sub hl [0, 1, 2, 3] rfl)
          · have hf := oi_f c7 hf
            refine lv_iload_n hx hb dX0_selected_54 rfl (lv_at hl 1 rfl) ?_
            have hB72 : ∀ (x3_72 : Int32) (x4_72 : Int32), fX0_selected_B72 rs p1 p2 (fX0_selected_L5 rs p1 p2 nn5) x3_72 x4_72 = some r → ∀ ls : Array Slot, lv_has ls 6 [(0, .ref (xa 0)), (2, .int p2), (3, .int x3_72), (4, .int x4_72)] → gR p l e rmX0_selected s m [.ref (xa 0), .int p1, .int p2] below meth c (vp_Si (fun x => x = r)) 72 ls [] := by
              intro x3_72 x4_72 hf ls hl
              unfold fX0_selected_B72 at hf
              refine lv_iconst (v := 1) hx hb dX0_selected_72 (by decide) ?_
              refine lv_goto (tgt := 77) hx hb dX0_selected_73 (by decide) ?_
              exact hB77 x3_72 x4_72 (1 : Int32) hf ls (lv_sub hl [0, 1, 2, 3] rfl)
            refine lv_if_eq (tgt := 72) hx hb dX0_selected_55 (by decide) (fun c8 => ?_) (fun c8 => ?_)
            · have hf := oi_t c8 hf
              exact hB72 x3_5 x4_5 hf ls (lv_sub hl [0, 1, 2, 3] rfl)
            · have hf := oi_f c8 hf
              refine lv_aload_n hx hb dX0_selected_58 rfl (lv_at hl 0 rfl) ?_
              refine va_get (D := D) (cl := vwCl) (ci := 0) (v := .ref (ra 0 0)) (C := RX0) (T := TX0) (N := 15) hx hb hts in_X0 hown hK.1 hP 0 rfl rfl 0 (by decide) (hts _ q190) (fun _ h9 => h9) rfl dX0_selected_59 ?_
              refine lv_iload hx hb dX0_selected_62 (lv_at hl 3 rfl) ?_
              refine lv_iconst (v := 1) hx hb dX0_selected_64 (by decide) ?_
              refine lv_iadd hx hb dX0_selected_65 ?_
              obtain ⟨v9, ev9, hf⟩ := ob hf
              refine rd_callVZ (As := [.int (x4_5 + (1 : Int32))]) (rest := []) ⟨hx, hb, hml, hown, hts⟩ (mX1_isOpen l D k (ra 0) rs (x4_5 + (1 : Int32)) _ ev9) (cwV 1 hts (lw_V q439 q184 q185 q91 q186) rfl rfl rfl ⟨rfl, hdX1_isOpen⟩ ⟨Nat.le_of_ble_eq_true rfl, Nat.le_of_ble_eq_true rfl⟩) hK hP [1, 2, 3, 4, 5, 6] rfl 1 1 rfl rfl rfl hl.1 rfl (Nat.le_of_ble_eq_true rfl) dX0_selected_66 ⟨Nat.le_of_ble_eq_true rfl, Nat.le_of_ble_eq_true rfl⟩ (fun zv9 => ?_)
              refine lv_if_ne (tgt := 76) hx hb dX0_selected_69 (by decide) (fun c11 => ?_) (fun c11 => ?_)
              · have hf := oi_f c11 hf
                exact hB76 x3_5 x4_5 hf ls (lv_sub hl [0, 1, 2, 3] rfl)
              · have hf := oi_t c11 hf
                exact hB72 x3_5 x4_5 hf ls (lv_sub hl [0, 1, 2, 3] rfl)
        · have hf := oi_t c2 hf
          refine lv_aload_n hx hb dX0_selected_22 rfl (lv_at hl 0 rfl) ?_
          refine va_get (D := D) (cl := vwCl) (ci := 0) (v := .ref (ra 0 0)) (C := RX0) (T := TX0) (N := 15) hx hb hts in_X0 hown hK.1 hP 0 rfl rfl 0 (by decide) (hts _ q190) (fun _ h9 => h9) rfl dX0_selected_23 ?_
          refine lv_iload hx hb dX0_selected_26 (lv_at hl 3 rfl) ?_
          obtain ⟨v12, ev12, hf⟩ := ob hf
          refine rd_callVZ (As := [.int x4_5]) (rest := []) ⟨hx, hb, hml, hown, hts⟩ (mX1_isOpen l D k (ra 0) rs x4_5 _ ev12) (cwV 1 hts (lw_V q439 q184 q185 q91 q186) rfl rfl rfl ⟨rfl, hdX1_isOpen⟩ ⟨Nat.le_of_ble_eq_true rfl, Nat.le_of_ble_eq_true rfl⟩) hK hP [1, 2, 3, 4, 5, 6] rfl 1 1 rfl rfl rfl hl.1 rfl (Nat.le_of_ble_eq_true rfl) dX0_selected_28 ⟨Nat.le_of_ble_eq_true rfl, Nat.le_of_ble_eq_true rfl⟩ (fun zv12 => ?_)
          refine lv_if_ne (tgt := 38) hx hb dX0_selected_31 (by decide) (fun c14 => ?_) (fun c14 => ?_)
          · have hf := oi_f c14 hf
            refine lv_iconst (v := 0) hx hb dX0_selected_38 (by decide) ?_
            refine lv_goto (tgt := 77) hx hb dX0_selected_39 (by decide) ?_
            exact hB77 x3_5 x4_5 (0 : Int32) hf ls (lv_sub hl [0, 1, 2, 3] rfl)
          · have hf := oi_t c14 hf
            refine lv_iconst (v := 1) hx hb dX0_selected_34 (by decide) ?_
            refine lv_goto (tgt := 77) hx hb dX0_selected_35 (by decide) ?_
            exact hB77 x3_5 x4_5 (1 : Int32) hf ls (lv_sub hl [0, 1, 2, 3] rfl)
  exact hL5 FU p1 (0 : Int32) hf ls (lv_sub hl [2, 4, 1, 0] rfl)

abbrev rmX0_ranked : Room := { frames := 2, cells := 0, slots := 0, locals := 47 }
theorem hdX0_ranked : yX0_ranked.cls ≠ "java/lang/invoke/MethodHandle" ∧ yX0_ranked.cls ≠ "java/lang/invoke/VarHandle" ∧ (parseMethodDescriptor yX0_ranked.desc).map (fun d => d.parameters.length) = some 2 := by decide +kernel
set_option maxHeartbeats 4000000 in
theorem mX0_ranked (l : Launch) (D : va_G) (k : Nat → ClassId) (xa : Nat → Nat) (ra : Nat → Nat → Nat) (xi : Nat → Int32) (rs : RS) (p1 : Int32) (p2 : Int32) (r : Int32) (hf : fX0_ranked rs p1 p2 = some r) : CtI l yX0_ranked cX0_ranked 5 rmX0_ranked [.ref (xa 0), .int p1, .int p2] D k (wN k xa ra xi rs) r := by
  refine rd_start (by decide +kernel) (Nat.le_of_ble_eq_true rfl) ?_
  intro p e s m below meth c ls hx hb hr hlk hml hown hts hP hK hl
  have hl : lv_has ls 5 [(0, .ref (xa 0)), (1, .int p1), (2, .int p2)] := hl
  have hown : s.vm.findClass RX0 = some m.cls := hown
  unfold fX0_ranked at hf
  refine lv_iload_n hx hb dX0_ranked_0 rfl (lv_at hl 2 rfl) ?_
  refine lv_iconst (v := 2) hx hb dX0_ranked_1 (by decide) ?_
  refine lv_icmp_ge (tgt := 31) hx hb dX0_ranked_2 (by decide) (fun c1 => ?_) (fun c1 => ?_)
  · have hf := oi_t c1 hf
    refine lv_iconst (v := 0) hx hb dX0_ranked_31 (by decide) ?_
    refine lv_istore_n (lv' := [(3, .int (0 : Int32)), (0, .ref (xa 0)), (1, .int p1), (2, .int p2)]) hx hb dX0_ranked_32 rfl hl (by decide) rfl (fun ls hl => ?_)
    refine lv_iconst (v := 0) hx hb dX0_ranked_33 (by decide) ?_
    refine lv_istore (lv' := [(4, .int (0 : Int32)), (3, .int (0 : Int32)), (0, .ref (xa 0)), (1, .int p1), (2, .int p2)]) hx hb dX0_ranked_34 hl (by decide) rfl (fun ls hl => ?_)
    have hL36 : ∀ (nn : Nat) (x3_36 : Int32) (x4_36 : Int32), fX0_ranked_L36 rs p1 p2 nn x3_36 x4_36 = some r → ∀ ls : Array Slot, lv_has ls 5 [(0, .ref (xa 0)), (1, .int p1), (3, .int x3_36), (4, .int x4_36)] → gR p l e rmX0_ranked s m [.ref (xa 0), .int p1, .int p2] below meth c (vp_Si (fun x => x = r)) 36 ls [] := by
      intro nn36
      induction nn36 with
      | zero =>
        intro x3_36 x4_36 hf
        rw [fX0_ranked_L36] at hf; cases hf
      | succ nn36 ih36 =>
        intro x3_36 x4_36 hf ls hl
        rw [fX0_ranked_L36] at hf
        refine lv_iload hx hb dX0_ranked_36 (lv_at hl 3 rfl) ?_
        refine lv_iconst (v := 1) hx hb dX0_ranked_38 (by decide) ?_
        refine lv_iadd hx hb dX0_ranked_39 ?_
        refine lv_iload_n hx hb dX0_ranked_40 rfl (lv_at hl 1 rfl) ?_
        refine lv_icmp_ge (tgt := 84) hx hb dX0_ranked_41 (by decide) (fun c2 => ?_) (fun c2 => ?_)
        · have hf := oi_t c2 hf
          refine lv_iload_n hx hb dX0_ranked_84 rfl (lv_at hl 2 rfl) ?_
          exact rd_iret hx hb hr hlk (Option.some.inj hf) dX0_ranked_85
        · have hf := oi_f c2 hf
          refine lv_iload_n hx hb dX0_ranked_44 rfl (lv_at hl 2 rfl) ?_
          refine lv_aload_n hx hb dX0_ranked_45 rfl (lv_at hl 0 rfl) ?_
          refine va_get (D := D) (cl := vwCl) (ci := 0) (v := .ref (ra 0 0)) (C := RX0) (T := TX0) (N := 15) hx hb hts in_X0 hown hK.1 hP 0 rfl rfl 0 (by decide) (hts _ q190) (fun _ h9 => h9) rfl dX0_ranked_46 ?_
          refine lv_iload hx hb dX0_ranked_49 (lv_at hl 3 rfl) ?_
          obtain ⟨v3, ev3, hf⟩ := ob hf
          refine rd_callVZ (As := [.int x4_36]) (rest := [.int x3_36]) ⟨hx, hb, hml, hown, hts⟩ (mX1_isOpen l D k (ra 0) rs x4_36 _ ev3) (cwV 1 hts (lw_V q439 q184 q185 q91 q186) rfl rfl rfl ⟨rfl, hdX1_isOpen⟩ ⟨Nat.le_of_ble_eq_true rfl, Nat.le_of_ble_eq_true rfl⟩) hK hP [1, 2, 3, 4, 5, 6] rfl 1 1 rfl rfl rfl hl.1 rfl (Nat.le_of_ble_eq_true rfl) dX0_ranked_51 ⟨Nat.le_of_ble_eq_true rfl, Nat.le_of_ble_eq_true rfl⟩ (fun zv3 => ?_)
          have hB76 : ∀ (x4_76 : Int32) (s0_76 : Int32) (s1_76 : Int32), fX0_ranked_B76 rs p1 p2 (fX0_ranked_L36 rs p1 p2 nn36) x4_76 s0_76 s1_76 = some r → ∀ ls : Array Slot, lv_has ls 5 [(0, .ref (xa 0)), (1, .int p1), (4, .int x4_76)] → gR p l e rmX0_ranked s m [.ref (xa 0), .int p1, .int p2] below meth c (vp_Si (fun x => x = r)) 76 ls [.int s0_76, .int s1_76] := by
            intro x4_76 s0_76 s1_76 hf ls hl
            unfold fX0_ranked_B76 at hf
            refine lv_iadd hx hb dX0_ranked_76 ?_
            obtain ⟨y6, ey6, hf⟩ := ob hf
            refine x_asI ey6 ?_
            refine lv_istore_n (lv' := [(3, .int y6), (0, .ref (xa 0)), (1, .int p1), (4, .int x4_76)]) hx hb dX0_ranked_77 rfl hl (by decide) rfl (fun ls hl => ?_)
            refine lv_iinc (v := (x4_76 + 1)) (lv' := [(4, .int (x4_76 + 1)), (3, .int y6), (0, .ref (xa 0)), (1, .int p1)]) hx hb dX0_ranked_78 hl (k := 3) rfl rfl (by decide) rfl (fun ls hl => ?_)
            refine lv_goto (tgt := 36) hx hb dX0_ranked_81 (by decide) ?_
            exact ih36 y6 (x4_76 + 1) hf ls (lv_sub hl [2, 3, 1, 0] rfl)
          have hB75 : ∀ (x4_75 : Int32) (s0_75 : Int32), fX0_ranked_B75 rs p1 p2 (fX0_ranked_L36 rs p1 p2 nn36) x4_75 s0_75 = some r → ∀ ls : Array Slot, lv_has ls 5 [(0, .ref (xa 0)), (1, .int p1), (4, .int x4_75)] → gR p l e rmX0_ranked s m [.ref (xa 0), .int p1, .int p2] below meth c (vp_Si (fun x => x = r)) 75 ls [.int s0_75] := by
            intro x4_75 s0_75 hf ls hl
            unfold fX0_ranked_B75 at hf
            refine lv_iconst (v := 0) hx hb dX0_ranked_75 (by decide) ?_
            exact hB76 x4_75 (0 : Int32) s0_75 hf ls (lv_sub hl [0, 1, 2] rfl)
          refine lv_if_eq (tgt := 75) hx hb dX0_ranked_54 (by decide) (fun c5 => ?_) (fun c5 => ?_)
          · have hf := oi_t c5 hf
            exact hB75 x4_36 x3_36 hf ls (lv_sub hl [0, 1, 3] rfl)
          · have hf := oi_f c5 hf
            refine lv_aload_n hx hb dX0_ranked_57 rfl (lv_at hl 0 rfl) ?_
            refine va_get (D := D) (cl := vwCl) (ci := 0) (v := .ref (ra 0 0)) (C := RX0) (T := TX0) (N := 15) hx hb hts in_X0 hown hK.1 hP 0 rfl rfl 0 (by decide) (hts _ q190) (fun _ h9 => h9) rfl dX0_ranked_58 ?_
            refine lv_iload hx hb dX0_ranked_61 (lv_at hl 3 rfl) ?_
            refine lv_iconst (v := 1) hx hb dX0_ranked_63 (by decide) ?_
            refine lv_iadd hx hb dX0_ranked_64 ?_
            obtain ⟨v7, ev7, hf⟩ := ob hf
            refine rd_callVZ (As := [.int (x4_36 + (1 : Int32))]) (rest := [.int x3_36]) ⟨hx, hb, hml, hown, hts⟩ (mX1_isOpen l D k (ra 0) rs (x4_36 + (1 : Int32)) _ ev7) (cwV 1 hts (lw_V q439 q184 q185 q91 q186) rfl rfl rfl ⟨rfl, hdX1_isOpen⟩ ⟨Nat.le_of_ble_eq_true rfl, Nat.le_of_ble_eq_true rfl⟩) hK hP [1, 2, 3, 4, 5, 6] rfl 1 1 rfl rfl rfl hl.1 rfl (Nat.le_of_ble_eq_true rfl) dX0_ranked_65 ⟨Nat.le_of_ble_eq_true rfl, Nat.le_of_ble_eq_true rfl⟩ (fun zv7 => ?_)
            refine lv_if_ne (tgt := 75) hx hb dX0_ranked_68 (by decide) (fun c9 => ?_) (fun c9 => ?_)
            · have hf := oi_f c9 hf
              exact hB75 x4_36 x3_36 hf ls (lv_sub hl [0, 1, 3] rfl)
            · have hf := oi_t c9 hf
              refine lv_iconst (v := 1) hx hb dX0_ranked_71 (by decide) ?_
              refine lv_goto (tgt := 76) hx hb dX0_ranked_72 (by decide) ?_
              exact hB76 x4_36 (1 : Int32) x3_36 hf ls (lv_sub hl [0, 1, 3] rfl)
    exact hL36 FU (0 : Int32) (0 : Int32) hf ls (lv_sub hl [2, 3, 1, 0] rfl)
  · have hf := oi_f c1 hf
    refine lv_iload_n hx hb dX0_ranked_5 rfl (lv_at hl 2 rfl) ?_
    refine lv_if_ne (tgt := 20) hx hb dX0_ranked_6 (by decide) (fun c10 => ?_) (fun c10 => ?_)
    · have hf := oi_f c10 hf
      refine lv_iload_n hx hb dX0_ranked_20 rfl (lv_at hl 1 rfl) ?_
      refine lv_aload_n hx hb dX0_ranked_21 rfl (lv_at hl 0 rfl) ?_
      refine va_get (D := D) (cl := vwCl) (ci := 0) (v := .ref (ra 0 0)) (C := RX0) (T := TX0) (N := 15) hx hb hts in_X0 hown hK.1 hP 0 rfl rfl 0 (by decide) (hts _ q190) (fun _ h9 => h9) rfl dX0_ranked_22 ?_
      refine lv_iload_n hx hb dX0_ranked_25 rfl (lv_at hl 1 rfl) ?_
      obtain ⟨v11, ev11, hf⟩ := ob hf
      refine rd_callV (As := [.int p1]) (rest := [.int p1]) ⟨hx, hb, hml, hown, hts⟩ (mX1_opens l D k (ra 0) rs p1 _ ev11) (cwV 1 hts (lw_V q429 q430 q431 q91 q432) rfl rfl rfl ⟨rfl, hdX1_opens⟩ ⟨Nat.le_of_ble_eq_true rfl, Nat.le_of_ble_eq_true rfl⟩) hK hP [1, 2, 3, 4, 5, 6] rfl 1 1 rfl rfl rfl hl.1 rfl (Nat.le_of_ble_eq_true rfl) dX0_ranked_26 ⟨Nat.le_of_ble_eq_true rfl, Nat.le_of_ble_eq_true rfl⟩ ?_
      refine lv_isub hx hb dX0_ranked_29 ?_
      exact rd_iret hx hb hr hlk (Option.some.inj hf) dX0_ranked_30
    · have hf := oi_t c10 hf
      refine lv_aload_n hx hb dX0_ranked_9 rfl (lv_at hl 0 rfl) ?_
      refine va_get (D := D) (cl := vwCl) (ci := 0) (v := .ref (ra 0 0)) (C := RX0) (T := TX0) (N := 15) hx hb hts in_X0 hown hK.1 hP 0 rfl rfl 0 (by decide) (hts _ q190) (fun _ h9 => h9) rfl dX0_ranked_10 ?_
      refine lv_iload_n hx hb dX0_ranked_13 rfl (lv_at hl 1 rfl) ?_
      obtain ⟨v13, ev13, hf⟩ := ob hf
      refine rd_callV (As := [.int p1]) (rest := []) ⟨hx, hb, hml, hown, hts⟩ (mX1_opens l D k (ra 0) rs p1 _ ev13) (cwV 1 hts (lw_V q429 q430 q431 q91 q432) rfl rfl rfl ⟨rfl, hdX1_opens⟩ ⟨Nat.le_of_ble_eq_true rfl, Nat.le_of_ble_eq_true rfl⟩) hK hP [1, 2, 3, 4, 5, 6] rfl 1 1 rfl rfl rfl hl.1 rfl (Nat.le_of_ble_eq_true rfl) dX0_ranked_14 ⟨Nat.le_of_ble_eq_true rfl, Nat.le_of_ble_eq_true rfl⟩ ?_
      refine lv_goto (tgt := 30) hx hb dX0_ranked_17 (by decide) ?_
      exact rd_iret hx hb hr hlk (Option.some.inj hf) dX0_ranked_30

abbrev rmX0_openOf : Room := { frames := 2, cells := 0, slots := 0, locals := 46 }
theorem hdX0_openOf : yX0_openOf.cls ≠ "java/lang/invoke/MethodHandle" ∧ yX0_openOf.cls ≠ "java/lang/invoke/VarHandle" ∧ (parseMethodDescriptor yX0_openOf.desc).map (fun d => d.parameters.length) = some 1 := by decide +kernel
set_option maxHeartbeats 4000000 in
theorem mX0_openOf (l : Launch) (D : va_G) (k : Nat → ClassId) (xa : Nat → Nat) (ra : Nat → Nat → Nat) (xi : Nat → Int32) (rs : RS) (p1 : Int32) (r : Int32) (hf : fX0_openOf rs p1 = some r) : CtI l yX0_openOf cX0_openOf 2 rmX0_openOf [.ref (xa 0), .int p1] D k (wN k xa ra xi rs) r := by
  refine rd_start (by decide +kernel) (Nat.le_of_ble_eq_true rfl) ?_
  intro p e s m below meth c ls hx hb hr hlk hml hown hts hP hK hl
  have hl : lv_has ls 2 [(0, .ref (xa 0)), (1, .int p1)] := hl
  have hown : s.vm.findClass RX0 = some m.cls := hown
  unfold fX0_openOf at hf
  refine lv_aload_n hx hb dX0_openOf_0 rfl (lv_at hl 0 rfl) ?_
  refine lv_iload_n hx hb dX0_openOf_1 rfl (lv_at hl 1 rfl) ?_
  refine lv_iconst (v := 0) hx hb dX0_openOf_2 (by decide) ?_
  obtain ⟨v1, ev1, hf⟩ := ob hf
  refine rd_callV (As := [.int p1, .int (0 : Int32)]) (rest := []) ⟨hx, hb, hml, hown, hts⟩ (mX0_selected l D k xa ra xi rs p1 (0 : Int32) _ ev1) (cwV 2 hts (lw_V q474 q476 qs12 q90 q477) rfl rfl rfl ⟨rfl, hdX0_selected⟩ ⟨Nat.le_of_ble_eq_true rfl, Nat.le_of_ble_eq_true rfl⟩) hK hP [0, 1, 2, 3, 4, 5, 6] rfl 0 0 rfl rfl rfl hl.1 rfl (Nat.le_of_ble_eq_true rfl) dX0_openOf_3 ⟨Nat.le_of_ble_eq_true rfl, Nat.le_of_ble_eq_true rfl⟩ ?_
  exact rd_iret hx hb hr hlk (Option.some.inj hf) dX0_openOf_6

abbrev rmX0_closeOf : Room := { frames := 5, cells := 0, slots := 0, locals := 116 }
theorem hdX0_closeOf : yX0_closeOf.cls ≠ "java/lang/invoke/MethodHandle" ∧ yX0_closeOf.cls ≠ "java/lang/invoke/VarHandle" ∧ (parseMethodDescriptor yX0_closeOf.desc).map (fun d => d.parameters.length) = some 1 := by decide +kernel
set_option maxHeartbeats 4000000 in
theorem mX0_closeOf (l : Launch) (D : va_G) (k : Nat → ClassId) (xa : Nat → Nat) (ra : Nat → Nat → Nat) (xi : Nat → Int32) (rs : RS) (p1 : Int32) (r : Int32) (hf : fX0_closeOf rs p1 = some r) : CtI l yX0_closeOf cX0_closeOf 2 rmX0_closeOf [.ref (xa 0), .int p1] D k (wN k xa ra xi rs) r := by
  refine rd_start (by decide +kernel) (Nat.le_of_ble_eq_true rfl) ?_
  intro p e s m below meth c ls hx hb hr hlk hml hown hts hP hK hl
  have hl : lv_has ls 2 [(0, .ref (xa 0)), (1, .int p1)] := hl
  have hown : s.vm.findClass RX0 = some m.cls := hown
  unfold fX0_closeOf at hf
  refine lv_aload_n hx hb dX0_closeOf_0 rfl (lv_at hl 0 rfl) ?_
  refine lv_aload_n hx hb dX0_closeOf_1 rfl (lv_at hl 0 rfl) ?_
  refine lv_iload_n hx hb dX0_closeOf_2 rfl (lv_at hl 1 rfl) ?_
  obtain ⟨v1, ev1, hf⟩ := ob hf
  refine rd_callV (As := [.int p1]) (rest := [.ref (xa 0)]) ⟨hx, hb, hml, hown, hts⟩ (mX0_openOf l D k xa ra xi rs p1 _ ev1) (cwV 1 hts (lw_V q538 q540 qs20 q90 q541) rfl rfl rfl ⟨rfl, hdX0_openOf⟩ ⟨Nat.le_of_ble_eq_true rfl, Nat.le_of_ble_eq_true rfl⟩) hK hP [0, 1, 2, 3, 4, 5, 6] rfl 0 0 rfl rfl rfl hl.1 rfl (Nat.le_of_ble_eq_true rfl) dX0_closeOf_3 ⟨Nat.le_of_ble_eq_true rfl, Nat.le_of_ble_eq_true rfl⟩ ?_
  obtain ⟨v3, ev3, hf⟩ := ob hf
  refine rd_callV (As := [.int v1]) (rest := []) ⟨hx, hb, hml, hown, hts⟩ (mX0_partner l D k xa ra xi rs v1 _ ev3) (cwV 1 hts (lw_V q512 q514 qs17 q90 q515) rfl rfl rfl ⟨rfl, hdX0_partner⟩ ⟨Nat.le_of_ble_eq_true rfl, Nat.le_of_ble_eq_true rfl⟩) hK hP [0, 1, 2, 3, 4, 5, 6] rfl 0 0 rfl rfl rfl hl.1 rfl (Nat.le_of_ble_eq_true rfl) dX0_closeOf_6 ⟨Nat.le_of_ble_eq_true rfl, Nat.le_of_ble_eq_true rfl⟩ ?_
  exact rd_iret hx hb hr hlk (Option.some.inj hf) dX0_closeOf_9

abbrev rmX0_nodeAt : Room := { frames := 2, cells := 0, slots := 0, locals := 47 }
theorem hdX0_nodeAt : yX0_nodeAt.cls ≠ "java/lang/invoke/MethodHandle" ∧ yX0_nodeAt.cls ≠ "java/lang/invoke/VarHandle" ∧ (parseMethodDescriptor yX0_nodeAt.desc).map (fun d => d.parameters.length) = some 1 := by decide +kernel
set_option maxHeartbeats 4000000 in
theorem mX0_nodeAt (l : Launch) (D : va_G) (k : Nat → ClassId) (xa : Nat → Nat) (ra : Nat → Nat → Nat) (xi : Nat → Int32) (rs : RS) (p1 : Int32) (r : Int32) (hf : fX0_nodeAt rs p1 = some r) : CtI l yX0_nodeAt cX0_nodeAt 2 rmX0_nodeAt [.ref (xa 0), .int p1] D k (wN k xa ra xi rs) r := by
  refine rd_start (by decide +kernel) (Nat.le_of_ble_eq_true rfl) ?_
  intro p e s m below meth c ls hx hb hr hlk hml hown hts hP hK hl
  have hl : lv_has ls 2 [(0, .ref (xa 0)), (1, .int p1)] := hl
  have hown : s.vm.findClass RX0 = some m.cls := hown
  unfold fX0_nodeAt at hf
  refine lv_aload_n hx hb dX0_nodeAt_0 rfl (lv_at hl 0 rfl) ?_
  refine va_get (D := D) (cl := vwCl) (ci := 0) (v := .ref (ra 0 0)) (C := RX0) (T := TX0) (N := 15) hx hb hts in_X0 hown hK.1 hP 0 rfl rfl 0 (by decide) (hts _ q190) (fun _ h9 => h9) rfl dX0_nodeAt_1 ?_
  refine lv_iload_n hx hb dX0_nodeAt_4 rfl (lv_at hl 1 rfl) ?_
  obtain ⟨v1, ev1, hf⟩ := ob hf
  refine rd_callV (As := [.int p1]) (rest := []) ⟨hx, hb, hml, hown, hts⟩ (mX1_opens l D k (ra 0) rs p1 _ ev1) (cwV 1 hts (lw_V q429 q430 q431 q91 q432) rfl rfl rfl ⟨rfl, hdX1_opens⟩ ⟨Nat.le_of_ble_eq_true rfl, Nat.le_of_ble_eq_true rfl⟩) hK hP [1, 2, 3, 4, 5, 6] rfl 1 1 rfl rfl rfl hl.1 rfl (Nat.le_of_ble_eq_true rfl) dX0_nodeAt_5 ⟨Nat.le_of_ble_eq_true rfl, Nat.le_of_ble_eq_true rfl⟩ ?_
  exact rd_iret hx hb hr hlk (Option.some.inj hf) dX0_nodeAt_8

abbrev rmX0_depthOf : Room := { frames := 3, cells := 0, slots := 0, locals := 68 }
theorem hdX0_depthOf : yX0_depthOf.cls ≠ "java/lang/invoke/MethodHandle" ∧ yX0_depthOf.cls ≠ "java/lang/invoke/VarHandle" ∧ (parseMethodDescriptor yX0_depthOf.desc).map (fun d => d.parameters.length) = some 1 := by decide +kernel
set_option maxHeartbeats 4000000 in
theorem mX0_depthOf (l : Launch) (D : va_G) (k : Nat → ClassId) (xa : Nat → Nat) (ra : Nat → Nat → Nat) (xi : Nat → Int32) (rs : RS) (p1 : Int32) (r : Int32) (hf : fX0_depthOf rs p1 = some r) : CtI l yX0_depthOf cX0_depthOf 2 rmX0_depthOf [.ref (xa 0), .int p1] D k (wN k xa ra xi rs) r := by
  refine rd_start (by decide +kernel) (Nat.le_of_ble_eq_true rfl) ?_
  intro p e s m below meth c ls hx hb hr hlk hml hown hts hP hK hl
  have hl : lv_has ls 2 [(0, .ref (xa 0)), (1, .int p1)] := hl
  have hown : s.vm.findClass RX0 = some m.cls := hown
  unfold fX0_depthOf at hf
  refine lv_aload_n hx hb dX0_depthOf_0 rfl (lv_at hl 0 rfl) ?_
  refine va_get (D := D) (cl := vwCl) (ci := 0) (v := .ref (ra 0 0)) (C := RX0) (T := TX0) (N := 15) hx hb hts in_X0 hown hK.1 hP 0 rfl rfl 0 (by decide) (hts _ q190) (fun _ h9 => h9) rfl dX0_depthOf_1 ?_
  refine lv_aload_n hx hb dX0_depthOf_4 rfl (lv_at hl 0 rfl) ?_
  refine lv_iload_n hx hb dX0_depthOf_5 rfl (lv_at hl 1 rfl) ?_
  obtain ⟨v1, ev1, hf⟩ := ob hf
  refine rd_callV (As := [.int p1]) (rest := [.ref (ra 0 0)]) ⟨hx, hb, hml, hown, hts⟩ (mX0_openOf l D k xa ra xi rs p1 _ ev1) (cwV 1 hts (lw_V q538 q540 qs20 q90 q541) rfl rfl rfl ⟨rfl, hdX0_openOf⟩ ⟨Nat.le_of_ble_eq_true rfl, Nat.le_of_ble_eq_true rfl⟩) hK hP [0, 1, 2, 3, 4, 5, 6] rfl 0 0 rfl rfl rfl hl.1 rfl (Nat.le_of_ble_eq_true rfl) dX0_depthOf_6 ⟨Nat.le_of_ble_eq_true rfl, Nat.le_of_ble_eq_true rfl⟩ ?_
  obtain ⟨v3, ev3, hf⟩ := ob hf
  refine rd_callV (As := [.int v1]) (rest := []) ⟨hx, hb, hml, hown, hts⟩ (mX1_excess l D k (ra 0) rs v1 _ ev3) (cwV 1 hts (lw_V q460 q461 q462 q91 q463) rfl rfl rfl ⟨rfl, hdX1_excess⟩ ⟨Nat.le_of_ble_eq_true rfl, Nat.le_of_ble_eq_true rfl⟩) hK hP [1, 2, 3, 4, 5, 6] rfl 1 1 rfl rfl rfl hl.1 rfl (Nat.le_of_ble_eq_true rfl) dX0_depthOf_9 ⟨Nat.le_of_ble_eq_true rfl, Nat.le_of_ble_eq_true rfl⟩ ?_
  exact rd_iret hx hb hr hlk (Option.some.inj hf) dX0_depthOf_12

abbrev rmX0_findLeast : Room := { frames := 3, cells := 0, slots := 0, locals := 68 }
theorem hdX0_findLeast : yX0_findLeast.cls ≠ "java/lang/invoke/MethodHandle" ∧ yX0_findLeast.cls ≠ "java/lang/invoke/VarHandle" ∧ (parseMethodDescriptor yX0_findLeast.desc).map (fun d => d.parameters.length) = some 2 := by decide +kernel
abbrev qcX0_findLeast (D : va_G) (k : Nat → ClassId) (xa : Nat → Nat) (ra : Nat → Nat → Nat) (xi : Nat → Int32) (rs : RS) (A : Nat → Prop) : Array Value → State → Outcome → State → Prop := va_Qv (fun (_ : Unit) => True) (fun _ t => va_P D vwCl (wN k xa ra xi rs) t.heap) A
set_option maxHeartbeats 4000000 in
theorem mX0_findLeast (l : Launch) (D : va_G) (k : Nat → ClassId) (xa : Nat → Nat) (ra : Nat → Nat → Nat) (xi : Nat → Int32) (rs : RS) (p1 : Int32) (p2 : Int32) (sz : Nat) (xi_o : Nat → Int32) (hf : fX0_findLeast xi rs p1 p2 = some xi_o) : Met l yX0_findLeast (ws_ yX0_findLeast cX0_findLeast 5 none) rmX0_findLeast (wrP D k (wN k xa ra xi rs) sz [.ref (xa 0), .int p1, .int p2]) (qcX0_findLeast D k xa ra xi_o rs (va_A (wN k xa ra xi rs) sz)) 0 0 (va_A (wN k xa ra xi rs) sz) := by
  refine wr_start (Qc := fun A => qcX0_findLeast D k xa ra xi_o rs A) (by decide +kernel) (Nat.le_of_ble_eq_true rfl) ?_
  intro p e s m below meth c ls A hA hx hb hr hlk hml hown hts hP hK hD hl
  have hl : lv_has ls 5 [(0, .ref (xa 0)), (1, .int p1), (2, .int p2)] := hl
  have hown : s.vm.findClass RX0 = some m.cls := hown
  have hS : va_S A s.heap s.heap [] := va_S.rf
  suffices hw : ∀ (H : Heap) (locs : List Loc), va_P D vwCl (wN k xa ra xi rs) H → va_S A s.heap H locs → gW p l e rmX0_findLeast s m [.ref (xa 0), .int p1, .int p2] below meth c (qcX0_findLeast D k xa ra xi_o rs A) A 0 0 H locs 0 ls [] from hw s.heap [] hP hS
  clear hP hS
  intro H locs hP hS
  unfold fX0_findLeast at hf
  refine lv_aload_n hx hb dX0_findLeast_0 rfl (lv_at hl 0 rfl) ?_
  refine va_get (D := D) (cl := vwCl) (ci := 0) (v := .ref (ra 0 0)) (C := RX0) (T := TX0) (N := 15) hx hb hts in_X0 hown hK.1 hP 0 rfl rfl 0 (by decide) (hts _ q190) (fun _ h9 => h9) rfl dX0_findLeast_1 ?_
  refine lv_iload_n hx hb dX0_findLeast_4 rfl (lv_at hl 1 rfl) ?_
  obtain ⟨v1, ev1, hf⟩ := ob hf
  refine rd_callV (As := [.int p1]) (rest := []) ⟨hx, hb, hml, hown, hts⟩ (mX1_excess l D k (ra 0) rs p1 _ ev1) (cwV 1 hts (lw_V q460 q461 q462 q91 q463) rfl rfl rfl ⟨rfl, hdX1_excess⟩ ⟨Nat.le_of_ble_eq_true rfl, Nat.le_of_ble_eq_true rfl⟩) hK hP [1, 2, 3, 4, 5, 6] rfl 1 1 rfl rfl rfl hl.1 rfl (Nat.le_of_ble_eq_true rfl) dX0_findLeast_5 ⟨Nat.le_of_ble_eq_true rfl, Nat.le_of_ble_eq_true rfl⟩ ?_
  refine lv_istore_n (lv' := [(3, .int v1), (0, .ref (xa 0)), (1, .int p1), (2, .int p2)]) hx hb dX0_findLeast_8 rfl hl (by decide) rfl (fun ls hl => ?_)
  refine lv_aload_n hx hb dX0_findLeast_9 rfl (lv_at hl 1 rfl) ?_
  refine lv_iload_n hx hb dX0_findLeast_10 rfl (lv_at hl 0 rfl) ?_
  refine va_put (D := D) (cl := vwCl) (ci := 0) (v := .int v1) (ty := .int) (C := RX0) (T := TX0) (N := 15) hx hb hts in_X0 tyX0 tyX0_ok nmX0 hown hK.1 hP hD hS 0 rfl rfl 3 (by decide) (hts _ q193) (fun _ h9 => h9) rfl (by decide +kernel) rfl rfl (Nat.le_of_ble_eq_true rfl) dX0_findLeast_11 (fun H locs hP hD hS => ?_)
  have hP : va_P D vwCl (wN k xa ra (upd xi 1 v1) rs) H := hP
  have hD : va_D A (wN k xa ra (upd xi 1 v1) rs) := hD
  refine lv_aload_n hx hb dX0_findLeast_14 rfl (lv_at hl 1 rfl) ?_
  refine lv_iload_n hx hb dX0_findLeast_15 rfl (lv_at hl 2 rfl) ?_
  refine va_put (D := D) (cl := vwCl) (ci := 0) (v := .int p1) (ty := .int) (C := RX0) (T := TX0) (N := 15) hx hb hts in_X0 tyX0 tyX0_ok nmX0 hown hK.1 hP hD hS 0 rfl rfl 4 (by decide) (hts _ q194) (fun _ h9 => h9) rfl (by decide +kernel) rfl rfl (Nat.le_of_ble_eq_true rfl) dX0_findLeast_16 (fun H locs hP hD hS => ?_)
  have hP : va_P D vwCl (wN k xa ra (upd (upd xi 1 v1) 2 p1) rs) H := hP
  have hD : va_D A (wN k xa ra (upd (upd xi 1 v1) 2 p1) rs) := hD
  refine lv_aload_n hx hb dX0_findLeast_19 rfl (lv_at hl 1 rfl) ?_
  refine lv_iconst (v := 1) hx hb dX0_findLeast_20 (by decide) ?_
  refine va_put (D := D) (cl := vwCl) (ci := 0) (v := .int (1 : Int32)) (ty := .int) (C := RX0) (T := TX0) (N := 15) hx hb hts in_X0 tyX0 tyX0_ok nmX0 hown hK.1 hP hD hS 0 rfl rfl 5 (by decide) (hts _ q195) (fun _ h9 => h9) rfl (by decide +kernel) rfl rfl (Nat.le_of_ble_eq_true rfl) dX0_findLeast_21 (fun H locs hP hD hS => ?_)
  have hP : va_P D vwCl (wN k xa ra (upd (upd (upd xi 1 v1) 2 p1) 3 (1 : Int32)) rs) H := hP
  have hD : va_D A (wN k xa ra (upd (upd (upd xi 1 v1) 2 p1) 3 (1 : Int32)) rs) := hD
  refine lv_aload_n hx hb dX0_findLeast_24 rfl (lv_at hl 1 rfl) ?_
  refine lv_iload_n hx hb dX0_findLeast_25 rfl (lv_at hl 0 rfl) ?_
  refine va_put (D := D) (cl := vwCl) (ci := 0) (v := .int v1) (ty := .int) (C := RX0) (T := TX0) (N := 15) hx hb hts in_X0 tyX0 tyX0_ok nmX0 hown hK.1 hP hD hS 0 rfl rfl 6 (by decide) (hts _ q196) (fun _ h9 => h9) rfl (by decide +kernel) rfl rfl (Nat.le_of_ble_eq_true rfl) dX0_findLeast_26 (fun H locs hP hD hS => ?_)
  have hP : va_P D vwCl (wN k xa ra (upd (upd (upd (upd xi 1 v1) 2 p1) 3 (1 : Int32)) 4 v1) rs) H := hP
  have hD : va_D A (wN k xa ra (upd (upd (upd (upd xi 1 v1) 2 p1) 3 (1 : Int32)) 4 v1) rs) := hD
  refine lv_aload_n hx hb dX0_findLeast_29 rfl (lv_at hl 1 rfl) ?_
  refine lv_iload_n hx hb dX0_findLeast_30 rfl (lv_at hl 2 rfl) ?_
  refine va_put (D := D) (cl := vwCl) (ci := 0) (v := .int p1) (ty := .int) (C := RX0) (T := TX0) (N := 15) hx hb hts in_X0 tyX0 tyX0_ok nmX0 hown hK.1 hP hD hS 0 rfl rfl 7 (by decide) (hts _ q197) (fun _ h9 => h9) rfl (by decide +kernel) rfl rfl (Nat.le_of_ble_eq_true rfl) dX0_findLeast_31 (fun H locs hP hD hS => ?_)
  have hP : va_P D vwCl (wN k xa ra (upd (upd (upd (upd (upd xi 1 v1) 2 p1) 3 (1 : Int32)) 4 v1) 5 p1) rs) H := hP
  have hD : va_D A (wN k xa ra (upd (upd (upd (upd (upd xi 1 v1) 2 p1) 3 (1 : Int32)) 4 v1) 5 p1) rs) := hD
  refine lv_iload_n hx hb dX0_findLeast_34 rfl (lv_at hl 2 rfl) ?_
  refine lv_iconst (v := 1) hx hb dX0_findLeast_35 (by decide) ?_
  refine lv_iadd hx hb dX0_findLeast_36 ?_
  obtain ⟨y3, ey3, hf⟩ := ob hf
  refine x_asI ey3 ?_
  refine lv_istore (lv' := [(4, .int y3), (3, .int v1), (0, .ref (xa 0)), (1, .int p1), (2, .int p2)]) hx hb dX0_findLeast_37 hl (by decide) rfl (fun ls hl => ?_)
  have hL39 : ∀ (nn : Nat) (xi_39 : Nat → Int32) (x3_39 : Int32) (x4_39 : Int32), ∀ (H : Heap) (locs : List Loc), va_P D vwCl (wN k xa ra xi_39 rs) H → va_D A (wN k xa ra xi_39 rs) → va_S A s.heap H locs → fX0_findLeast_L39 rs p1 p2 nn xi_39 x3_39 x4_39 = some xi_o → ∀ ls : Array Slot, lv_has ls 5 [(0, .ref (xa 0)), (2, .int p2), (3, .int x3_39), (4, .int x4_39)] → gW p l e rmX0_findLeast s m [.ref (xa 0), .int p1, .int p2] below meth c (qcX0_findLeast D k xa ra xi_o rs A) A 0 0 H locs 39 ls [] := by
    intro nn39
    induction nn39 with
    | zero =>
      intro xi_39 x3_39 x4_39 H locs hP hD hS hf
      rw [fX0_findLeast_L39] at hf; cases hf
    | succ nn39 ih39 =>
      intro xi_39 x3_39 x4_39 H locs hP hD hS hf ls hl
      rw [fX0_findLeast_L39] at hf
      refine lv_iload hx hb dX0_findLeast_39 (lv_at hl 3 rfl) ?_
      refine lv_iload_n hx hb dX0_findLeast_41 rfl (lv_at hl 1 rfl) ?_
      refine lv_icmp_gt (tgt := 144) hx hb dX0_findLeast_42 (by decide) (fun c4 => ?_) (fun c4 => ?_)
      · have hf := oi_t c4 hf
        have he1 := Option.some.inj hf
        rw [he1] at hP
        exact wr_vret hx hb hr hlk hP hS dX0_findLeast_144
      · have hf := oi_f c4 hf
        refine lv_iload_n hx hb dX0_findLeast_45 rfl (lv_at hl 2 rfl) ?_
        refine lv_aload_n hx hb dX0_findLeast_46 rfl (lv_at hl 0 rfl) ?_
        refine va_get (D := D) (cl := vwCl) (ci := 0) (v := .ref (ra 0 0)) (C := RX0) (T := TX0) (N := 15) hx hb hts in_X0 hown hK.1 hP 0 rfl rfl 0 (by decide) (hts _ q190) (fun _ h9 => h9) rfl dX0_findLeast_47 ?_
        refine lv_iload hx hb dX0_findLeast_50 (lv_at hl 3 rfl) ?_
        refine lv_iconst (v := 1) hx hb dX0_findLeast_52 (by decide) ?_
        refine lv_isub hx hb dX0_findLeast_53 ?_
        obtain ⟨v5, ev5, hf⟩ := ob hf
        refine rd_callV (As := [.int (x4_39 - (1 : Int32))]) (rest := [.int x3_39]) ⟨hx, hb, hml, hown, hts⟩ (mX1_step l D k (ra 0) rs (x4_39 - (1 : Int32)) _ ev5) (cwV 1 hts (lw_V q491 q180 q181 q91 q182) rfl rfl rfl ⟨rfl, hdX1_step⟩ ⟨Nat.le_of_ble_eq_true rfl, Nat.le_of_ble_eq_true rfl⟩) hK hP [1, 2, 3, 4, 5, 6] rfl 1 1 rfl rfl rfl hl.1 rfl (Nat.le_of_ble_eq_true rfl) dX0_findLeast_54 ⟨Nat.le_of_ble_eq_true rfl, Nat.le_of_ble_eq_true rfl⟩ ?_
        refine lv_iadd hx hb dX0_findLeast_57 ?_
        obtain ⟨y7, ey7, hf⟩ := ob hf
        refine x_asI ey7 ?_
        refine lv_istore_n (lv' := [(3, .int y7), (0, .ref (xa 0)), (2, .int p2), (4, .int x4_39)]) hx hb dX0_findLeast_58 rfl hl (by decide) rfl (fun ls hl => ?_)
        refine lv_iload_n hx hb dX0_findLeast_59 rfl (lv_at hl 0 rfl) ?_
        refine lv_aload_n hx hb dX0_findLeast_60 rfl (lv_at hl 1 rfl) ?_
        refine va_get (D := D) (cl := vwCl) (ci := 0) (v := .int (xi_39 1)) (C := RX0) (T := TX0) (N := 15) hx hb hts in_X0 hown hK.1 hP 0 rfl rfl 3 (by decide) (hts _ q193) (fun _ h9 => h9) rfl dX0_findLeast_61 ?_
        have hB83 : ∀ (xi_83 : Nat → Int32) (x3_83 : Int32) (x4_83 : Int32), ∀ (H : Heap) (locs : List Loc), va_P D vwCl (wN k xa ra xi_83 rs) H → va_D A (wN k xa ra xi_83 rs) → va_S A s.heap H locs → fX0_findLeast_B83 rs p1 p2 (fX0_findLeast_L39 rs p1 p2 nn39) xi_83 x3_83 x4_83 = some xi_o → ∀ ls : Array Slot, lv_has ls 5 [(0, .ref (xa 0)), (2, .int p2), (3, .int x3_83), (4, .int x4_83)] → gW p l e rmX0_findLeast s m [.ref (xa 0), .int p1, .int p2] below meth c (qcX0_findLeast D k xa ra xi_o rs A) A 0 0 H locs 83 ls [] := by
          intro xi_83 x3_83 x4_83 H locs hP hD hS hf ls hl
          unfold fX0_findLeast_B83 at hf
          refine lv_aload_n hx hb dX0_findLeast_83 rfl (lv_at hl 0 rfl) ?_
          refine lv_dup hx hb dX0_findLeast_84 rfl ?_
          refine va_get (D := D) (cl := vwCl) (ci := 0) (v := .int (xi_83 3)) (C := RX0) (T := TX0) (N := 15) hx hb hts in_X0 hown hK.1 hP 0 rfl rfl 5 (by decide) (hts _ q195) (fun _ h9 => h9) rfl dX0_findLeast_85 ?_
          refine lv_iload_n hx hb dX0_findLeast_88 rfl (lv_at hl 2 rfl) ?_
          refine lv_aload_n hx hb dX0_findLeast_89 rfl (lv_at hl 0 rfl) ?_
          refine va_get (D := D) (cl := vwCl) (ci := 0) (v := .int (xi_83 1)) (C := RX0) (T := TX0) (N := 15) hx hb hts in_X0 hown hK.1 hP 0 rfl rfl 3 (by decide) (hts _ q193) (fun _ h9 => h9) rfl dX0_findLeast_90 ?_
          have hB101 : ∀ (xi_101 : Nat → Int32) (x3_101 : Int32) (x4_101 : Int32) (s0_101 : Int32) (s1_101 : Int32), ∀ (H : Heap) (locs : List Loc), va_P D vwCl (wN k xa ra xi_101 rs) H → va_D A (wN k xa ra xi_101 rs) → va_S A s.heap H locs → fX0_findLeast_B101 rs p1 p2 (fX0_findLeast_L39 rs p1 p2 nn39) xi_101 x3_101 x4_101 s0_101 s1_101 = some xi_o → ∀ ls : Array Slot, lv_has ls 5 [(0, .ref (xa 0)), (2, .int p2), (3, .int x3_101), (4, .int x4_101)] → gW p l e rmX0_findLeast s m [.ref (xa 0), .int p1, .int p2] below meth c (qcX0_findLeast D k xa ra xi_o rs A) A 0 0 H locs 101 ls [.int s0_101, .int s1_101, .ref (xa 0)] := by
            intro xi_101 x3_101 x4_101 s0_101 s1_101 H locs hP hD hS hf ls hl
            unfold fX0_findLeast_B101 at hf
            refine lv_iadd hx hb dX0_findLeast_101 ?_
            refine va_put (D := D) (cl := vwCl) (ci := 0) (v := .int (s1_101 + s0_101)) (ty := .int) (C := RX0) (T := TX0) (N := 15) hx hb hts in_X0 tyX0 tyX0_ok nmX0 hown hK.1 hP hD hS 0 rfl rfl 5 (by decide) (hts _ q195) (fun _ h9 => h9) rfl (by decide +kernel) rfl rfl (Nat.le_of_ble_eq_true rfl) dX0_findLeast_102 (fun H locs hP hD hS => ?_)
            have hP : va_P D vwCl (wN k xa ra (upd xi_101 3 (s1_101 + s0_101)) rs) H := hP
            have hD : va_D A (wN k xa ra (upd xi_101 3 (s1_101 + s0_101)) rs) := hD
            refine lv_aload_n hx hb dX0_findLeast_105 rfl (lv_at hl 0 rfl) ?_
            refine lv_iload_n hx hb dX0_findLeast_106 rfl (lv_at hl 2 rfl) ?_
            refine lv_aload_n hx hb dX0_findLeast_107 rfl (lv_at hl 0 rfl) ?_
            refine va_get (D := D) (cl := vwCl) (ci := 0) (v := .int ((upd xi_101 3 (s1_101 + s0_101)) 4)) (C := RX0) (T := TX0) (N := 15) hx hb hts in_X0 hown hK.1 hP 0 rfl rfl 6 (by decide) (hts _ q196) (fun _ h9 => h9) rfl dX0_findLeast_108 ?_
            have hB123 : ∀ (xi_123 : Nat → Int32) (x3_123 : Int32) (x4_123 : Int32) (s0_123 : Int32), ∀ (H : Heap) (locs : List Loc), va_P D vwCl (wN k xa ra xi_123 rs) H → va_D A (wN k xa ra xi_123 rs) → va_S A s.heap H locs → fX0_findLeast_B123 rs p1 p2 (fX0_findLeast_L39 rs p1 p2 nn39) xi_123 x3_123 x4_123 s0_123 = some xi_o → ∀ ls : Array Slot, lv_has ls 5 [(0, .ref (xa 0)), (2, .int p2), (3, .int x3_123), (4, .int x4_123)] → gW p l e rmX0_findLeast s m [.ref (xa 0), .int p1, .int p2] below meth c (qcX0_findLeast D k xa ra xi_o rs A) A 0 0 H locs 123 ls [.int s0_123, .ref (xa 0)] := by
              intro xi_123 x3_123 x4_123 s0_123 H locs hP hD hS hf ls hl
              unfold fX0_findLeast_B123 at hf
              refine va_put (D := D) (cl := vwCl) (ci := 0) (v := .int s0_123) (ty := .int) (C := RX0) (T := TX0) (N := 15) hx hb hts in_X0 tyX0 tyX0_ok nmX0 hown hK.1 hP hD hS 0 rfl rfl 7 (by decide) (hts _ q197) (fun _ h9 => h9) rfl (by decide +kernel) rfl rfl (Nat.le_of_ble_eq_true rfl) dX0_findLeast_123 (fun H locs hP hD hS => ?_)
              have hP : va_P D vwCl (wN k xa ra (upd xi_123 5 s0_123) rs) H := hP
              have hD : va_D A (wN k xa ra (upd xi_123 5 s0_123) rs) := hD
              refine lv_aload_n hx hb dX0_findLeast_126 rfl (lv_at hl 0 rfl) ?_
              refine lv_aload_n hx hb dX0_findLeast_127 rfl (lv_at hl 0 rfl) ?_
              refine va_get (D := D) (cl := vwCl) (ci := 0) (v := .int ((upd xi_123 5 s0_123) 4)) (C := RX0) (T := TX0) (N := 15) hx hb hts in_X0 hown hK.1 hP 0 rfl rfl 6 (by decide) (hts _ q196) (fun _ h9 => h9) rfl dX0_findLeast_128 ?_
              refine lv_iload_n hx hb dX0_findLeast_131 rfl (lv_at hl 2 rfl) ?_
              refine x_mmax hx hb (hml.trans hl.1.symm) hown (hts _ q525) (hts _ q188) (hts _ q93) (hts _ q189) (Nat.le_of_ble_eq_true rfl) (Nat.le_of_ble_eq_true rfl) (Nat.le_of_ble_eq_true rfl) (Nat.le_of_ble_eq_true rfl) dX0_findLeast_132 ?_
              refine va_put (D := D) (cl := vwCl) (ci := 0) (v := .int (max32 ((upd xi_123 5 s0_123) 4) x3_123)) (ty := .int) (C := RX0) (T := TX0) (N := 15) hx hb hts in_X0 tyX0 tyX0_ok nmX0 hown hK.1 hP hD hS 0 rfl rfl 6 (by decide) (hts _ q196) (fun _ h9 => h9) rfl (by decide +kernel) rfl rfl (Nat.le_of_ble_eq_true rfl) dX0_findLeast_135 (fun H locs hP hD hS => ?_)
              have hP : va_P D vwCl (wN k xa ra (upd (upd xi_123 5 s0_123) 4 (max32 ((upd xi_123 5 s0_123) 4) x3_123)) rs) H := hP
              have hD : va_D A (wN k xa ra (upd (upd xi_123 5 s0_123) 4 (max32 ((upd xi_123 5 s0_123) 4) x3_123)) rs) := hD
              refine lv_iinc (v := (x4_123 + 1)) (lv' := [(4, .int (x4_123 + 1)), (0, .ref (xa 0)), (2, .int p2), (3, .int x3_123)]) hx hb dX0_findLeast_138 hl (k := 3) rfl rfl (by decide) rfl (fun ls hl => ?_)
              refine lv_goto (tgt := 39) hx hb dX0_findLeast_141 (by decide) ?_
              exact ih39 (upd (upd xi_123 5 s0_123) 4 (max32 ((upd xi_123 5 s0_123) 4) x3_123)) x3_123 (x4_123 + 1) H locs hP hD hS hf ls (lv_sub hl [1, 2, 3, 0] rfl)
            refine lv_icmp_le (tgt := 119) hx hb dX0_findLeast_111 (by decide) (fun c10 => ?_) (fun c10 => ?_)
            · have hf := oi_t c10 hf
              refine lv_aload_n hx hb dX0_findLeast_119 rfl (lv_at hl 0 rfl) ?_
              refine va_get (D := D) (cl := vwCl) (ci := 0) (v := .int ((upd xi_101 3 (s1_101 + s0_101)) 5)) (C := RX0) (T := TX0) (N := 15) hx hb hts in_X0 hown hK.1 hP 0 rfl rfl 7 (by decide) (hts _ q197) (fun _ h9 => h9) rfl dX0_findLeast_120 ?_
              exact hB123 (upd xi_101 3 (s1_101 + s0_101)) x3_101 x4_101 ((upd xi_101 3 (s1_101 + s0_101)) 5) H locs hP hD hS hf ls (lv_sub hl [0, 1, 2, 3] rfl)
            · have hf := oi_f c10 hf
              refine lv_iload hx hb dX0_findLeast_114 (lv_at hl 3 rfl) ?_
              refine lv_goto (tgt := 123) hx hb dX0_findLeast_116 (by decide) ?_
              exact hB123 (upd xi_101 3 (s1_101 + s0_101)) x3_101 x4_101 x4_101 H locs hP hD hS hf ls (lv_sub hl [0, 1, 2, 3] rfl)
          refine lv_icmp_ne (tgt := 100) hx hb dX0_findLeast_93 (by decide) (fun c9 => ?_) (fun c9 => ?_)
          · have hf := oi_f c9 hf
            refine lv_iconst (v := 0) hx hb dX0_findLeast_100 (by decide) ?_
            exact hB101 xi_83 x3_83 x4_83 (0 : Int32) (xi_83 3) H locs hP hD hS hf ls (lv_sub hl [0, 1, 2, 3] rfl)
          · have hf := oi_t c9 hf
            refine lv_iconst (v := 1) hx hb dX0_findLeast_96 (by decide) ?_
            refine lv_goto (tgt := 101) hx hb dX0_findLeast_97 (by decide) ?_
            exact hB101 xi_83 x3_83 x4_83 (1 : Int32) (xi_83 3) H locs hP hD hS hf ls (lv_sub hl [0, 1, 2, 3] rfl)
        refine lv_icmp_ge (tgt := 83) hx hb dX0_findLeast_64 (by decide) (fun c8 => ?_) (fun c8 => ?_)
        · have hf := oi_t c8 hf
          exact hB83 xi_39 y7 x4_39 H locs hP hD hS hf ls (lv_sub hl [1, 2, 0, 3] rfl)
        · have hf := oi_f c8 hf
          refine lv_aload_n hx hb dX0_findLeast_67 rfl (lv_at hl 1 rfl) ?_
          refine lv_iload_n hx hb dX0_findLeast_68 rfl (lv_at hl 0 rfl) ?_
          refine va_put (D := D) (cl := vwCl) (ci := 0) (v := .int y7) (ty := .int) (C := RX0) (T := TX0) (N := 15) hx hb hts in_X0 tyX0 tyX0_ok nmX0 hown hK.1 hP hD hS 0 rfl rfl 3 (by decide) (hts _ q193) (fun _ h9 => h9) rfl (by decide +kernel) rfl rfl (Nat.le_of_ble_eq_true rfl) dX0_findLeast_69 (fun H locs hP hD hS => ?_)
          have hP : va_P D vwCl (wN k xa ra (upd xi_39 1 y7) rs) H := hP
          have hD : va_D A (wN k xa ra (upd xi_39 1 y7) rs) := hD
          refine lv_aload_n hx hb dX0_findLeast_72 rfl (lv_at hl 1 rfl) ?_
          refine lv_iload hx hb dX0_findLeast_73 (lv_at hl 3 rfl) ?_
          refine va_put (D := D) (cl := vwCl) (ci := 0) (v := .int x4_39) (ty := .int) (C := RX0) (T := TX0) (N := 15) hx hb hts in_X0 tyX0 tyX0_ok nmX0 hown hK.1 hP hD hS 0 rfl rfl 4 (by decide) (hts _ q194) (fun _ h9 => h9) rfl (by decide +kernel) rfl rfl (Nat.le_of_ble_eq_true rfl) dX0_findLeast_75 (fun H locs hP hD hS => ?_)
          have hP : va_P D vwCl (wN k xa ra (upd (upd xi_39 1 y7) 2 x4_39) rs) H := hP
          have hD : va_D A (wN k xa ra (upd (upd xi_39 1 y7) 2 x4_39) rs) := hD
          refine lv_aload_n hx hb dX0_findLeast_78 rfl (lv_at hl 1 rfl) ?_
          refine lv_iconst (v := 0) hx hb dX0_findLeast_79 (by decide) ?_
          refine va_put (D := D) (cl := vwCl) (ci := 0) (v := .int (0 : Int32)) (ty := .int) (C := RX0) (T := TX0) (N := 15) hx hb hts in_X0 tyX0 tyX0_ok nmX0 hown hK.1 hP hD hS 0 rfl rfl 5 (by decide) (hts _ q195) (fun _ h9 => h9) rfl (by decide +kernel) rfl rfl (Nat.le_of_ble_eq_true rfl) dX0_findLeast_80 (fun H locs hP hD hS => ?_)
          have hP : va_P D vwCl (wN k xa ra (upd (upd (upd xi_39 1 y7) 2 x4_39) 3 (0 : Int32)) rs) H := hP
          have hD : va_D A (wN k xa ra (upd (upd (upd xi_39 1 y7) 2 x4_39) 3 (0 : Int32)) rs) := hD
          exact hB83 (upd (upd (upd xi_39 1 y7) 2 x4_39) 3 (0 : Int32)) y7 x4_39 H locs hP hD hS hf ls (lv_sub hl [1, 2, 0, 3] rfl)
  exact hL39 FU (upd (upd (upd (upd (upd xi 1 v1) 2 p1) 3 (1 : Int32)) 4 v1) 5 p1) v1 y3 H locs hP hD hS hf ls (lv_sub hl [2, 4, 1, 0] rfl)

abbrev rmX0_fault : Room := { frames := 0, cells := 0, slots := 0, locals := 0 }
theorem hdX0_fault : yX0_fault.cls ≠ "java/lang/invoke/MethodHandle" ∧ yX0_fault.cls ≠ "java/lang/invoke/VarHandle" ∧ (parseMethodDescriptor yX0_fault.desc).map (fun d => d.parameters.length) = some 0 := by decide +kernel
set_option maxHeartbeats 4000000 in
theorem mX0_fault (l : Launch) (D : va_G) (k : Nat → ClassId) (xa : Nat → Nat) (ra : Nat → Nat → Nat) (xi : Nat → Int32) (rs : RS) (r : Int32) (hf : fX0_fault xi = some r) : CtI l yX0_fault cX0_fault 1 rmX0_fault [.ref (xa 0)] D k (wN k xa ra xi rs) r := by
  refine rd_start (by decide +kernel) (Nat.le_of_ble_eq_true rfl) ?_
  intro p e s m below meth c ls hx hb hr hlk hml hown hts hP hK hl
  have hl : lv_has ls 1 [(0, .ref (xa 0))] := hl
  have hown : s.vm.findClass RX0 = some m.cls := hown
  unfold fX0_fault at hf
  refine lv_aload_n hx hb dX0_fault_0 rfl (lv_at hl 0 rfl) ?_
  refine va_get (D := D) (cl := vwCl) (ci := 0) (v := .int (xi 7)) (C := RX0) (T := TX0) (N := 15) hx hb hts in_X0 hown hK.1 hP 0 rfl rfl 10 (by decide) (hts _ q201) (fun _ h9 => h9) rfl dX0_fault_1 ?_
  exact rd_iret hx hb hr hlk (Option.some.inj hf) dX0_fault_4

abbrev rmX0_deepestOfAll : Room := { frames := 0, cells := 0, slots := 0, locals := 0 }
theorem hdX0_deepestOfAll : yX0_deepestOfAll.cls ≠ "java/lang/invoke/MethodHandle" ∧ yX0_deepestOfAll.cls ≠ "java/lang/invoke/VarHandle" ∧ (parseMethodDescriptor yX0_deepestOfAll.desc).map (fun d => d.parameters.length) = some 0 := by decide +kernel
set_option maxHeartbeats 4000000 in
theorem mX0_deepestOfAll (l : Launch) (D : va_G) (k : Nat → ClassId) (xa : Nat → Nat) (ra : Nat → Nat → Nat) (xi : Nat → Int32) (rs : RS) (r : Int32) (hf : fX0_deepestOfAll rs = some r) : CtI l yX0_deepestOfAll cX0_deepestOfAll 1 rmX0_deepestOfAll [.ref (xa 0)] D k (wN k xa ra xi rs) r := by
  refine rd_start (by decide +kernel) (Nat.le_of_ble_eq_true rfl) ?_
  intro p e s m below meth c ls hx hb hr hlk hml hown hts hP hK hl
  have hl : lv_has ls 1 [(0, .ref (xa 0))] := hl
  have hown : s.vm.findClass RX0 = some m.cls := hown
  unfold fX0_deepestOfAll at hf
  refine lv_aload_n hx hb dX0_deepestOfAll_0 rfl (lv_at hl 0 rfl) ?_
  refine va_get (D := D) (cl := vwCl) (ci := 0) (v := .ref (ra 0 0)) (C := RX0) (T := TX0) (N := 15) hx hb hts in_X0 hown hK.1 hP 0 rfl rfl 0 (by decide) (hts _ q190) (fun _ h9 => h9) rfl dX0_deepestOfAll_1 ?_
  refine va_getN (D := D) (cl := vwCl) (ci := 1) (v := .int (rP rs)) (C := RX1) (T := TX1) (N := 6) hx hb hts in_X1 hown hK.1 hP 1 rfl rfl 1 (by decide) (hK.nw 2 rfl) (fun _ h9 => h9) rfl dX0_deepestOfAll_4 ?_
  refine lv_if_ne (tgt := 13) hx hb dX0_deepestOfAll_7 (by decide) (fun c1 => ?_) (fun c1 => ?_)
  · have hf := oi_f c1 hf
    refine lv_aload_n hx hb dX0_deepestOfAll_13 rfl (lv_at hl 0 rfl) ?_
    refine va_get (D := D) (cl := vwCl) (ci := 0) (v := .ref (ra 0 0)) (C := RX0) (T := TX0) (N := 15) hx hb hts in_X0 hown hK.1 hP 0 rfl rfl 0 (by decide) (hts _ q190) (fun _ h9 => h9) rfl dX0_deepestOfAll_14 ?_
    refine va_getN (D := D) (cl := vwCl) (ci := 1) (v := .ref (ra 0 5)) (C := RX1) (T := TX1) (N := 6) hx hb hts in_X1 hown hK.1 hP 1 rfl rfl 5 (by decide) (hK.nw 6 rfl) (fun _ h9 => h9) rfl dX0_deepestOfAll_17 ?_
    refine lv_iconst (v := 1) hx hb dX0_deepestOfAll_20 (by decide) ?_
    obtain ⟨v2, ev2, hf⟩ := ob hf
    refine x_sald hx hb hK hP 6 2 ev2 rfl rfl dX0_deepestOfAll_21 ?_
    refine lv_iconst (v := 1) hx hb dX0_deepestOfAll_22 (by decide) ?_
    refine lv_isub hx hb dX0_deepestOfAll_23 ?_
    exact rd_iret hx hb hr hlk (Option.some.inj hf) dX0_deepestOfAll_24
  · have hf := oi_t c1 hf
    refine lv_bipush (v := (-4)) hx hb dX0_deepestOfAll_10 (by decide) ?_
    exact rd_iret hx hb hr hlk (Option.some.inj hf) dX0_deepestOfAll_12

abbrev rmX0_size : Room := { frames := 3, cells := 0, slots := 0, locals := 71 }
theorem hdX0_size : yX0_size.cls ≠ "java/lang/invoke/MethodHandle" ∧ yX0_size.cls ≠ "java/lang/invoke/VarHandle" ∧ (parseMethodDescriptor yX0_size.desc).map (fun d => d.parameters.length) = some 1 := by decide +kernel
set_option maxHeartbeats 4000000 in
theorem mX0_size (l : Launch) (D : va_G) (k : Nat → ClassId) (xa : Nat → Nat) (ra : Nat → Nat → Nat) (xi : Nat → Int32) (rs : RS) (p1 : Int32) (r : Int32) (hf : fX0_size rs p1 = some r) : CtI l yX0_size cX0_size 2 rmX0_size [.ref (xa 0), .int p1] D k (wN k xa ra xi rs) r := by
  refine rd_start (by decide +kernel) (Nat.le_of_ble_eq_true rfl) ?_
  intro p e s m below meth c ls hx hb hr hlk hml hown hts hP hK hl
  have hl : lv_has ls 2 [(0, .ref (xa 0)), (1, .int p1)] := hl
  have hown : s.vm.findClass RX0 = some m.cls := hown
  unfold fX0_size at hf
  refine lv_iload_n hx hb dX0_size_0 rfl (lv_at hl 1 rfl) ?_
  by_cases c1 : p1 = 0
  · have hf := oi_t c1 hf
    refine lv_tableIn (off := 35) (tgt := 36) hx hb dX0_size_1 (by rw [c1]; decide) (by rw [c1]; decide) (by rw [c1]; rfl) (by decide) ?_
    refine lv_aload_n hx hb dX0_size_36 rfl (lv_at hl 0 rfl) ?_
    obtain ⟨v2, ev2, hf⟩ := ob hf
    refine rd_callV (As := []) (rest := []) ⟨hx, hb, hml, hown, hts⟩ (mX0_nodes l D k xa ra xi rs  _ ev2) (cwV 0 hts (lw_V q421 q423 qs7 q90 q424) rfl rfl rfl ⟨rfl, hdX0_nodes⟩ ⟨Nat.le_of_ble_eq_true rfl, Nat.le_of_ble_eq_true rfl⟩) hK hP [0, 1, 2, 3, 4, 5, 6] rfl 0 0 rfl rfl rfl hl.1 rfl (Nat.le_of_ble_eq_true rfl) dX0_size_37 ⟨Nat.le_of_ble_eq_true rfl, Nat.le_of_ble_eq_true rfl⟩ ?_
    exact rd_iret hx hb hr hlk (Option.some.inj hf) dX0_size_40
  have hf := oi_f c1 hf
  by_cases c4 : p1 = 1
  · have hf := oi_t c4 hf
    refine lv_tableIn (off := 40) (tgt := 41) hx hb dX0_size_1 (by rw [c4]; decide) (by rw [c4]; decide) (by rw [c4]; rfl) (by decide) ?_
    refine lv_aload_n hx hb dX0_size_41 rfl (lv_at hl 0 rfl) ?_
    refine lv_aload_n hx hb dX0_size_42 rfl (lv_at hl 0 rfl) ?_
    refine va_get (D := D) (cl := vwCl) (ci := 0) (v := .ref (ra 0 0)) (C := RX0) (T := TX0) (N := 15) hx hb hts in_X0 hown hK.1 hP 0 rfl rfl 0 (by decide) (hts _ q190) (fun _ h9 => h9) rfl dX0_size_43 ?_
    refine va_getN (D := D) (cl := vwCl) (ci := 1) (v := .int (rP rs)) (C := RX1) (T := TX1) (N := 6) hx hb hts in_X1 hown hK.1 hP 1 rfl rfl 1 (by decide) (hK.nw 2 rfl) (fun _ h9 => h9) rfl dX0_size_46 ?_
    refine lv_iconst (v := 2) hx hb dX0_size_49 (by decide) ?_
    obtain ⟨v5, ev5, hf⟩ := ob hf
    refine rd_callV (As := [.int (rP rs), .int (2 : Int32)]) (rest := []) ⟨hx, hb, hml, hown, hts⟩ (mX0_ranked l D k xa ra xi rs (rP rs) (2 : Int32) _ ev5) (cwV 2 hts (lw_V q425 q427 qs8 q90 q428) rfl rfl rfl ⟨rfl, hdX0_ranked⟩ ⟨Nat.le_of_ble_eq_true rfl, Nat.le_of_ble_eq_true rfl⟩) hK hP [0, 1, 2, 3, 4, 5, 6] rfl 0 0 rfl rfl rfl hl.1 rfl (Nat.le_of_ble_eq_true rfl) dX0_size_50 ⟨Nat.le_of_ble_eq_true rfl, Nat.le_of_ble_eq_true rfl⟩ ?_
    exact rd_iret hx hb hr hlk (Option.some.inj hf) dX0_size_53
  have hf := oi_f c4 hf
  by_cases c7 : p1 = 2
  · have hf := oi_t c7 hf
    refine lv_tableIn (off := 53) (tgt := 54) hx hb dX0_size_1 (by rw [c7]; decide) (by rw [c7]; decide) (by rw [c7]; rfl) (by decide) ?_
    refine lv_aload_n hx hb dX0_size_54 rfl (lv_at hl 0 rfl) ?_
    obtain ⟨v8, ev8, hf⟩ := ob hf
    refine rd_callV (As := []) (rest := []) ⟨hx, hb, hml, hown, hts⟩ (mX0_deepestOfAll l D k xa ra xi rs  _ ev8) (cwV 0 hts (lw_V q440 q442 qs9 q90 q443) rfl rfl rfl ⟨rfl, hdX0_deepestOfAll⟩ ⟨Nat.le_of_ble_eq_true rfl, Nat.le_of_ble_eq_true rfl⟩) hK hP [0, 1, 2, 3, 4, 5, 6] rfl 0 0 rfl rfl rfl hl.1 rfl (Nat.le_of_ble_eq_true rfl) dX0_size_55 ⟨Nat.le_of_ble_eq_true rfl, Nat.le_of_ble_eq_true rfl⟩ ?_
    exact rd_iret hx hb hr hlk (Option.some.inj hf) dX0_size_58
  have hf := oi_f c7 hf
  by_cases c10 : p1 = 3
  · have hf := oi_t c10 hf
    refine lv_tableIn (off := 58) (tgt := 59) hx hb dX0_size_1 (by rw [c10]; decide) (by rw [c10]; decide) (by rw [c10]; rfl) (by decide) ?_
    refine lv_aload_n hx hb dX0_size_59 rfl (lv_at hl 0 rfl) ?_
    refine va_get (D := D) (cl := vwCl) (ci := 0) (v := .ref (ra 0 0)) (C := RX0) (T := TX0) (N := 15) hx hb hts in_X0 hown hK.1 hP 0 rfl rfl 0 (by decide) (hts _ q190) (fun _ h9 => h9) rfl dX0_size_60 ?_
    refine va_getN (D := D) (cl := vwCl) (ci := 1) (v := .int (rP rs)) (C := RX1) (T := TX1) (N := 6) hx hb hts in_X1 hown hK.1 hP 1 rfl rfl 1 (by decide) (hK.nw 2 rfl) (fun _ h9 => h9) rfl dX0_size_63 ?_
    exact rd_iret hx hb hr hlk (Option.some.inj hf) dX0_size_66
  have hf := oi_f c10 hf
  by_cases c11 : p1 = 4
  · have hf := oi_t c11 hf
    refine lv_tableIn (off := 66) (tgt := 67) hx hb dX0_size_1 (by rw [c11]; decide) (by rw [c11]; decide) (by rw [c11]; rfl) (by decide) ?_
    refine lv_aload_n hx hb dX0_size_67 rfl (lv_at hl 0 rfl) ?_
    refine va_get (D := D) (cl := vwCl) (ci := 0) (v := .ref (ra 0 0)) (C := RX0) (T := TX0) (N := 15) hx hb hts in_X0 hown hK.1 hP 0 rfl rfl 0 (by decide) (hts _ q190) (fun _ h9 => h9) rfl dX0_size_68 ?_
    refine va_getN (D := D) (cl := vwCl) (ci := 1) (v := .int (rP rs)) (C := RX1) (T := TX1) (N := 6) hx hb hts in_X1 hown hK.1 hP 1 rfl rfl 1 (by decide) (hK.nw 2 rfl) (fun _ h9 => h9) rfl dX0_size_71 ?_
    refine lv_bipush (v := 16) hx hb dX0_size_74 (by decide) ?_
    refine lv_iadd hx hb dX0_size_76 ?_
    refine lv_iconst (v := 1) hx hb dX0_size_77 (by decide) ?_
    refine lv_isub hx hb dX0_size_78 ?_
    refine lv_bipush (v := 16) hx hb dX0_size_79 (by decide) ?_
    refine lv_idiv hx hb dX0_size_81 (by decide) ?_
    exact rd_iret hx hb hr hlk (Option.some.inj hf) dX0_size_82
  have hf := oi_f c11 hf
  refine lv_tableOut (tgt := 83) hx hb dX0_size_1 (tb_out5 c1 c4 c7 c10 c11) (by decide) ?_
  refine lv_iconst (v := (-1)) hx hb dX0_size_83 (by decide) ?_
  exact rd_iret hx hb hr hlk (Option.some.inj hf) dX0_size_84

abbrev rmX0_isPlace : Room := { frames := 1, cells := 0, slots := 0, locals := 25 }
theorem hdX0_isPlace : yX0_isPlace.cls ≠ "java/lang/invoke/MethodHandle" ∧ yX0_isPlace.cls ≠ "java/lang/invoke/VarHandle" ∧ (parseMethodDescriptor yX0_isPlace.desc).map (fun d => d.parameters.length) = some 1 := by decide +kernel
set_option maxHeartbeats 4000000 in
theorem mX0_isPlace (l : Launch) (D : va_G) (k : Nat → ClassId) (xa : Nat → Nat) (ra : Nat → Nat → Nat) (xi : Nat → Int32) (rs : RS) (p1 : Int32) (r : Int32) (hf : fX0_isPlace rs p1 = some r) : CtZ l yX0_isPlace cX0_isPlace 2 rmX0_isPlace [.ref (xa 0), .int p1] D k (wN k xa ra xi rs) r := by
  refine rd_start (by decide +kernel) (Nat.le_of_ble_eq_true rfl) ?_
  intro p e s m below meth c ls hx hb hr hlk hml hown hts hP hK hl
  have hl : lv_has ls 2 [(0, .ref (xa 0)), (1, .int p1)] := hl
  have hown : s.vm.findClass RX0 = some m.cls := hown
  unfold fX0_isPlace at hf
  refine lv_iload_n hx hb dX0_isPlace_0 rfl (lv_at hl 1 rfl) ?_
  refine lv_i2l hx hb dX0_isPlace_1 rfl ?_
  refine lv_lconst (v := 0) hx hb dX0_isPlace_2 (by decide) ?_
  refine lv_aload_n hx hb dX0_isPlace_3 rfl (lv_at hl 0 rfl) ?_
  refine va_get (D := D) (cl := vwCl) (ci := 0) (v := .ref (ra 0 0)) (C := RX0) (T := TX0) (N := 15) hx hb hts in_X0 hown hK.1 hP 0 rfl rfl 0 (by decide) (hts _ q190) (fun _ h9 => h9) rfl dX0_isPlace_4 ?_
  refine va_getN (D := D) (cl := vwCl) (ci := 1) (v := .int (rP rs)) (C := RX1) (T := TX1) (N := 6) hx hb hts in_X1 hown hK.1 hP 1 rfl rfl 1 (by decide) (hK.nw 2 rfl) (fun _ h9 => h9) rfl dX0_isPlace_7 ?_
  refine lv_iconst (v := 1) hx hb dX0_isPlace_10 (by decide) ?_
  refine lv_isub hx hb dX0_isPlace_11 ?_
  refine lv_i2l hx hb dX0_isPlace_12 rfl ?_
  obtain ⟨v1, ev1, hf⟩ := ob hf
  refine rd_callSZ (As := [.long ((p1).toInt64), .long (0 : Int64), .long ((((rP rs) - (1 : Int32))).toInt64)]) (rest := []) ⟨hx, hb, hml, hown, hts⟩ (mX0_in l D k   ((p1).toInt64) (0 : Int64) ((((rP rs) - (1 : Int32))).toInt64) _ ev1) (va_cwS 3 hts (lw_S q242 q243 q90 q244) rfl rfl rfl hdX0_in ⟨Nat.le_of_ble_eq_true rfl, Nat.le_of_ble_eq_true rfl⟩) hK rfl hl.1 rfl (Nat.le_of_ble_eq_true rfl) dX0_isPlace_13 ⟨Nat.le_of_ble_eq_true rfl, Nat.le_of_ble_eq_true rfl⟩ (fun zv1 => ?_)
  exact rd_zret hx hb hr hlk zv1 (Option.some.inj hf) dX0_isPlace_16

abbrev rmX0_isBetween : Room := { frames := 1, cells := 0, slots := 0, locals := 25 }
theorem hdX0_isBetween : yX0_isBetween.cls ≠ "java/lang/invoke/MethodHandle" ∧ yX0_isBetween.cls ≠ "java/lang/invoke/VarHandle" ∧ (parseMethodDescriptor yX0_isBetween.desc).map (fun d => d.parameters.length) = some 1 := by decide +kernel
set_option maxHeartbeats 4000000 in
theorem mX0_isBetween (l : Launch) (D : va_G) (k : Nat → ClassId) (xa : Nat → Nat) (ra : Nat → Nat → Nat) (xi : Nat → Int32) (rs : RS) (p1 : Int32) (r : Int32) (hf : fX0_isBetween rs p1 = some r) : CtZ l yX0_isBetween cX0_isBetween 2 rmX0_isBetween [.ref (xa 0), .int p1] D k (wN k xa ra xi rs) r := by
  refine rd_start (by decide +kernel) (Nat.le_of_ble_eq_true rfl) ?_
  intro p e s m below meth c ls hx hb hr hlk hml hown hts hP hK hl
  have hl : lv_has ls 2 [(0, .ref (xa 0)), (1, .int p1)] := hl
  have hown : s.vm.findClass RX0 = some m.cls := hown
  unfold fX0_isBetween at hf
  refine lv_iload_n hx hb dX0_isBetween_0 rfl (lv_at hl 1 rfl) ?_
  refine lv_i2l hx hb dX0_isBetween_1 rfl ?_
  refine lv_lconst (v := 0) hx hb dX0_isBetween_2 (by decide) ?_
  refine lv_aload_n hx hb dX0_isBetween_3 rfl (lv_at hl 0 rfl) ?_
  refine va_get (D := D) (cl := vwCl) (ci := 0) (v := .ref (ra 0 0)) (C := RX0) (T := TX0) (N := 15) hx hb hts in_X0 hown hK.1 hP 0 rfl rfl 0 (by decide) (hts _ q190) (fun _ h9 => h9) rfl dX0_isBetween_4 ?_
  refine va_getN (D := D) (cl := vwCl) (ci := 1) (v := .int (rP rs)) (C := RX1) (T := TX1) (N := 6) hx hb hts in_X1 hown hK.1 hP 1 rfl rfl 1 (by decide) (hK.nw 2 rfl) (fun _ h9 => h9) rfl dX0_isBetween_7 ?_
  refine lv_i2l hx hb dX0_isBetween_10 rfl ?_
  obtain ⟨v1, ev1, hf⟩ := ob hf
  refine rd_callSZ (As := [.long ((p1).toInt64), .long (0 : Int64), .long (((rP rs)).toInt64)]) (rest := []) ⟨hx, hb, hml, hown, hts⟩ (mX0_in l D k   ((p1).toInt64) (0 : Int64) (((rP rs)).toInt64) _ ev1) (va_cwS 3 hts (lw_S q242 q243 q90 q244) rfl rfl rfl hdX0_in ⟨Nat.le_of_ble_eq_true rfl, Nat.le_of_ble_eq_true rfl⟩) hK rfl hl.1 rfl (Nat.le_of_ble_eq_true rfl) dX0_isBetween_11 ⟨Nat.le_of_ble_eq_true rfl, Nat.le_of_ble_eq_true rfl⟩ (fun zv1 => ?_)
  exact rd_zret hx hb hr hlk zv1 (Option.some.inj hf) dX0_isBetween_14

abbrev rmX0_bit : Room := { frames := 2, cells := 0, slots := 0, locals := 46 }
theorem hdX0_bit : yX0_bit.cls ≠ "java/lang/invoke/MethodHandle" ∧ yX0_bit.cls ≠ "java/lang/invoke/VarHandle" ∧ (parseMethodDescriptor yX0_bit.desc).map (fun d => d.parameters.length) = some 1 := by decide +kernel
set_option maxHeartbeats 4000000 in
theorem mX0_bit (l : Launch) (D : va_G) (k : Nat → ClassId) (xa : Nat → Nat) (ra : Nat → Nat → Nat) (xi : Nat → Int32) (rs : RS) (p1 : Int32) (r : Int32) (hf : fX0_bit rs p1 = some r) : CtI l yX0_bit cX0_bit 2 rmX0_bit [.ref (xa 0), .int p1] D k (wN k xa ra xi rs) r := by
  refine rd_start (by decide +kernel) (Nat.le_of_ble_eq_true rfl) ?_
  intro p e s m below meth c ls hx hb hr hlk hml hown hts hP hK hl
  have hl : lv_has ls 2 [(0, .ref (xa 0)), (1, .int p1)] := hl
  have hown : s.vm.findClass RX0 = some m.cls := hown
  unfold fX0_bit at hf
  refine lv_aload_n hx hb dX0_bit_0 rfl (lv_at hl 0 rfl) ?_
  refine lv_iload_n hx hb dX0_bit_1 rfl (lv_at hl 1 rfl) ?_
  obtain ⟨v1, ev1, hf⟩ := ob hf
  refine rd_callVZ (As := [.int p1]) (rest := []) ⟨hx, hb, hml, hown, hts⟩ (mX0_isPlace l D k xa ra xi rs p1 _ ev1) (cwV 1 hts (lw_V q448 q450 qs10 q90 q451) rfl rfl rfl ⟨rfl, hdX0_isPlace⟩ ⟨Nat.le_of_ble_eq_true rfl, Nat.le_of_ble_eq_true rfl⟩) hK hP [0, 1, 2, 3, 4, 5, 6] rfl 0 0 rfl rfl rfl hl.1 rfl (Nat.le_of_ble_eq_true rfl) dX0_bit_2 ⟨Nat.le_of_ble_eq_true rfl, Nat.le_of_ble_eq_true rfl⟩ (fun zv1 => ?_)
  refine lv_if_eq (tgt := 27) hx hb dX0_bit_5 (by decide) (fun c3 => ?_) (fun c3 => ?_)
  · have hf := oi_t c3 hf
    refine lv_iconst (v := (-1)) hx hb dX0_bit_27 (by decide) ?_
    exact rd_iret hx hb hr hlk (Option.some.inj hf) dX0_bit_28
  · have hf := oi_f c3 hf
    refine lv_aload_n hx hb dX0_bit_8 rfl (lv_at hl 0 rfl) ?_
    refine va_get (D := D) (cl := vwCl) (ci := 0) (v := .ref (ra 0 0)) (C := RX0) (T := TX0) (N := 15) hx hb hts in_X0 hown hK.1 hP 0 rfl rfl 0 (by decide) (hts _ q190) (fun _ h9 => h9) rfl dX0_bit_9 ?_
    refine lv_iload_n hx hb dX0_bit_12 rfl (lv_at hl 1 rfl) ?_
    obtain ⟨v4, ev4, hf⟩ := ob hf
    refine rd_callVZ (As := [.int p1]) (rest := []) ⟨hx, hb, hml, hown, hts⟩ (mX1_isOpen l D k (ra 0) rs p1 _ ev4) (cwV 1 hts (lw_V q439 q184 q185 q91 q186) rfl rfl rfl ⟨rfl, hdX1_isOpen⟩ ⟨Nat.le_of_ble_eq_true rfl, Nat.le_of_ble_eq_true rfl⟩) hK hP [1, 2, 3, 4, 5, 6] rfl 1 1 rfl rfl rfl hl.1 rfl (Nat.le_of_ble_eq_true rfl) dX0_bit_13 ⟨Nat.le_of_ble_eq_true rfl, Nat.le_of_ble_eq_true rfl⟩ (fun zv4 => ?_)
    refine lv_if_eq (tgt := 23) hx hb dX0_bit_16 (by decide) (fun c6 => ?_) (fun c6 => ?_)
    · have hf := oi_t c6 hf
      refine lv_iconst (v := 0) hx hb dX0_bit_23 (by decide) ?_
      refine lv_goto (tgt := 28) hx hb dX0_bit_24 (by decide) ?_
      exact rd_iret hx hb hr hlk (Option.some.inj hf) dX0_bit_28
    · have hf := oi_f c6 hf
      refine lv_iconst (v := 1) hx hb dX0_bit_19 (by decide) ?_
      refine lv_goto (tgt := 28) hx hb dX0_bit_20 (by decide) ?_
      exact rd_iret hx hb hr hlk (Option.some.inj hf) dX0_bit_28

abbrev rmX0_excess : Room := { frames := 3, cells := 0, slots := 0, locals := 68 }
theorem hdX0_excess : yX0_excess.cls ≠ "java/lang/invoke/MethodHandle" ∧ yX0_excess.cls ≠ "java/lang/invoke/VarHandle" ∧ (parseMethodDescriptor yX0_excess.desc).map (fun d => d.parameters.length) = some 1 := by decide +kernel
set_option maxHeartbeats 4000000 in
theorem mX0_excess (l : Launch) (D : va_G) (k : Nat → ClassId) (xa : Nat → Nat) (ra : Nat → Nat → Nat) (xi : Nat → Int32) (rs : RS) (p1 : Int32) (r : Int32) (hf : fX0_excess rs p1 = some r) : CtI l yX0_excess cX0_excess 2 rmX0_excess [.ref (xa 0), .int p1] D k (wN k xa ra xi rs) r := by
  refine rd_start (by decide +kernel) (Nat.le_of_ble_eq_true rfl) ?_
  intro p e s m below meth c ls hx hb hr hlk hml hown hts hP hK hl
  have hl : lv_has ls 2 [(0, .ref (xa 0)), (1, .int p1)] := hl
  have hown : s.vm.findClass RX0 = some m.cls := hown
  unfold fX0_excess at hf
  refine lv_aload_n hx hb dX0_excess_0 rfl (lv_at hl 0 rfl) ?_
  refine lv_iload_n hx hb dX0_excess_1 rfl (lv_at hl 1 rfl) ?_
  obtain ⟨v1, ev1, hf⟩ := ob hf
  refine rd_callVZ (As := [.int p1]) (rest := []) ⟨hx, hb, hml, hown, hts⟩ (mX0_isBetween l D k xa ra xi rs p1 _ ev1) (cwV 1 hts (lw_V q456 q458 qs11 q90 q459) rfl rfl rfl ⟨rfl, hdX0_isBetween⟩ ⟨Nat.le_of_ble_eq_true rfl, Nat.le_of_ble_eq_true rfl⟩) hK hP [0, 1, 2, 3, 4, 5, 6] rfl 0 0 rfl rfl rfl hl.1 rfl (Nat.le_of_ble_eq_true rfl) dX0_excess_2 ⟨Nat.le_of_ble_eq_true rfl, Nat.le_of_ble_eq_true rfl⟩ (fun zv1 => ?_)
  refine lv_if_eq (tgt := 19) hx hb dX0_excess_5 (by decide) (fun c3 => ?_) (fun c3 => ?_)
  · have hf := oi_t c3 hf
    refine lv_iconst (v := (-1)) hx hb dX0_excess_19 (by decide) ?_
    exact rd_iret hx hb hr hlk (Option.some.inj hf) dX0_excess_20
  · have hf := oi_f c3 hf
    refine lv_aload_n hx hb dX0_excess_8 rfl (lv_at hl 0 rfl) ?_
    refine va_get (D := D) (cl := vwCl) (ci := 0) (v := .ref (ra 0 0)) (C := RX0) (T := TX0) (N := 15) hx hb hts in_X0 hown hK.1 hP 0 rfl rfl 0 (by decide) (hts _ q190) (fun _ h9 => h9) rfl dX0_excess_9 ?_
    refine lv_iload_n hx hb dX0_excess_12 rfl (lv_at hl 1 rfl) ?_
    obtain ⟨v4, ev4, hf⟩ := ob hf
    refine rd_callV (As := [.int p1]) (rest := []) ⟨hx, hb, hml, hown, hts⟩ (mX1_excess l D k (ra 0) rs p1 _ ev4) (cwV 1 hts (lw_V q460 q461 q462 q91 q463) rfl rfl rfl ⟨rfl, hdX1_excess⟩ ⟨Nat.le_of_ble_eq_true rfl, Nat.le_of_ble_eq_true rfl⟩) hK hP [1, 2, 3, 4, 5, 6] rfl 1 1 rfl rfl rfl hl.1 rfl (Nat.le_of_ble_eq_true rfl) dX0_excess_13 ⟨Nat.le_of_ble_eq_true rfl, Nat.le_of_ble_eq_true rfl⟩ ?_
    refine lv_goto (tgt := 20) hx hb dX0_excess_16 (by decide) ?_
    exact rd_iret hx hb hr hlk (Option.some.inj hf) dX0_excess_20

abbrev rmX0_rank : Room := { frames := 3, cells := 0, slots := 0, locals := 71 }
theorem hdX0_rank : yX0_rank.cls ≠ "java/lang/invoke/MethodHandle" ∧ yX0_rank.cls ≠ "java/lang/invoke/VarHandle" ∧ (parseMethodDescriptor yX0_rank.desc).map (fun d => d.parameters.length) = some 2 := by decide +kernel
set_option maxHeartbeats 4000000 in
theorem mX0_rank (l : Launch) (D : va_G) (k : Nat → ClassId) (xa : Nat → Nat) (ra : Nat → Nat → Nat) (xi : Nat → Int32) (rs : RS) (p1 : Int32) (p2 : Int32) (r : Int32) (hf : fX0_rank rs p1 p2 = some r) : CtI l yX0_rank cX0_rank 3 rmX0_rank [.ref (xa 0), .int p1, .int p2] D k (wN k xa ra xi rs) r := by
  refine rd_start (by decide +kernel) (Nat.le_of_ble_eq_true rfl) ?_
  intro p e s m below meth c ls hx hb hr hlk hml hown hts hP hK hl
  have hl : lv_has ls 3 [(0, .ref (xa 0)), (1, .int p1), (2, .int p2)] := hl
  have hown : s.vm.findClass RX0 = some m.cls := hown
  unfold fX0_rank at hf
  refine lv_aload_n hx hb dX0_rank_0 rfl (lv_at hl 0 rfl) ?_
  refine lv_iload_n hx hb dX0_rank_1 rfl (lv_at hl 1 rfl) ?_
  obtain ⟨v1, ev1, hf⟩ := ob hf
  refine rd_callVZ (As := [.int p1]) (rest := []) ⟨hx, hb, hml, hown, hts⟩ (mX0_isBetween l D k xa ra xi rs p1 _ ev1) (cwV 1 hts (lw_V q456 q458 qs11 q90 q459) rfl rfl rfl ⟨rfl, hdX0_isBetween⟩ ⟨Nat.le_of_ble_eq_true rfl, Nat.le_of_ble_eq_true rfl⟩) hK hP [0, 1, 2, 3, 4, 5, 6] rfl 0 0 rfl rfl rfl hl.1 rfl (Nat.le_of_ble_eq_true rfl) dX0_rank_2 ⟨Nat.le_of_ble_eq_true rfl, Nat.le_of_ble_eq_true rfl⟩ (fun zv1 => ?_)
  refine lv_if_eq (tgt := 29) hx hb dX0_rank_5 (by decide) (fun c3 => ?_) (fun c3 => ?_)
  · have hf := oi_t c3 hf
    refine lv_iconst (v := (-1)) hx hb dX0_rank_29 (by decide) ?_
    exact rd_iret hx hb hr hlk (Option.some.inj hf) dX0_rank_30
  · have hf := oi_f c3 hf
    refine lv_iload_n hx hb dX0_rank_8 rfl (lv_at hl 2 rfl) ?_
    refine lv_i2l hx hb dX0_rank_9 rfl ?_
    refine lv_lconst (v := 0) hx hb dX0_rank_10 (by decide) ?_
    refine lv_ldc2 hx hb hown (hts _ q469) dX0_rank_11 ?_
    obtain ⟨v4, ev4, hf⟩ := ob hf
    refine rd_callSZ (As := [.long ((p2).toInt64), .long (0 : Int64), .long (2 : Int64)]) (rest := []) ⟨hx, hb, hml, hown, hts⟩ (mX0_in l D k   ((p2).toInt64) (0 : Int64) (2 : Int64) _ ev4) (va_cwS 3 hts (lw_S q242 q243 q90 q244) rfl rfl rfl hdX0_in ⟨Nat.le_of_ble_eq_true rfl, Nat.le_of_ble_eq_true rfl⟩) hK rfl hl.1 rfl (Nat.le_of_ble_eq_true rfl) dX0_rank_14 ⟨Nat.le_of_ble_eq_true rfl, Nat.le_of_ble_eq_true rfl⟩ (fun zv4 => ?_)
    refine lv_if_eq (tgt := 29) hx hb dX0_rank_17 (by decide) (fun c6 => ?_) (fun c6 => ?_)
    · have hf := oi_t c6 hf
      refine lv_iconst (v := (-1)) hx hb dX0_rank_29 (by decide) ?_
      exact rd_iret hx hb hr hlk (Option.some.inj hf) dX0_rank_30
    · have hf := oi_f c6 hf
      refine lv_aload_n hx hb dX0_rank_20 rfl (lv_at hl 0 rfl) ?_
      refine lv_iload_n hx hb dX0_rank_21 rfl (lv_at hl 1 rfl) ?_
      refine lv_iload_n hx hb dX0_rank_22 rfl (lv_at hl 2 rfl) ?_
      obtain ⟨v7, ev7, hf⟩ := ob hf
      refine rd_callV (As := [.int p1, .int p2]) (rest := []) ⟨hx, hb, hml, hown, hts⟩ (mX0_ranked l D k xa ra xi rs p1 p2 _ ev7) (cwV 2 hts (lw_V q425 q427 qs8 q90 q428) rfl rfl rfl ⟨rfl, hdX0_ranked⟩ ⟨Nat.le_of_ble_eq_true rfl, Nat.le_of_ble_eq_true rfl⟩) hK hP [0, 1, 2, 3, 4, 5, 6] rfl 0 0 rfl rfl rfl hl.1 rfl (Nat.le_of_ble_eq_true rfl) dX0_rank_23 ⟨Nat.le_of_ble_eq_true rfl, Nat.le_of_ble_eq_true rfl⟩ ?_
      refine lv_goto (tgt := 30) hx hb dX0_rank_26 (by decide) ?_
      exact rd_iret hx hb hr hlk (Option.some.inj hf) dX0_rank_30

abbrev rmX0_select : Room := { frames := 2, cells := 0, slots := 0, locals := 46 }
theorem hdX0_select : yX0_select.cls ≠ "java/lang/invoke/MethodHandle" ∧ yX0_select.cls ≠ "java/lang/invoke/VarHandle" ∧ (parseMethodDescriptor yX0_select.desc).map (fun d => d.parameters.length) = some 2 := by decide +kernel
set_option maxHeartbeats 4000000 in
theorem mX0_select (l : Launch) (D : va_G) (k : Nat → ClassId) (xa : Nat → Nat) (ra : Nat → Nat → Nat) (xi : Nat → Int32) (rs : RS) (p1 : Int32) (p2 : Int32) (r : Int32) (hf : fX0_select rs p1 p2 = some r) : CtI l yX0_select cX0_select 3 rmX0_select [.ref (xa 0), .int p1, .int p2] D k (wN k xa ra xi rs) r := by
  refine rd_start (by decide +kernel) (Nat.le_of_ble_eq_true rfl) ?_
  intro p e s m below meth c ls hx hb hr hlk hml hown hts hP hK hl
  have hl : lv_has ls 3 [(0, .ref (xa 0)), (1, .int p1), (2, .int p2)] := hl
  have hown : s.vm.findClass RX0 = some m.cls := hown
  unfold fX0_select at hf
  refine lv_iload_n hx hb dX0_select_0 rfl (lv_at hl 1 rfl) ?_
  refine lv_if_lt (tgt := 25) hx hb dX0_select_1 (by decide) (fun c1 => ?_) (fun c1 => ?_)
  · have hf := oi_t c1 hf
    refine lv_iconst (v := (-1)) hx hb dX0_select_25 (by decide) ?_
    exact rd_iret hx hb hr hlk (Option.some.inj hf) dX0_select_26
  · have hf := oi_f c1 hf
    refine lv_iload_n hx hb dX0_select_4 rfl (lv_at hl 2 rfl) ?_
    refine lv_i2l hx hb dX0_select_5 rfl ?_
    refine lv_lconst (v := 0) hx hb dX0_select_6 (by decide) ?_
    refine lv_ldc2 hx hb hown (hts _ q469) dX0_select_7 ?_
    obtain ⟨v2, ev2, hf⟩ := ob hf
    refine rd_callSZ (As := [.long ((p2).toInt64), .long (0 : Int64), .long (2 : Int64)]) (rest := []) ⟨hx, hb, hml, hown, hts⟩ (mX0_in l D k   ((p2).toInt64) (0 : Int64) (2 : Int64) _ ev2) (va_cwS 3 hts (lw_S q242 q243 q90 q244) rfl rfl rfl hdX0_in ⟨Nat.le_of_ble_eq_true rfl, Nat.le_of_ble_eq_true rfl⟩) hK rfl hl.1 rfl (Nat.le_of_ble_eq_true rfl) dX0_select_10 ⟨Nat.le_of_ble_eq_true rfl, Nat.le_of_ble_eq_true rfl⟩ (fun zv2 => ?_)
    refine lv_if_eq (tgt := 25) hx hb dX0_select_13 (by decide) (fun c4 => ?_) (fun c4 => ?_)
    · have hf := oi_t c4 hf
      refine lv_iconst (v := (-1)) hx hb dX0_select_25 (by decide) ?_
      exact rd_iret hx hb hr hlk (Option.some.inj hf) dX0_select_26
    · have hf := oi_f c4 hf
      refine lv_aload_n hx hb dX0_select_16 rfl (lv_at hl 0 rfl) ?_
      refine lv_iload_n hx hb dX0_select_17 rfl (lv_at hl 1 rfl) ?_
      refine lv_iload_n hx hb dX0_select_18 rfl (lv_at hl 2 rfl) ?_
      obtain ⟨v5, ev5, hf⟩ := ob hf
      refine rd_callV (As := [.int p1, .int p2]) (rest := []) ⟨hx, hb, hml, hown, hts⟩ (mX0_selected l D k xa ra xi rs p1 p2 _ ev5) (cwV 2 hts (lw_V q474 q476 qs12 q90 q477) rfl rfl rfl ⟨rfl, hdX0_selected⟩ ⟨Nat.le_of_ble_eq_true rfl, Nat.le_of_ble_eq_true rfl⟩) hK hP [0, 1, 2, 3, 4, 5, 6] rfl 0 0 rfl rfl rfl hl.1 rfl (Nat.le_of_ble_eq_true rfl) dX0_select_19 ⟨Nat.le_of_ble_eq_true rfl, Nat.le_of_ble_eq_true rfl⟩ ?_
      refine lv_goto (tgt := 26) hx hb dX0_select_22 (by decide) ?_
      exact rd_iret hx hb hr hlk (Option.some.inj hf) dX0_select_26

abbrev rmX0_forward : Room := { frames := 4, cells := 0, slots := 0, locals := 94 }
theorem hdX0_forward : yX0_forward.cls ≠ "java/lang/invoke/MethodHandle" ∧ yX0_forward.cls ≠ "java/lang/invoke/VarHandle" ∧ (parseMethodDescriptor yX0_forward.desc).map (fun d => d.parameters.length) = some 2 := by decide +kernel
set_option maxHeartbeats 4000000 in
theorem mX0_forward (l : Launch) (D : va_G) (k : Nat → ClassId) (xa : Nat → Nat) (ra : Nat → Nat → Nat) (xi : Nat → Int32) (rs : RS) (p1 : Int32) (p2 : Int32) (r : Int32) (hf : fX0_forward rs p1 p2 = some r) : CtI l yX0_forward cX0_forward 3 rmX0_forward [.ref (xa 0), .int p1, .int p2] D k (wN k xa ra xi rs) r := by
  refine rd_start (by decide +kernel) (Nat.le_of_ble_eq_true rfl) ?_
  intro p e s m below meth c ls hx hb hr hlk hml hown hts hP hK hl
  have hl : lv_has ls 3 [(0, .ref (xa 0)), (1, .int p1), (2, .int p2)] := hl
  have hown : s.vm.findClass RX0 = some m.cls := hown
  unfold fX0_forward at hf
  refine lv_aload_n hx hb dX0_forward_0 rfl (lv_at hl 0 rfl) ?_
  refine lv_iload_n hx hb dX0_forward_1 rfl (lv_at hl 1 rfl) ?_
  obtain ⟨v1, ev1, hf⟩ := ob hf
  refine rd_callVZ (As := [.int p1]) (rest := []) ⟨hx, hb, hml, hown, hts⟩ (mX0_isBetween l D k xa ra xi rs p1 _ ev1) (cwV 1 hts (lw_V q456 q458 qs11 q90 q459) rfl rfl rfl ⟨rfl, hdX0_isBetween⟩ ⟨Nat.le_of_ble_eq_true rfl, Nat.le_of_ble_eq_true rfl⟩) hK hP [0, 1, 2, 3, 4, 5, 6] rfl 0 0 rfl rfl rfl hl.1 rfl (Nat.le_of_ble_eq_true rfl) dX0_forward_2 ⟨Nat.le_of_ble_eq_true rfl, Nat.le_of_ble_eq_true rfl⟩ (fun zv1 => ?_)
  refine lv_if_eq (tgt := 17) hx hb dX0_forward_5 (by decide) (fun c3 => ?_) (fun c3 => ?_)
  · have hf := oi_t c3 hf
    refine lv_iconst (v := (-1)) hx hb dX0_forward_17 (by decide) ?_
    exact rd_iret hx hb hr hlk (Option.some.inj hf) dX0_forward_18
  · have hf := oi_f c3 hf
    refine lv_aload_n hx hb dX0_forward_8 rfl (lv_at hl 0 rfl) ?_
    refine lv_iload_n hx hb dX0_forward_9 rfl (lv_at hl 1 rfl) ?_
    refine lv_iload_n hx hb dX0_forward_10 rfl (lv_at hl 2 rfl) ?_
    obtain ⟨v4, ev4, hf⟩ := ob hf
    refine rd_callV (As := [.int p1, .int p2]) (rest := []) ⟨hx, hb, hml, hown, hts⟩ (mX0_searchOn l D k xa ra xi rs p1 p2 _ ev4) (cwV 2 hts (lw_V q482 q484 qs13 q90 q485) rfl rfl rfl ⟨rfl, hdX0_searchOn⟩ ⟨Nat.le_of_ble_eq_true rfl, Nat.le_of_ble_eq_true rfl⟩) hK hP [0, 1, 2, 3, 4, 5, 6] rfl 0 0 rfl rfl rfl hl.1 rfl (Nat.le_of_ble_eq_true rfl) dX0_forward_11 ⟨Nat.le_of_ble_eq_true rfl, Nat.le_of_ble_eq_true rfl⟩ ?_
    refine lv_goto (tgt := 18) hx hb dX0_forward_14 (by decide) ?_
    exact rd_iret hx hb hr hlk (Option.some.inj hf) dX0_forward_18

abbrev rmX0_backward : Room := { frames := 4, cells := 0, slots := 0, locals := 95 }
theorem hdX0_backward : yX0_backward.cls ≠ "java/lang/invoke/MethodHandle" ∧ yX0_backward.cls ≠ "java/lang/invoke/VarHandle" ∧ (parseMethodDescriptor yX0_backward.desc).map (fun d => d.parameters.length) = some 2 := by decide +kernel
set_option maxHeartbeats 4000000 in
theorem mX0_backward (l : Launch) (D : va_G) (k : Nat → ClassId) (xa : Nat → Nat) (ra : Nat → Nat → Nat) (xi : Nat → Int32) (rs : RS) (p1 : Int32) (p2 : Int32) (r : Int32) (hf : fX0_backward rs p1 p2 = some r) : CtI l yX0_backward cX0_backward 3 rmX0_backward [.ref (xa 0), .int p1, .int p2] D k (wN k xa ra xi rs) r := by
  refine rd_start (by decide +kernel) (Nat.le_of_ble_eq_true rfl) ?_
  intro p e s m below meth c ls hx hb hr hlk hml hown hts hP hK hl
  have hl : lv_has ls 3 [(0, .ref (xa 0)), (1, .int p1), (2, .int p2)] := hl
  have hown : s.vm.findClass RX0 = some m.cls := hown
  unfold fX0_backward at hf
  refine lv_aload_n hx hb dX0_backward_0 rfl (lv_at hl 0 rfl) ?_
  refine lv_iload_n hx hb dX0_backward_1 rfl (lv_at hl 1 rfl) ?_
  obtain ⟨v1, ev1, hf⟩ := ob hf
  refine rd_callVZ (As := [.int p1]) (rest := []) ⟨hx, hb, hml, hown, hts⟩ (mX0_isBetween l D k xa ra xi rs p1 _ ev1) (cwV 1 hts (lw_V q456 q458 qs11 q90 q459) rfl rfl rfl ⟨rfl, hdX0_isBetween⟩ ⟨Nat.le_of_ble_eq_true rfl, Nat.le_of_ble_eq_true rfl⟩) hK hP [0, 1, 2, 3, 4, 5, 6] rfl 0 0 rfl rfl rfl hl.1 rfl (Nat.le_of_ble_eq_true rfl) dX0_backward_2 ⟨Nat.le_of_ble_eq_true rfl, Nat.le_of_ble_eq_true rfl⟩ (fun zv1 => ?_)
  refine lv_if_eq (tgt := 17) hx hb dX0_backward_5 (by decide) (fun c3 => ?_) (fun c3 => ?_)
  · have hf := oi_t c3 hf
    refine lv_iconst (v := (-1)) hx hb dX0_backward_17 (by decide) ?_
    exact rd_iret hx hb hr hlk (Option.some.inj hf) dX0_backward_18
  · have hf := oi_f c3 hf
    refine lv_aload_n hx hb dX0_backward_8 rfl (lv_at hl 0 rfl) ?_
    refine lv_iload_n hx hb dX0_backward_9 rfl (lv_at hl 1 rfl) ?_
    refine lv_iload_n hx hb dX0_backward_10 rfl (lv_at hl 2 rfl) ?_
    obtain ⟨v4, ev4, hf⟩ := ob hf
    refine rd_callV (As := [.int p1, .int p2]) (rest := []) ⟨hx, hb, hml, hown, hts⟩ (mX0_searchBack l D k xa ra xi rs p1 p2 _ ev4) (cwV 2 hts (lw_V q500 q502 qs15 q90 q503) rfl rfl rfl ⟨rfl, hdX0_searchBack⟩ ⟨Nat.le_of_ble_eq_true rfl, Nat.le_of_ble_eq_true rfl⟩) hK hP [0, 1, 2, 3, 4, 5, 6] rfl 0 0 rfl rfl rfl hl.1 rfl (Nat.le_of_ble_eq_true rfl) dX0_backward_11 ⟨Nat.le_of_ble_eq_true rfl, Nat.le_of_ble_eq_true rfl⟩ ?_
    refine lv_goto (tgt := 18) hx hb dX0_backward_14 (by decide) ?_
    exact rd_iret hx hb hr hlk (Option.some.inj hf) dX0_backward_18

abbrev rmX0_match : Room := { frames := 5, cells := 0, slots := 0, locals := 116 }
theorem hdX0_match : yX0_match.cls ≠ "java/lang/invoke/MethodHandle" ∧ yX0_match.cls ≠ "java/lang/invoke/VarHandle" ∧ (parseMethodDescriptor yX0_match.desc).map (fun d => d.parameters.length) = some 1 := by decide +kernel
set_option maxHeartbeats 4000000 in
theorem mX0_match (l : Launch) (D : va_G) (k : Nat → ClassId) (xa : Nat → Nat) (ra : Nat → Nat → Nat) (xi : Nat → Int32) (rs : RS) (p1 : Int32) (r : Int32) (hf : fX0_match rs p1 = some r) : CtI l yX0_match cX0_match 2 rmX0_match [.ref (xa 0), .int p1] D k (wN k xa ra xi rs) r := by
  refine rd_start (by decide +kernel) (Nat.le_of_ble_eq_true rfl) ?_
  intro p e s m below meth c ls hx hb hr hlk hml hown hts hP hK hl
  have hl : lv_has ls 2 [(0, .ref (xa 0)), (1, .int p1)] := hl
  have hown : s.vm.findClass RX0 = some m.cls := hown
  unfold fX0_match at hf
  refine lv_aload_n hx hb dX0_match_0 rfl (lv_at hl 0 rfl) ?_
  refine lv_iload_n hx hb dX0_match_1 rfl (lv_at hl 1 rfl) ?_
  obtain ⟨v1, ev1, hf⟩ := ob hf
  refine rd_callVZ (As := [.int p1]) (rest := []) ⟨hx, hb, hml, hown, hts⟩ (mX0_isPlace l D k xa ra xi rs p1 _ ev1) (cwV 1 hts (lw_V q448 q450 qs10 q90 q451) rfl rfl rfl ⟨rfl, hdX0_isPlace⟩ ⟨Nat.le_of_ble_eq_true rfl, Nat.le_of_ble_eq_true rfl⟩) hK hP [0, 1, 2, 3, 4, 5, 6] rfl 0 0 rfl rfl rfl hl.1 rfl (Nat.le_of_ble_eq_true rfl) dX0_match_2 ⟨Nat.le_of_ble_eq_true rfl, Nat.le_of_ble_eq_true rfl⟩ (fun zv1 => ?_)
  refine lv_if_eq (tgt := 16) hx hb dX0_match_5 (by decide) (fun c3 => ?_) (fun c3 => ?_)
  · have hf := oi_t c3 hf
    refine lv_iconst (v := (-1)) hx hb dX0_match_16 (by decide) ?_
    exact rd_iret hx hb hr hlk (Option.some.inj hf) dX0_match_17
  · have hf := oi_f c3 hf
    refine lv_aload_n hx hb dX0_match_8 rfl (lv_at hl 0 rfl) ?_
    refine lv_iload_n hx hb dX0_match_9 rfl (lv_at hl 1 rfl) ?_
    obtain ⟨v4, ev4, hf⟩ := ob hf
    refine rd_callV (As := [.int p1]) (rest := []) ⟨hx, hb, hml, hown, hts⟩ (mX0_partner l D k xa ra xi rs p1 _ ev4) (cwV 1 hts (lw_V q512 q514 qs17 q90 q515) rfl rfl rfl ⟨rfl, hdX0_partner⟩ ⟨Nat.le_of_ble_eq_true rfl, Nat.le_of_ble_eq_true rfl⟩) hK hP [0, 1, 2, 3, 4, 5, 6] rfl 0 0 rfl rfl rfl hl.1 rfl (Nat.le_of_ble_eq_true rfl) dX0_match_10 ⟨Nat.le_of_ble_eq_true rfl, Nat.le_of_ble_eq_true rfl⟩ ?_
    refine lv_goto (tgt := 17) hx hb dX0_match_13 (by decide) ?_
    exact rd_iret hx hb hr hlk (Option.some.inj hf) dX0_match_17

abbrev rmX0_least : Room := { frames := 4, cells := 0, slots := 0, locals := 92 }
theorem hdX0_least : yX0_least.cls ≠ "java/lang/invoke/MethodHandle" ∧ yX0_least.cls ≠ "java/lang/invoke/VarHandle" ∧ (parseMethodDescriptor yX0_least.desc).map (fun d => d.parameters.length) = some 3 := by decide +kernel
abbrev qcX0_least (D : va_G) (k : Nat → ClassId) (xa : Nat → Nat) (ra : Nat → Nat → Nat) (xi : Nat → Int32) (rs : RS) (r : Int32) (A : Nat → Prop) : Array Value → State → Outcome → State → Prop := va_Qi (fun x (_ : Unit) => x = r) (fun _ t => va_P D vwCl (wN k xa ra xi rs) t.heap) A
set_option maxHeartbeats 4000000 in
theorem mX0_least (l : Launch) (D : va_G) (k : Nat → ClassId) (xa : Nat → Nat) (ra : Nat → Nat → Nat) (xi : Nat → Int32) (rs : RS) (p1 : Int32) (p2 : Int32) (p3 : Int32) (sz : Nat) (r : Int32) (xi_o : Nat → Int32) (hf : fX0_least xi rs p1 p2 p3 = some (r, xi_o)) : Met l yX0_least (ws_ yX0_least cX0_least 4 (some .int)) rmX0_least (wrP D k (wN k xa ra xi rs) sz [.ref (xa 0), .int p1, .int p2, .int p3]) (qcX0_least D k xa ra xi_o rs r (va_A (wN k xa ra xi rs) sz)) 0 0 (va_A (wN k xa ra xi rs) sz) := by
  refine wr_start (Qc := fun A => qcX0_least D k xa ra xi_o rs r A) (by decide +kernel) (Nat.le_of_ble_eq_true rfl) ?_
  intro p e s m below meth c ls A hA hx hb hr hlk hml hown hts hP hK hD hl
  have hl : lv_has ls 4 [(0, .ref (xa 0)), (1, .int p1), (2, .int p2), (3, .int p3)] := hl
  have hown : s.vm.findClass RX0 = some m.cls := hown
  have hS : va_S A s.heap s.heap [] := va_S.rf
  suffices hw : ∀ (H : Heap) (locs : List Loc), va_P D vwCl (wN k xa ra xi rs) H → va_S A s.heap H locs → gW p l e rmX0_least s m [.ref (xa 0), .int p1, .int p2, .int p3] below meth c (qcX0_least D k xa ra xi_o rs r A) A 0 0 H locs 0 ls [] from hw s.heap [] hP hS
  clear hP hS
  intro H locs hP hS
  unfold fX0_least at hf
  refine lv_aload_n hx hb dX0_least_0 rfl (lv_at hl 0 rfl) ?_
  refine lv_iload_n hx hb dX0_least_1 rfl (lv_at hl 1 rfl) ?_
  obtain ⟨v1, ev1, hf⟩ := ob hf
  refine rd_callVZ (As := [.int p1]) (rest := []) ⟨hx, hb, hml, hown, hts⟩ (mX0_isBetween l D k xa ra xi rs p1 _ ev1) (cwV 1 hts (lw_V q456 q458 qs11 q90 q459) rfl rfl rfl ⟨rfl, hdX0_isBetween⟩ ⟨Nat.le_of_ble_eq_true rfl, Nat.le_of_ble_eq_true rfl⟩) hK hP [0, 1, 2, 3, 4, 5, 6] rfl 0 0 rfl rfl rfl hl.1 rfl (Nat.le_of_ble_eq_true rfl) dX0_least_2 ⟨Nat.le_of_ble_eq_true rfl, Nat.le_of_ble_eq_true rfl⟩ (fun zv1 => ?_)
  refine lv_if_eq (tgt := 33) hx hb dX0_least_5 (by decide) (fun c3 => ?_) (fun c3 => ?_)
  · have hf := oi_t c3 hf
    refine lv_iconst (v := (-1)) hx hb dX0_least_33 (by decide) ?_
    obtain ⟨he1, he2⟩ := prod2 hf
    rw [he2] at hP
    exact wr_iret hx hb hr hlk he1 hP hS dX0_least_34
  · have hf := oi_f c3 hf
    refine lv_aload_n hx hb dX0_least_8 rfl (lv_at hl 0 rfl) ?_
    refine lv_iload_n hx hb dX0_least_9 rfl (lv_at hl 2 rfl) ?_
    obtain ⟨v4, ev4, hf⟩ := ob hf
    refine rd_callVZ (As := [.int p2]) (rest := []) ⟨hx, hb, hml, hown, hts⟩ (mX0_isBetween l D k xa ra xi rs p2 _ ev4) (cwV 1 hts (lw_V q456 q458 qs11 q90 q459) rfl rfl rfl ⟨rfl, hdX0_isBetween⟩ ⟨Nat.le_of_ble_eq_true rfl, Nat.le_of_ble_eq_true rfl⟩) hK hP [0, 1, 2, 3, 4, 5, 6] rfl 0 0 rfl rfl rfl hl.1 rfl (Nat.le_of_ble_eq_true rfl) dX0_least_10 ⟨Nat.le_of_ble_eq_true rfl, Nat.le_of_ble_eq_true rfl⟩ (fun zv4 => ?_)
    refine lv_if_eq (tgt := 33) hx hb dX0_least_13 (by decide) (fun c6 => ?_) (fun c6 => ?_)
    · have hf := oi_t c6 hf
      refine lv_iconst (v := (-1)) hx hb dX0_least_33 (by decide) ?_
      obtain ⟨he1, he2⟩ := prod2 hf
      rw [he2] at hP
      exact wr_iret hx hb hr hlk he1 hP hS dX0_least_34
    · have hf := oi_f c6 hf
      refine lv_iload_n hx hb dX0_least_16 rfl (lv_at hl 1 rfl) ?_
      refine lv_iload_n hx hb dX0_least_17 rfl (lv_at hl 2 rfl) ?_
      refine lv_icmp_gt (tgt := 33) hx hb dX0_least_18 (by decide) (fun c7 => ?_) (fun c7 => ?_)
      · have hf := oi_t c7 hf
        refine lv_iconst (v := (-1)) hx hb dX0_least_33 (by decide) ?_
        obtain ⟨he1, he2⟩ := prod2 hf
        rw [he2] at hP
        exact wr_iret hx hb hr hlk he1 hP hS dX0_least_34
      · have hf := oi_f c7 hf
        refine lv_iload_n hx hb dX0_least_21 rfl (lv_at hl 3 rfl) ?_
        refine lv_i2l hx hb dX0_least_22 rfl ?_
        refine lv_lconst (v := 0) hx hb dX0_least_23 (by decide) ?_
        refine lv_ldc2 hx hb hown (hts _ q520) dX0_least_24 ?_
        obtain ⟨v8, ev8, hf⟩ := ob hf
        refine rd_callSZ (As := [.long ((p3).toInt64), .long (0 : Int64), .long (3 : Int64)]) (rest := []) ⟨hx, hb, hml, hown, hts⟩ (mX0_in l D k   ((p3).toInt64) (0 : Int64) (3 : Int64) _ ev8) (va_cwS 3 hts (lw_S q242 q243 q90 q244) rfl rfl rfl hdX0_in ⟨Nat.le_of_ble_eq_true rfl, Nat.le_of_ble_eq_true rfl⟩) hK rfl hl.1 rfl (Nat.le_of_ble_eq_true rfl) dX0_least_27 ⟨Nat.le_of_ble_eq_true rfl, Nat.le_of_ble_eq_true rfl⟩ (fun zv8 => ?_)
        refine lv_if_ne (tgt := 35) hx hb dX0_least_30 (by decide) (fun c10 => ?_) (fun c10 => ?_)
        · have hf := oi_f c10 hf
          refine lv_aload_n hx hb dX0_least_35 rfl (lv_at hl 0 rfl) ?_
          refine lv_iload_n hx hb dX0_least_36 rfl (lv_at hl 1 rfl) ?_
          refine lv_iload_n hx hb dX0_least_37 rfl (lv_at hl 2 rfl) ?_
          obtain ⟨g11, et12, hf⟩ := ob hf
          refine wr_callVv (As := [.int p1, .int p2]) (rest := []) ⟨hx, hb, hml, hown, hts⟩ (mX0_findLeast l D k xa ra xi rs p1 p2 _ _ et12) (cwV 2 hts (lw_V q521 q523 qs18 q90 q524) rfl rfl rfl ⟨rfl, hdX0_findLeast⟩ ⟨Nat.le_of_ble_eq_true rfl, Nat.le_of_ble_eq_true rfl⟩) hK hP hD hS hA [0, 1, 2, 3, 4, 5, 6] [] (wN k xa ra g11 rs) rfl rfl fm_n 7 rfl (by decide) (by decide) [(xa 0), (ra 0 0), (ra 0 1), (ra 0 2), (ra 0 3), (ra 0 4), (ra 0 5)] rfl rfl 0 0 rfl rfl rfl hl.1 rfl (Nat.le_of_ble_eq_true rfl) dX0_least_38 ⟨Nat.le_of_ble_eq_true rfl, Nat.le_of_ble_eq_true rfl⟩ (fun H locs hP hD hS => ?_)
          refine lv_iload_n hx hb dX0_least_41 rfl (lv_at hl 3 rfl) ?_
          refine lv_if_ne (tgt := 52) hx hb dX0_least_42 (by decide) (fun c13 => ?_) (fun c13 => ?_)
          · have hf := oi_f c13 hf
            refine lv_iload_n hx hb dX0_least_52 rfl (lv_at hl 3 rfl) ?_
            refine lv_iconst (v := 1) hx hb dX0_least_53 (by decide) ?_
            refine lv_icmp_ne (tgt := 64) hx hb dX0_least_54 (by decide) (fun c14 => ?_) (fun c14 => ?_)
            · have hf := oi_f c14 hf
              refine lv_iload_n hx hb dX0_least_64 rfl (lv_at hl 3 rfl) ?_
              refine lv_iconst (v := 2) hx hb dX0_least_65 (by decide) ?_
              refine lv_icmp_ne (tgt := 76) hx hb dX0_least_66 (by decide) (fun c15 => ?_) (fun c15 => ?_)
              · have hf := oi_f c15 hf
                refine lv_aload_n hx hb dX0_least_76 rfl (lv_at hl 0 rfl) ?_
                refine va_get (D := D) (cl := vwCl) (ci := 0) (v := .int (g11 4)) (C := RX0) (T := TX0) (N := 15) hx hb hts in_X0 hown hK.1 hP 0 rfl rfl 6 (by decide) (hts _ q196) (fun _ h9 => h9) rfl dX0_least_77 ?_
                obtain ⟨he1, he2⟩ := prod2 hf
                rw [he2] at hP
                exact wr_iret hx hb hr hlk he1 hP hS dX0_least_80
              · have hf := oi_t c15 hf
                refine lv_aload_n hx hb dX0_least_69 rfl (lv_at hl 0 rfl) ?_
                refine va_get (D := D) (cl := vwCl) (ci := 0) (v := .int (g11 3)) (C := RX0) (T := TX0) (N := 15) hx hb hts in_X0 hown hK.1 hP 0 rfl rfl 5 (by decide) (hts _ q195) (fun _ h9 => h9) rfl dX0_least_70 ?_
                refine lv_goto (tgt := 80) hx hb dX0_least_73 (by decide) ?_
                obtain ⟨he1, he2⟩ := prod2 hf
                rw [he2] at hP
                exact wr_iret hx hb hr hlk he1 hP hS dX0_least_80
            · have hf := oi_t c14 hf
              refine lv_aload_n hx hb dX0_least_57 rfl (lv_at hl 0 rfl) ?_
              refine va_get (D := D) (cl := vwCl) (ci := 0) (v := .int (g11 2)) (C := RX0) (T := TX0) (N := 15) hx hb hts in_X0 hown hK.1 hP 0 rfl rfl 4 (by decide) (hts _ q194) (fun _ h9 => h9) rfl dX0_least_58 ?_
              refine lv_goto (tgt := 80) hx hb dX0_least_61 (by decide) ?_
              obtain ⟨he1, he2⟩ := prod2 hf
              rw [he2] at hP
              exact wr_iret hx hb hr hlk he1 hP hS dX0_least_80
          · have hf := oi_t c13 hf
            refine lv_aload_n hx hb dX0_least_45 rfl (lv_at hl 0 rfl) ?_
            refine va_get (D := D) (cl := vwCl) (ci := 0) (v := .int (g11 1)) (C := RX0) (T := TX0) (N := 15) hx hb hts in_X0 hown hK.1 hP 0 rfl rfl 3 (by decide) (hts _ q193) (fun _ h9 => h9) rfl dX0_least_46 ?_
            refine lv_goto (tgt := 80) hx hb dX0_least_49 (by decide) ?_
            obtain ⟨he1, he2⟩ := prod2 hf
            rw [he2] at hP
            exact wr_iret hx hb hr hlk he1 hP hS dX0_least_80
        · have hf := oi_t c10 hf
          refine lv_iconst (v := (-1)) hx hb dX0_least_33 (by decide) ?_
          obtain ⟨he1, he2⟩ := prod2 hf
          rw [he2] at hP
          exact wr_iret hx hb hr hlk he1 hP hS dX0_least_34

abbrev rmX0_block : Room := { frames := 1, cells := 0, slots := 0, locals := 25 }
theorem hdX0_block : yX0_block.cls ≠ "java/lang/invoke/MethodHandle" ∧ yX0_block.cls ≠ "java/lang/invoke/VarHandle" ∧ (parseMethodDescriptor yX0_block.desc).map (fun d => d.parameters.length) = some 2 := by decide +kernel
set_option maxHeartbeats 4000000 in
theorem mX0_block (l : Launch) (D : va_G) (k : Nat → ClassId) (xa : Nat → Nat) (ra : Nat → Nat → Nat) (xi : Nat → Int32) (rs : RS) (p1 : Int32) (p2 : Int32) (r : Int32) (hf : fX0_block rs p1 p2 = some r) : CtI l yX0_block cX0_block 4 rmX0_block [.ref (xa 0), .int p1, .int p2] D k (wN k xa ra xi rs) r := by
  refine rd_start (by decide +kernel) (Nat.le_of_ble_eq_true rfl) ?_
  intro p e s m below meth c ls hx hb hr hlk hml hown hts hP hK hl
  have hl : lv_has ls 4 [(0, .ref (xa 0)), (1, .int p1), (2, .int p2)] := hl
  have hown : s.vm.findClass RX0 = some m.cls := hown
  unfold fX0_block at hf
  refine lv_iload_n hx hb dX0_block_0 rfl (lv_at hl 1 rfl) ?_
  refine lv_i2l hx hb dX0_block_1 rfl ?_
  refine lv_lconst (v := 0) hx hb dX0_block_2 (by decide) ?_
  refine lv_aload_n hx hb dX0_block_3 rfl (lv_at hl 0 rfl) ?_
  refine va_get (D := D) (cl := vwCl) (ci := 0) (v := .ref (ra 0 0)) (C := RX0) (T := TX0) (N := 15) hx hb hts in_X0 hown hK.1 hP 0 rfl rfl 0 (by decide) (hts _ q190) (fun _ h9 => h9) rfl dX0_block_4 ?_
  refine va_getN (D := D) (cl := vwCl) (ci := 1) (v := .int (rP rs)) (C := RX1) (T := TX1) (N := 6) hx hb hts in_X1 hown hK.1 hP 1 rfl rfl 1 (by decide) (hK.nw 2 rfl) (fun _ h9 => h9) rfl dX0_block_7 ?_
  refine lv_bipush (v := 16) hx hb dX0_block_10 (by decide) ?_
  refine lv_iadd hx hb dX0_block_12 ?_
  refine lv_iconst (v := 1) hx hb dX0_block_13 (by decide) ?_
  refine lv_isub hx hb dX0_block_14 ?_
  refine lv_bipush (v := 16) hx hb dX0_block_15 (by decide) ?_
  refine lv_idiv hx hb dX0_block_17 (by decide) ?_
  refine lv_iconst (v := 1) hx hb dX0_block_18 (by decide) ?_
  refine lv_isub hx hb dX0_block_19 ?_
  refine lv_i2l hx hb dX0_block_20 rfl ?_
  obtain ⟨v1, ev1, hf⟩ := ob hf
  refine rd_callSZ (As := [.long ((p1).toInt64), .long (0 : Int64), .long (((((((rP rs) + (16 : Int32)) - (1 : Int32)) / (16 : Int32)) - (1 : Int32))).toInt64)]) (rest := []) ⟨hx, hb, hml, hown, hts⟩ (mX0_in l D k   ((p1).toInt64) (0 : Int64) (((((((rP rs) + (16 : Int32)) - (1 : Int32)) / (16 : Int32)) - (1 : Int32))).toInt64) _ ev1) (va_cwS 3 hts (lw_S q242 q243 q90 q244) rfl rfl rfl hdX0_in ⟨Nat.le_of_ble_eq_true rfl, Nat.le_of_ble_eq_true rfl⟩) hK rfl hl.1 rfl (Nat.le_of_ble_eq_true rfl) dX0_block_21 ⟨Nat.le_of_ble_eq_true rfl, Nat.le_of_ble_eq_true rfl⟩ (fun zv1 => ?_)
  refine lv_if_eq (tgt := 39) hx hb dX0_block_24 (by decide) (fun c3 => ?_) (fun c3 => ?_)
  · have hf := oi_t c3 hf
    refine lv_iconst (v := (-1)) hx hb dX0_block_39 (by decide) ?_
    exact rd_iret hx hb hr hlk (Option.some.inj hf) dX0_block_40
  · have hf := oi_f c3 hf
    refine lv_iload_n hx hb dX0_block_27 rfl (lv_at hl 2 rfl) ?_
    refine lv_i2l hx hb dX0_block_28 rfl ?_
    refine lv_lconst (v := 0) hx hb dX0_block_29 (by decide) ?_
    refine lv_ldc2 hx hb hown (hts _ q469) dX0_block_30 ?_
    obtain ⟨v4, ev4, hf⟩ := ob hf
    refine rd_callSZ (As := [.long ((p2).toInt64), .long (0 : Int64), .long (2 : Int64)]) (rest := []) ⟨hx, hb, hml, hown, hts⟩ (mX0_in l D k   ((p2).toInt64) (0 : Int64) (2 : Int64) _ ev4) (va_cwS 3 hts (lw_S q242 q243 q90 q244) rfl rfl rfl hdX0_in ⟨Nat.le_of_ble_eq_true rfl, Nat.le_of_ble_eq_true rfl⟩) hK rfl hl.1 rfl (Nat.le_of_ble_eq_true rfl) dX0_block_33 ⟨Nat.le_of_ble_eq_true rfl, Nat.le_of_ble_eq_true rfl⟩ (fun zv4 => ?_)
    refine lv_if_ne (tgt := 41) hx hb dX0_block_36 (by decide) (fun c6 => ?_) (fun c6 => ?_)
    · have hf := oi_f c6 hf
      refine lv_bipush (v := 8) hx hb dX0_block_41 (by decide) ?_
      refine lv_iload_n hx hb dX0_block_43 rfl (lv_at hl 1 rfl) ?_
      refine lv_iadd hx hb dX0_block_44 ?_
      obtain ⟨y7, ey7, hf⟩ := ob hf
      refine x_asI ey7 ?_
      refine lv_istore_n (lv' := [(3, .int y7), (0, .ref (xa 0)), (1, .int p1), (2, .int p2)]) hx hb dX0_block_45 rfl hl (by decide) rfl (fun ls hl => ?_)
      refine lv_bipush (v := 100) hx hb dX0_block_46 (by decide) ?_
      refine lv_iload_n hx hb dX0_block_48 rfl (lv_at hl 3 rfl) ?_
      refine lv_if_ne (tgt := 64) hx hb dX0_block_49 (by decide) (fun c8 => ?_) (fun c8 => ?_)
      · have hf := oi_f c8 hf
        refine lv_iload_n hx hb dX0_block_64 rfl (lv_at hl 3 rfl) ?_
        refine lv_iconst (v := 1) hx hb dX0_block_65 (by decide) ?_
        refine lv_icmp_ne (tgt := 81) hx hb dX0_block_66 (by decide) (fun c9 => ?_) (fun c9 => ?_)
        · have hf := oi_f c9 hf
          refine lv_aload_n hx hb dX0_block_81 rfl (lv_at hl 1 rfl) ?_
          refine va_get (D := D) (cl := vwCl) (ci := 0) (v := .ref (ra 0 0)) (C := RX0) (T := TX0) (N := 15) hx hb hts in_X0 hown hK.1 hP 0 rfl rfl 0 (by decide) (hts _ q190) (fun _ h9 => h9) rfl dX0_block_82 ?_
          refine va_getN (D := D) (cl := vwCl) (ci := 1) (v := .ref (ra 0 5)) (C := RX1) (T := TX1) (N := 6) hx hb hts in_X1 hown hK.1 hP 1 rfl rfl 5 (by decide) (hK.nw 6 rfl) (fun _ h9 => h9) rfl dX0_block_85 ?_
          refine lv_iload_n hx hb dX0_block_88 rfl (lv_at hl 0 rfl) ?_
          obtain ⟨v10, ev10, hf⟩ := ob hf
          refine x_sald hx hb hK hP 6 2 ev10 rfl rfl dX0_block_89 ?_
          refine lv_iadd hx hb dX0_block_90 ?_
          exact rd_iret hx hb hr hlk (Option.some.inj hf) dX0_block_91
        · have hf := oi_t c9 hf
          refine lv_aload_n hx hb dX0_block_69 rfl (lv_at hl 1 rfl) ?_
          refine va_get (D := D) (cl := vwCl) (ci := 0) (v := .ref (ra 0 0)) (C := RX0) (T := TX0) (N := 15) hx hb hts in_X0 hown hK.1 hP 0 rfl rfl 0 (by decide) (hts _ q190) (fun _ h9 => h9) rfl dX0_block_70 ?_
          refine va_getN (D := D) (cl := vwCl) (ci := 1) (v := .ref (ra 0 4)) (C := RX1) (T := TX1) (N := 6) hx hb hts in_X1 hown hK.1 hP 1 rfl rfl 4 (by decide) (hK.nw 5 rfl) (fun _ h9 => h9) rfl dX0_block_73 ?_
          refine lv_iload_n hx hb dX0_block_76 rfl (lv_at hl 0 rfl) ?_
          obtain ⟨v11, ev11, hf⟩ := ob hf
          refine x_sald hx hb hK hP 5 2 ev11 rfl rfl dX0_block_77 ?_
          refine lv_goto (tgt := 90) hx hb dX0_block_78 (by decide) ?_
          refine lv_iadd hx hb dX0_block_90 ?_
          exact rd_iret hx hb hr hlk (Option.some.inj hf) dX0_block_91
      · have hf := oi_t c8 hf
        refine lv_aload_n hx hb dX0_block_52 rfl (lv_at hl 1 rfl) ?_
        refine va_get (D := D) (cl := vwCl) (ci := 0) (v := .ref (ra 0 0)) (C := RX0) (T := TX0) (N := 15) hx hb hts in_X0 hown hK.1 hP 0 rfl rfl 0 (by decide) (hts _ q190) (fun _ h9 => h9) rfl dX0_block_53 ?_
        refine va_getN (D := D) (cl := vwCl) (ci := 1) (v := .ref (ra 0 3)) (C := RX1) (T := TX1) (N := 6) hx hb hts in_X1 hown hK.1 hP 1 rfl rfl 3 (by decide) (hK.nw 4 rfl) (fun _ h9 => h9) rfl dX0_block_56 ?_
        refine lv_iload_n hx hb dX0_block_59 rfl (lv_at hl 0 rfl) ?_
        obtain ⟨v12, ev12, hf⟩ := ob hf
        refine x_sald hx hb hK hP 4 2 ev12 rfl rfl dX0_block_60 ?_
        refine lv_goto (tgt := 90) hx hb dX0_block_61 (by decide) ?_
        refine lv_iadd hx hb dX0_block_90 ?_
        exact rd_iret hx hb hr hlk (Option.some.inj hf) dX0_block_91
    · have hf := oi_t c6 hf
      refine lv_iconst (v := (-1)) hx hb dX0_block_39 (by decide) ?_
      exact rd_iret hx hb hr hlk (Option.some.inj hf) dX0_block_40

abbrev rmX0_isNode : Room := { frames := 1, cells := 0, slots := 0, locals := 25 }
theorem hdX0_isNode : yX0_isNode.cls ≠ "java/lang/invoke/MethodHandle" ∧ yX0_isNode.cls ≠ "java/lang/invoke/VarHandle" ∧ (parseMethodDescriptor yX0_isNode.desc).map (fun d => d.parameters.length) = some 1 := by decide +kernel
set_option maxHeartbeats 4000000 in
theorem mX0_isNode (l : Launch) (D : va_G) (k : Nat → ClassId) (xa : Nat → Nat) (ra : Nat → Nat → Nat) (xi : Nat → Int32) (rs : RS) (p1 : Int32) (r : Int32) (hf : fX0_isNode rs p1 = some r) : CtZ l yX0_isNode cX0_isNode 2 rmX0_isNode [.ref (xa 0), .int p1] D k (wN k xa ra xi rs) r := by
  refine rd_start (by decide +kernel) (Nat.le_of_ble_eq_true rfl) ?_
  intro p e s m below meth c ls hx hb hr hlk hml hown hts hP hK hl
  have hl : lv_has ls 2 [(0, .ref (xa 0)), (1, .int p1)] := hl
  have hown : s.vm.findClass RX0 = some m.cls := hown
  unfold fX0_isNode at hf
  refine lv_iload_n hx hb dX0_isNode_0 rfl (lv_at hl 1 rfl) ?_
  refine lv_i2l hx hb dX0_isNode_1 rfl ?_
  refine lv_lconst (v := 0) hx hb dX0_isNode_2 (by decide) ?_
  refine lv_aload_n hx hb dX0_isNode_3 rfl (lv_at hl 0 rfl) ?_
  obtain ⟨v1, ev1, hf⟩ := ob hf
  refine rd_callV (As := []) (rest := [.long (0 : Int64), .long ((p1).toInt64)]) ⟨hx, hb, hml, hown, hts⟩ (mX0_nodes l D k xa ra xi rs  _ ev1) (cwV 0 hts (lw_V q421 q423 qs7 q90 q424) rfl rfl rfl ⟨rfl, hdX0_nodes⟩ ⟨Nat.le_of_ble_eq_true rfl, Nat.le_of_ble_eq_true rfl⟩) hK hP [0, 1, 2, 3, 4, 5, 6] rfl 0 0 rfl rfl rfl hl.1 rfl (Nat.le_of_ble_eq_true rfl) dX0_isNode_4 ⟨Nat.le_of_ble_eq_true rfl, Nat.le_of_ble_eq_true rfl⟩ ?_
  refine lv_iconst (v := 1) hx hb dX0_isNode_7 (by decide) ?_
  refine lv_isub hx hb dX0_isNode_8 ?_
  refine lv_i2l hx hb dX0_isNode_9 rfl ?_
  obtain ⟨v3, ev3, hf⟩ := ob hf
  refine rd_callSZ (As := [.long ((p1).toInt64), .long (0 : Int64), .long (((v1 - (1 : Int32))).toInt64)]) (rest := []) ⟨hx, hb, hml, hown, hts⟩ (mX0_in l D k   ((p1).toInt64) (0 : Int64) (((v1 - (1 : Int32))).toInt64) _ ev3) (va_cwS 3 hts (lw_S q242 q243 q90 q244) rfl rfl rfl hdX0_in ⟨Nat.le_of_ble_eq_true rfl, Nat.le_of_ble_eq_true rfl⟩) hK rfl hl.1 rfl (Nat.le_of_ble_eq_true rfl) dX0_isNode_10 ⟨Nat.le_of_ble_eq_true rfl, Nat.le_of_ble_eq_true rfl⟩ (fun zv3 => ?_)
  exact rd_zret hx hb hr hlk zv3 (Option.some.inj hf) dX0_isNode_13

abbrev rmX0_parentOf : Room := { frames := 4, cells := 0, slots := 0, locals := 95 }
theorem hdX0_parentOf : yX0_parentOf.cls ≠ "java/lang/invoke/MethodHandle" ∧ yX0_parentOf.cls ≠ "java/lang/invoke/VarHandle" ∧ (parseMethodDescriptor yX0_parentOf.desc).map (fun d => d.parameters.length) = some 1 := by decide +kernel
set_option maxHeartbeats 4000000 in
theorem mX0_parentOf (l : Launch) (D : va_G) (k : Nat → ClassId) (xa : Nat → Nat) (ra : Nat → Nat → Nat) (xi : Nat → Int32) (rs : RS) (p1 : Int32) (r : Int32) (hf : fX0_parentOf rs p1 = some r) : CtI l yX0_parentOf cX0_parentOf 4 rmX0_parentOf [.ref (xa 0), .int p1] D k (wN k xa ra xi rs) r := by
  refine rd_start (by decide +kernel) (Nat.le_of_ble_eq_true rfl) ?_
  intro p e s m below meth c ls hx hb hr hlk hml hown hts hP hK hl
  have hl : lv_has ls 4 [(0, .ref (xa 0)), (1, .int p1)] := hl
  have hown : s.vm.findClass RX0 = some m.cls := hown
  unfold fX0_parentOf at hf
  refine lv_aload_n hx hb dX0_parentOf_0 rfl (lv_at hl 0 rfl) ?_
  refine lv_iload_n hx hb dX0_parentOf_1 rfl (lv_at hl 1 rfl) ?_
  obtain ⟨v1, ev1, hf⟩ := ob hf
  refine rd_callV (As := [.int p1]) (rest := []) ⟨hx, hb, hml, hown, hts⟩ (mX0_openOf l D k xa ra xi rs p1 _ ev1) (cwV 1 hts (lw_V q538 q540 qs20 q90 q541) rfl rfl rfl ⟨rfl, hdX0_openOf⟩ ⟨Nat.le_of_ble_eq_true rfl, Nat.le_of_ble_eq_true rfl⟩) hK hP [0, 1, 2, 3, 4, 5, 6] rfl 0 0 rfl rfl rfl hl.1 rfl (Nat.le_of_ble_eq_true rfl) dX0_parentOf_2 ⟨Nat.le_of_ble_eq_true rfl, Nat.le_of_ble_eq_true rfl⟩ ?_
  refine lv_istore_n (lv' := [(2, .int v1), (0, .ref (xa 0)), (1, .int p1)]) hx hb dX0_parentOf_5 rfl hl (by decide) rfl (fun ls hl => ?_)
  refine lv_aload_n hx hb dX0_parentOf_6 rfl (lv_at hl 1 rfl) ?_
  refine va_get (D := D) (cl := vwCl) (ci := 0) (v := .ref (ra 0 0)) (C := RX0) (T := TX0) (N := 15) hx hb hts in_X0 hown hK.1 hP 0 rfl rfl 0 (by decide) (hts _ q190) (fun _ h9 => h9) rfl dX0_parentOf_7 ?_
  refine lv_iload_n hx hb dX0_parentOf_10 rfl (lv_at hl 0 rfl) ?_
  obtain ⟨v3, ev3, hf⟩ := ob hf
  refine rd_callV (As := [.int v1]) (rest := []) ⟨hx, hb, hml, hown, hts⟩ (mX1_excess l D k (ra 0) rs v1 _ ev3) (cwV 1 hts (lw_V q460 q461 q462 q91 q463) rfl rfl rfl ⟨rfl, hdX1_excess⟩ ⟨Nat.le_of_ble_eq_true rfl, Nat.le_of_ble_eq_true rfl⟩) hK hP [1, 2, 3, 4, 5, 6] rfl 1 1 rfl rfl rfl hl.1 rfl (Nat.le_of_ble_eq_true rfl) dX0_parentOf_11 ⟨Nat.le_of_ble_eq_true rfl, Nat.le_of_ble_eq_true rfl⟩ ?_
  refine lv_istore_n (lv' := [(3, .int v3), (2, .int v1), (0, .ref (xa 0)), (1, .int p1)]) hx hb dX0_parentOf_14 rfl hl (by decide) rfl (fun ls hl => ?_)
  refine lv_iload_n hx hb dX0_parentOf_15 rfl (lv_at hl 0 rfl) ?_
  refine lv_if_ne (tgt := 24) hx hb dX0_parentOf_16 (by decide) (fun c5 => ?_) (fun c5 => ?_)
  · have hf := oi_f c5 hf
    refine lv_aload_n hx hb dX0_parentOf_24 rfl (lv_at hl 2 rfl) ?_
    refine lv_aload_n hx hb dX0_parentOf_25 rfl (lv_at hl 2 rfl) ?_
    refine lv_iload_n hx hb dX0_parentOf_26 rfl (lv_at hl 1 rfl) ?_
    refine lv_iload_n hx hb dX0_parentOf_27 rfl (lv_at hl 0 rfl) ?_
    refine lv_iconst (v := 1) hx hb dX0_parentOf_28 (by decide) ?_
    refine lv_isub hx hb dX0_parentOf_29 ?_
    obtain ⟨v6, ev6, hf⟩ := ob hf
    refine rd_callV (As := [.int v1, .int (v3 - (1 : Int32))]) (rest := [.ref (xa 0)]) ⟨hx, hb, hml, hown, hts⟩ (mX0_searchBack l D k xa ra xi rs v1 (v3 - (1 : Int32)) _ ev6) (cwV 2 hts (lw_V q500 q502 qs15 q90 q503) rfl rfl rfl ⟨rfl, hdX0_searchBack⟩ ⟨Nat.le_of_ble_eq_true rfl, Nat.le_of_ble_eq_true rfl⟩) hK hP [0, 1, 2, 3, 4, 5, 6] rfl 0 0 rfl rfl rfl hl.1 rfl (Nat.le_of_ble_eq_true rfl) dX0_parentOf_30 ⟨Nat.le_of_ble_eq_true rfl, Nat.le_of_ble_eq_true rfl⟩ ?_
    obtain ⟨v8, ev8, hf⟩ := ob hf
    refine rd_callV (As := [.int v6]) (rest := []) ⟨hx, hb, hml, hown, hts⟩ (mX0_nodeAt l D k xa ra xi rs v6 _ ev8) (cwV 1 hts (lw_V q554 q556 qs24 q90 q557) rfl rfl rfl ⟨rfl, hdX0_nodeAt⟩ ⟨Nat.le_of_ble_eq_true rfl, Nat.le_of_ble_eq_true rfl⟩) hK hP [0, 1, 2, 3, 4, 5, 6] rfl 0 0 rfl rfl rfl hl.1 rfl (Nat.le_of_ble_eq_true rfl) dX0_parentOf_33 ⟨Nat.le_of_ble_eq_true rfl, Nat.le_of_ble_eq_true rfl⟩ ?_
    exact rd_iret hx hb hr hlk (Option.some.inj hf) dX0_parentOf_36
  · have hf := oi_t c5 hf
    refine lv_bipush (v := (-4)) hx hb dX0_parentOf_19 (by decide) ?_
    refine lv_goto (tgt := 36) hx hb dX0_parentOf_21 (by decide) ?_
    exact rd_iret hx hb hr hlk (Option.some.inj hf) dX0_parentOf_36

abbrev rmX0_firstOf : Room := { frames := 3, cells := 0, slots := 0, locals := 67 }
theorem hdX0_firstOf : yX0_firstOf.cls ≠ "java/lang/invoke/MethodHandle" ∧ yX0_firstOf.cls ≠ "java/lang/invoke/VarHandle" ∧ (parseMethodDescriptor yX0_firstOf.desc).map (fun d => d.parameters.length) = some 1 := by decide +kernel
set_option maxHeartbeats 4000000 in
theorem mX0_firstOf (l : Launch) (D : va_G) (k : Nat → ClassId) (xa : Nat → Nat) (ra : Nat → Nat → Nat) (xi : Nat → Int32) (rs : RS) (p1 : Int32) (r : Int32) (hf : fX0_firstOf rs p1 = some r) : CtI l yX0_firstOf cX0_firstOf 3 rmX0_firstOf [.ref (xa 0), .int p1] D k (wN k xa ra xi rs) r := by
  refine rd_start (by decide +kernel) (Nat.le_of_ble_eq_true rfl) ?_
  intro p e s m below meth c ls hx hb hr hlk hml hown hts hP hK hl
  have hl : lv_has ls 3 [(0, .ref (xa 0)), (1, .int p1)] := hl
  have hown : s.vm.findClass RX0 = some m.cls := hown
  unfold fX0_firstOf at hf
  refine lv_aload_n hx hb dX0_firstOf_0 rfl (lv_at hl 0 rfl) ?_
  refine lv_iload_n hx hb dX0_firstOf_1 rfl (lv_at hl 1 rfl) ?_
  obtain ⟨v1, ev1, hf⟩ := ob hf
  refine rd_callV (As := [.int p1]) (rest := []) ⟨hx, hb, hml, hown, hts⟩ (mX0_openOf l D k xa ra xi rs p1 _ ev1) (cwV 1 hts (lw_V q538 q540 qs20 q90 q541) rfl rfl rfl ⟨rfl, hdX0_openOf⟩ ⟨Nat.le_of_ble_eq_true rfl, Nat.le_of_ble_eq_true rfl⟩) hK hP [0, 1, 2, 3, 4, 5, 6] rfl 0 0 rfl rfl rfl hl.1 rfl (Nat.le_of_ble_eq_true rfl) dX0_firstOf_2 ⟨Nat.le_of_ble_eq_true rfl, Nat.le_of_ble_eq_true rfl⟩ ?_
  refine lv_istore_n (lv' := [(2, .int v1), (0, .ref (xa 0)), (1, .int p1)]) hx hb dX0_firstOf_5 rfl hl (by decide) rfl (fun ls hl => ?_)
  refine lv_aload_n hx hb dX0_firstOf_6 rfl (lv_at hl 1 rfl) ?_
  refine va_get (D := D) (cl := vwCl) (ci := 0) (v := .ref (ra 0 0)) (C := RX0) (T := TX0) (N := 15) hx hb hts in_X0 hown hK.1 hP 0 rfl rfl 0 (by decide) (hts _ q190) (fun _ h9 => h9) rfl dX0_firstOf_7 ?_
  refine lv_iload_n hx hb dX0_firstOf_10 rfl (lv_at hl 0 rfl) ?_
  refine lv_iconst (v := 1) hx hb dX0_firstOf_11 (by decide) ?_
  refine lv_iadd hx hb dX0_firstOf_12 ?_
  obtain ⟨v3, ev3, hf⟩ := ob hf
  refine rd_callVZ (As := [.int (v1 + (1 : Int32))]) (rest := []) ⟨hx, hb, hml, hown, hts⟩ (mX1_isOpen l D k (ra 0) rs (v1 + (1 : Int32)) _ ev3) (cwV 1 hts (lw_V q439 q184 q185 q91 q186) rfl rfl rfl ⟨rfl, hdX1_isOpen⟩ ⟨Nat.le_of_ble_eq_true rfl, Nat.le_of_ble_eq_true rfl⟩) hK hP [1, 2, 3, 4, 5, 6] rfl 1 1 rfl rfl rfl hl.1 rfl (Nat.le_of_ble_eq_true rfl) dX0_firstOf_13 ⟨Nat.le_of_ble_eq_true rfl, Nat.le_of_ble_eq_true rfl⟩ (fun zv3 => ?_)
  refine lv_if_eq (tgt := 25) hx hb dX0_firstOf_16 (by decide) (fun c5 => ?_) (fun c5 => ?_)
  · have hf := oi_t c5 hf
    refine lv_bipush (v := (-4)) hx hb dX0_firstOf_25 (by decide) ?_
    exact rd_iret hx hb hr hlk (Option.some.inj hf) dX0_firstOf_27
  · have hf := oi_f c5 hf
    refine lv_iload_n hx hb dX0_firstOf_19 rfl (lv_at hl 2 rfl) ?_
    refine lv_iconst (v := 1) hx hb dX0_firstOf_20 (by decide) ?_
    refine lv_iadd hx hb dX0_firstOf_21 ?_
    refine lv_goto (tgt := 27) hx hb dX0_firstOf_22 (by decide) ?_
    exact rd_iret hx hb hr hlk (Option.some.inj hf) dX0_firstOf_27

abbrev rmX0_lastOf : Room := { frames := 6, cells := 0, slots := 0, locals := 137 }
theorem hdX0_lastOf : yX0_lastOf.cls ≠ "java/lang/invoke/MethodHandle" ∧ yX0_lastOf.cls ≠ "java/lang/invoke/VarHandle" ∧ (parseMethodDescriptor yX0_lastOf.desc).map (fun d => d.parameters.length) = some 1 := by decide +kernel
set_option maxHeartbeats 4000000 in
theorem mX0_lastOf (l : Launch) (D : va_G) (k : Nat → ClassId) (xa : Nat → Nat) (ra : Nat → Nat → Nat) (xi : Nat → Int32) (rs : RS) (p1 : Int32) (r : Int32) (hf : fX0_lastOf rs p1 = some r) : CtI l yX0_lastOf cX0_lastOf 3 rmX0_lastOf [.ref (xa 0), .int p1] D k (wN k xa ra xi rs) r := by
  refine rd_start (by decide +kernel) (Nat.le_of_ble_eq_true rfl) ?_
  intro p e s m below meth c ls hx hb hr hlk hml hown hts hP hK hl
  have hl : lv_has ls 3 [(0, .ref (xa 0)), (1, .int p1)] := hl
  have hown : s.vm.findClass RX0 = some m.cls := hown
  unfold fX0_lastOf at hf
  refine lv_aload_n hx hb dX0_lastOf_0 rfl (lv_at hl 0 rfl) ?_
  refine lv_iload_n hx hb dX0_lastOf_1 rfl (lv_at hl 1 rfl) ?_
  obtain ⟨v1, ev1, hf⟩ := ob hf
  refine rd_callV (As := [.int p1]) (rest := []) ⟨hx, hb, hml, hown, hts⟩ (mX0_closeOf l D k xa ra xi rs p1 _ ev1) (cwV 1 hts (lw_V q542 q544 qs21 q90 q545) rfl rfl rfl ⟨rfl, hdX0_closeOf⟩ ⟨Nat.le_of_ble_eq_true rfl, Nat.le_of_ble_eq_true rfl⟩) hK hP [0, 1, 2, 3, 4, 5, 6] rfl 0 0 rfl rfl rfl hl.1 rfl (Nat.le_of_ble_eq_true rfl) dX0_lastOf_2 ⟨Nat.le_of_ble_eq_true rfl, Nat.le_of_ble_eq_true rfl⟩ ?_
  refine lv_istore_n (lv' := [(2, .int v1), (0, .ref (xa 0)), (1, .int p1)]) hx hb dX0_lastOf_5 rfl hl (by decide) rfl (fun ls hl => ?_)
  refine lv_aload_n hx hb dX0_lastOf_6 rfl (lv_at hl 1 rfl) ?_
  refine va_get (D := D) (cl := vwCl) (ci := 0) (v := .ref (ra 0 0)) (C := RX0) (T := TX0) (N := 15) hx hb hts in_X0 hown hK.1 hP 0 rfl rfl 0 (by decide) (hts _ q190) (fun _ h9 => h9) rfl dX0_lastOf_7 ?_
  refine lv_iload_n hx hb dX0_lastOf_10 rfl (lv_at hl 0 rfl) ?_
  refine lv_iconst (v := 1) hx hb dX0_lastOf_11 (by decide) ?_
  refine lv_isub hx hb dX0_lastOf_12 ?_
  obtain ⟨v3, ev3, hf⟩ := ob hf
  refine rd_callVZ (As := [.int (v1 - (1 : Int32))]) (rest := []) ⟨hx, hb, hml, hown, hts⟩ (mX1_isOpen l D k (ra 0) rs (v1 - (1 : Int32)) _ ev3) (cwV 1 hts (lw_V q439 q184 q185 q91 q186) rfl rfl rfl ⟨rfl, hdX1_isOpen⟩ ⟨Nat.le_of_ble_eq_true rfl, Nat.le_of_ble_eq_true rfl⟩) hK hP [1, 2, 3, 4, 5, 6] rfl 1 1 rfl rfl rfl hl.1 rfl (Nat.le_of_ble_eq_true rfl) dX0_lastOf_13 ⟨Nat.le_of_ble_eq_true rfl, Nat.le_of_ble_eq_true rfl⟩ (fun zv3 => ?_)
  refine lv_if_eq (tgt := 24) hx hb dX0_lastOf_16 (by decide) (fun c5 => ?_) (fun c5 => ?_)
  · have hf := oi_t c5 hf
    refine lv_aload_n hx hb dX0_lastOf_24 rfl (lv_at hl 1 rfl) ?_
    refine lv_aload_n hx hb dX0_lastOf_25 rfl (lv_at hl 1 rfl) ?_
    refine lv_iload_n hx hb dX0_lastOf_26 rfl (lv_at hl 0 rfl) ?_
    refine lv_iconst (v := 1) hx hb dX0_lastOf_27 (by decide) ?_
    refine lv_isub hx hb dX0_lastOf_28 ?_
    obtain ⟨v6, ev6, hf⟩ := ob hf
    refine rd_callV (As := [.int (v1 - (1 : Int32))]) (rest := [.ref (xa 0)]) ⟨hx, hb, hml, hown, hts⟩ (mX0_partner l D k xa ra xi rs (v1 - (1 : Int32)) _ ev6) (cwV 1 hts (lw_V q512 q514 qs17 q90 q515) rfl rfl rfl ⟨rfl, hdX0_partner⟩ ⟨Nat.le_of_ble_eq_true rfl, Nat.le_of_ble_eq_true rfl⟩) hK hP [0, 1, 2, 3, 4, 5, 6] rfl 0 0 rfl rfl rfl hl.1 rfl (Nat.le_of_ble_eq_true rfl) dX0_lastOf_29 ⟨Nat.le_of_ble_eq_true rfl, Nat.le_of_ble_eq_true rfl⟩ ?_
    obtain ⟨v8, ev8, hf⟩ := ob hf
    refine rd_callV (As := [.int v6]) (rest := []) ⟨hx, hb, hml, hown, hts⟩ (mX0_nodeAt l D k xa ra xi rs v6 _ ev8) (cwV 1 hts (lw_V q554 q556 qs24 q90 q557) rfl rfl rfl ⟨rfl, hdX0_nodeAt⟩ ⟨Nat.le_of_ble_eq_true rfl, Nat.le_of_ble_eq_true rfl⟩) hK hP [0, 1, 2, 3, 4, 5, 6] rfl 0 0 rfl rfl rfl hl.1 rfl (Nat.le_of_ble_eq_true rfl) dX0_lastOf_32 ⟨Nat.le_of_ble_eq_true rfl, Nat.le_of_ble_eq_true rfl⟩ ?_
    exact rd_iret hx hb hr hlk (Option.some.inj hf) dX0_lastOf_35
  · have hf := oi_f c5 hf
    refine lv_bipush (v := (-4)) hx hb dX0_lastOf_19 (by decide) ?_
    refine lv_goto (tgt := 35) hx hb dX0_lastOf_21 (by decide) ?_
    exact rd_iret hx hb hr hlk (Option.some.inj hf) dX0_lastOf_35

abbrev rmX0_nextOf : Room := { frames := 6, cells := 0, slots := 0, locals := 137 }
theorem hdX0_nextOf : yX0_nextOf.cls ≠ "java/lang/invoke/MethodHandle" ∧ yX0_nextOf.cls ≠ "java/lang/invoke/VarHandle" ∧ (parseMethodDescriptor yX0_nextOf.desc).map (fun d => d.parameters.length) = some 1 := by decide +kernel
set_option maxHeartbeats 4000000 in
theorem mX0_nextOf (l : Launch) (D : va_G) (k : Nat → ClassId) (xa : Nat → Nat) (ra : Nat → Nat → Nat) (xi : Nat → Int32) (rs : RS) (p1 : Int32) (r : Int32) (hf : fX0_nextOf rs p1 = some r) : CtI l yX0_nextOf cX0_nextOf 3 rmX0_nextOf [.ref (xa 0), .int p1] D k (wN k xa ra xi rs) r := by
  refine rd_start (by decide +kernel) (Nat.le_of_ble_eq_true rfl) ?_
  intro p e s m below meth c ls hx hb hr hlk hml hown hts hP hK hl
  have hl : lv_has ls 3 [(0, .ref (xa 0)), (1, .int p1)] := hl
  have hown : s.vm.findClass RX0 = some m.cls := hown
  unfold fX0_nextOf at hf
  refine lv_aload_n hx hb dX0_nextOf_0 rfl (lv_at hl 0 rfl) ?_
  refine lv_iload_n hx hb dX0_nextOf_1 rfl (lv_at hl 1 rfl) ?_
  obtain ⟨v1, ev1, hf⟩ := ob hf
  refine rd_callV (As := [.int p1]) (rest := []) ⟨hx, hb, hml, hown, hts⟩ (mX0_closeOf l D k xa ra xi rs p1 _ ev1) (cwV 1 hts (lw_V q542 q544 qs21 q90 q545) rfl rfl rfl ⟨rfl, hdX0_closeOf⟩ ⟨Nat.le_of_ble_eq_true rfl, Nat.le_of_ble_eq_true rfl⟩) hK hP [0, 1, 2, 3, 4, 5, 6] rfl 0 0 rfl rfl rfl hl.1 rfl (Nat.le_of_ble_eq_true rfl) dX0_nextOf_2 ⟨Nat.le_of_ble_eq_true rfl, Nat.le_of_ble_eq_true rfl⟩ ?_
  refine lv_istore_n (lv' := [(2, .int v1), (0, .ref (xa 0)), (1, .int p1)]) hx hb dX0_nextOf_5 rfl hl (by decide) rfl (fun ls hl => ?_)
  refine lv_iload_n hx hb dX0_nextOf_6 rfl (lv_at hl 0 rfl) ?_
  refine lv_iconst (v := 1) hx hb dX0_nextOf_7 (by decide) ?_
  refine lv_iadd hx hb dX0_nextOf_8 ?_
  refine lv_aload_n hx hb dX0_nextOf_9 rfl (lv_at hl 1 rfl) ?_
  refine va_get (D := D) (cl := vwCl) (ci := 0) (v := .ref (ra 0 0)) (C := RX0) (T := TX0) (N := 15) hx hb hts in_X0 hown hK.1 hP 0 rfl rfl 0 (by decide) (hts _ q190) (fun _ h9 => h9) rfl dX0_nextOf_10 ?_
  refine va_getN (D := D) (cl := vwCl) (ci := 1) (v := .int (rP rs)) (C := RX1) (T := TX1) (N := 6) hx hb hts in_X1 hown hK.1 hP 1 rfl rfl 1 (by decide) (hK.nw 2 rfl) (fun _ h9 => h9) rfl dX0_nextOf_13 ?_
  refine lv_icmp_ge (tgt := 42) hx hb dX0_nextOf_16 (by decide) (fun c3 => ?_) (fun c3 => ?_)
  · have hf := oi_t c3 hf
    refine lv_bipush (v := (-4)) hx hb dX0_nextOf_42 (by decide) ?_
    exact rd_iret hx hb hr hlk (Option.some.inj hf) dX0_nextOf_44
  · have hf := oi_f c3 hf
    refine lv_aload_n hx hb dX0_nextOf_19 rfl (lv_at hl 1 rfl) ?_
    refine va_get (D := D) (cl := vwCl) (ci := 0) (v := .ref (ra 0 0)) (C := RX0) (T := TX0) (N := 15) hx hb hts in_X0 hown hK.1 hP 0 rfl rfl 0 (by decide) (hts _ q190) (fun _ h9 => h9) rfl dX0_nextOf_20 ?_
    refine lv_iload_n hx hb dX0_nextOf_23 rfl (lv_at hl 0 rfl) ?_
    refine lv_iconst (v := 1) hx hb dX0_nextOf_24 (by decide) ?_
    refine lv_iadd hx hb dX0_nextOf_25 ?_
    obtain ⟨v4, ev4, hf⟩ := ob hf
    refine rd_callVZ (As := [.int (v1 + (1 : Int32))]) (rest := []) ⟨hx, hb, hml, hown, hts⟩ (mX1_isOpen l D k (ra 0) rs (v1 + (1 : Int32)) _ ev4) (cwV 1 hts (lw_V q439 q184 q185 q91 q186) rfl rfl rfl ⟨rfl, hdX1_isOpen⟩ ⟨Nat.le_of_ble_eq_true rfl, Nat.le_of_ble_eq_true rfl⟩) hK hP [1, 2, 3, 4, 5, 6] rfl 1 1 rfl rfl rfl hl.1 rfl (Nat.le_of_ble_eq_true rfl) dX0_nextOf_26 ⟨Nat.le_of_ble_eq_true rfl, Nat.le_of_ble_eq_true rfl⟩ (fun zv4 => ?_)
    refine lv_if_eq (tgt := 42) hx hb dX0_nextOf_29 (by decide) (fun c6 => ?_) (fun c6 => ?_)
    · have hf := oi_t c6 hf
      refine lv_bipush (v := (-4)) hx hb dX0_nextOf_42 (by decide) ?_
      exact rd_iret hx hb hr hlk (Option.some.inj hf) dX0_nextOf_44
    · have hf := oi_f c6 hf
      refine lv_aload_n hx hb dX0_nextOf_32 rfl (lv_at hl 1 rfl) ?_
      refine lv_iload_n hx hb dX0_nextOf_33 rfl (lv_at hl 0 rfl) ?_
      refine lv_iconst (v := 1) hx hb dX0_nextOf_34 (by decide) ?_
      refine lv_iadd hx hb dX0_nextOf_35 ?_
      obtain ⟨v7, ev7, hf⟩ := ob hf
      refine rd_callV (As := [.int (v1 + (1 : Int32))]) (rest := []) ⟨hx, hb, hml, hown, hts⟩ (mX0_nodeAt l D k xa ra xi rs (v1 + (1 : Int32)) _ ev7) (cwV 1 hts (lw_V q554 q556 qs24 q90 q557) rfl rfl rfl ⟨rfl, hdX0_nodeAt⟩ ⟨Nat.le_of_ble_eq_true rfl, Nat.le_of_ble_eq_true rfl⟩) hK hP [0, 1, 2, 3, 4, 5, 6] rfl 0 0 rfl rfl rfl hl.1 rfl (Nat.le_of_ble_eq_true rfl) dX0_nextOf_36 ⟨Nat.le_of_ble_eq_true rfl, Nat.le_of_ble_eq_true rfl⟩ ?_
      refine lv_goto (tgt := 44) hx hb dX0_nextOf_39 (by decide) ?_
      exact rd_iret hx hb hr hlk (Option.some.inj hf) dX0_nextOf_44

abbrev rmX0_beforeOf : Room := { frames := 5, cells := 0, slots := 0, locals := 116 }
theorem hdX0_beforeOf : yX0_beforeOf.cls ≠ "java/lang/invoke/MethodHandle" ∧ yX0_beforeOf.cls ≠ "java/lang/invoke/VarHandle" ∧ (parseMethodDescriptor yX0_beforeOf.desc).map (fun d => d.parameters.length) = some 1 := by decide +kernel
set_option maxHeartbeats 4000000 in
theorem mX0_beforeOf (l : Launch) (D : va_G) (k : Nat → ClassId) (xa : Nat → Nat) (ra : Nat → Nat → Nat) (xi : Nat → Int32) (rs : RS) (p1 : Int32) (r : Int32) (hf : fX0_beforeOf rs p1 = some r) : CtI l yX0_beforeOf cX0_beforeOf 3 rmX0_beforeOf [.ref (xa 0), .int p1] D k (wN k xa ra xi rs) r := by
  refine rd_start (by decide +kernel) (Nat.le_of_ble_eq_true rfl) ?_
  intro p e s m below meth c ls hx hb hr hlk hml hown hts hP hK hl
  have hl : lv_has ls 3 [(0, .ref (xa 0)), (1, .int p1)] := hl
  have hown : s.vm.findClass RX0 = some m.cls := hown
  unfold fX0_beforeOf at hf
  refine lv_aload_n hx hb dX0_beforeOf_0 rfl (lv_at hl 0 rfl) ?_
  refine lv_iload_n hx hb dX0_beforeOf_1 rfl (lv_at hl 1 rfl) ?_
  obtain ⟨v1, ev1, hf⟩ := ob hf
  refine rd_callV (As := [.int p1]) (rest := []) ⟨hx, hb, hml, hown, hts⟩ (mX0_openOf l D k xa ra xi rs p1 _ ev1) (cwV 1 hts (lw_V q538 q540 qs20 q90 q541) rfl rfl rfl ⟨rfl, hdX0_openOf⟩ ⟨Nat.le_of_ble_eq_true rfl, Nat.le_of_ble_eq_true rfl⟩) hK hP [0, 1, 2, 3, 4, 5, 6] rfl 0 0 rfl rfl rfl hl.1 rfl (Nat.le_of_ble_eq_true rfl) dX0_beforeOf_2 ⟨Nat.le_of_ble_eq_true rfl, Nat.le_of_ble_eq_true rfl⟩ ?_
  refine lv_istore_n (lv' := [(2, .int v1), (0, .ref (xa 0)), (1, .int p1)]) hx hb dX0_beforeOf_5 rfl hl (by decide) rfl (fun ls hl => ?_)
  refine lv_iload_n hx hb dX0_beforeOf_6 rfl (lv_at hl 0 rfl) ?_
  refine lv_if_eq (tgt := 23) hx hb dX0_beforeOf_7 (by decide) (fun c3 => ?_) (fun c3 => ?_)
  · have hf := oi_t c3 hf
    refine lv_bipush (v := (-4)) hx hb dX0_beforeOf_23 (by decide) ?_
    refine lv_goto (tgt := 39) hx hb dX0_beforeOf_25 (by decide) ?_
    exact rd_iret hx hb hr hlk (Option.some.inj hf) dX0_beforeOf_39
  · have hf := oi_f c3 hf
    refine lv_aload_n hx hb dX0_beforeOf_10 rfl (lv_at hl 1 rfl) ?_
    refine va_get (D := D) (cl := vwCl) (ci := 0) (v := .ref (ra 0 0)) (C := RX0) (T := TX0) (N := 15) hx hb hts in_X0 hown hK.1 hP 0 rfl rfl 0 (by decide) (hts _ q190) (fun _ h9 => h9) rfl dX0_beforeOf_11 ?_
    refine lv_iload_n hx hb dX0_beforeOf_14 rfl (lv_at hl 0 rfl) ?_
    refine lv_iconst (v := 1) hx hb dX0_beforeOf_15 (by decide) ?_
    refine lv_isub hx hb dX0_beforeOf_16 ?_
    obtain ⟨v4, ev4, hf⟩ := ob hf
    refine rd_callVZ (As := [.int (v1 - (1 : Int32))]) (rest := []) ⟨hx, hb, hml, hown, hts⟩ (mX1_isOpen l D k (ra 0) rs (v1 - (1 : Int32)) _ ev4) (cwV 1 hts (lw_V q439 q184 q185 q91 q186) rfl rfl rfl ⟨rfl, hdX1_isOpen⟩ ⟨Nat.le_of_ble_eq_true rfl, Nat.le_of_ble_eq_true rfl⟩) hK hP [1, 2, 3, 4, 5, 6] rfl 1 1 rfl rfl rfl hl.1 rfl (Nat.le_of_ble_eq_true rfl) dX0_beforeOf_17 ⟨Nat.le_of_ble_eq_true rfl, Nat.le_of_ble_eq_true rfl⟩ (fun zv4 => ?_)
    refine lv_if_eq (tgt := 28) hx hb dX0_beforeOf_20 (by decide) (fun c6 => ?_) (fun c6 => ?_)
    · have hf := oi_t c6 hf
      refine lv_aload_n hx hb dX0_beforeOf_28 rfl (lv_at hl 1 rfl) ?_
      refine lv_aload_n hx hb dX0_beforeOf_29 rfl (lv_at hl 1 rfl) ?_
      refine lv_iload_n hx hb dX0_beforeOf_30 rfl (lv_at hl 0 rfl) ?_
      refine lv_iconst (v := 1) hx hb dX0_beforeOf_31 (by decide) ?_
      refine lv_isub hx hb dX0_beforeOf_32 ?_
      obtain ⟨v7, ev7, hf⟩ := ob hf
      refine rd_callV (As := [.int (v1 - (1 : Int32))]) (rest := [.ref (xa 0)]) ⟨hx, hb, hml, hown, hts⟩ (mX0_partner l D k xa ra xi rs (v1 - (1 : Int32)) _ ev7) (cwV 1 hts (lw_V q512 q514 qs17 q90 q515) rfl rfl rfl ⟨rfl, hdX0_partner⟩ ⟨Nat.le_of_ble_eq_true rfl, Nat.le_of_ble_eq_true rfl⟩) hK hP [0, 1, 2, 3, 4, 5, 6] rfl 0 0 rfl rfl rfl hl.1 rfl (Nat.le_of_ble_eq_true rfl) dX0_beforeOf_33 ⟨Nat.le_of_ble_eq_true rfl, Nat.le_of_ble_eq_true rfl⟩ ?_
      obtain ⟨v9, ev9, hf⟩ := ob hf
      refine rd_callV (As := [.int v7]) (rest := []) ⟨hx, hb, hml, hown, hts⟩ (mX0_nodeAt l D k xa ra xi rs v7 _ ev9) (cwV 1 hts (lw_V q554 q556 qs24 q90 q557) rfl rfl rfl ⟨rfl, hdX0_nodeAt⟩ ⟨Nat.le_of_ble_eq_true rfl, Nat.le_of_ble_eq_true rfl⟩) hK hP [0, 1, 2, 3, 4, 5, 6] rfl 0 0 rfl rfl rfl hl.1 rfl (Nat.le_of_ble_eq_true rfl) dX0_beforeOf_36 ⟨Nat.le_of_ble_eq_true rfl, Nat.le_of_ble_eq_true rfl⟩ ?_
      exact rd_iret hx hb hr hlk (Option.some.inj hf) dX0_beforeOf_39
    · have hf := oi_f c6 hf
      refine lv_bipush (v := (-4)) hx hb dX0_beforeOf_23 (by decide) ?_
      refine lv_goto (tgt := 39) hx hb dX0_beforeOf_25 (by decide) ?_
      exact rd_iret hx hb hr hlk (Option.some.inj hf) dX0_beforeOf_39

abbrev rmX0_childOf : Room := { frames := 7, cells := 0, slots := 0, locals := 159 }
theorem hdX0_childOf : yX0_childOf.cls ≠ "java/lang/invoke/MethodHandle" ∧ yX0_childOf.cls ≠ "java/lang/invoke/VarHandle" ∧ (parseMethodDescriptor yX0_childOf.desc).map (fun d => d.parameters.length) = some 2 := by decide +kernel
set_option maxHeartbeats 4000000 in
theorem mX0_childOf (l : Launch) (D : va_G) (k : Nat → ClassId) (xa : Nat → Nat) (ra : Nat → Nat → Nat) (xi : Nat → Int32) (rs : RS) (p1 : Int32) (p2 : Int32) (r : Int32) (hf : fX0_childOf rs p1 p2 = some r) : CtI l yX0_childOf cX0_childOf 5 rmX0_childOf [.ref (xa 0), .int p1, .int p2] D k (wN k xa ra xi rs) r := by
  refine rd_start (by decide +kernel) (Nat.le_of_ble_eq_true rfl) ?_
  intro p e s m below meth c ls hx hb hr hlk hml hown hts hP hK hl
  have hl : lv_has ls 5 [(0, .ref (xa 0)), (1, .int p1), (2, .int p2)] := hl
  have hown : s.vm.findClass RX0 = some m.cls := hown
  unfold fX0_childOf at hf
  refine lv_aload_n hx hb dX0_childOf_0 rfl (lv_at hl 0 rfl) ?_
  refine lv_iload_n hx hb dX0_childOf_1 rfl (lv_at hl 1 rfl) ?_
  obtain ⟨v1, ev1, hf⟩ := ob hf
  refine rd_callV (As := [.int p1]) (rest := []) ⟨hx, hb, hml, hown, hts⟩ (mX0_firstOf l D k xa ra xi rs p1 _ ev1) (cwV 1 hts (lw_V q558 q560 qs25 q90 q561) rfl rfl rfl ⟨rfl, hdX0_firstOf⟩ ⟨Nat.le_of_ble_eq_true rfl, Nat.le_of_ble_eq_true rfl⟩) hK hP [0, 1, 2, 3, 4, 5, 6] rfl 0 0 rfl rfl rfl hl.1 rfl (Nat.le_of_ble_eq_true rfl) dX0_childOf_2 ⟨Nat.le_of_ble_eq_true rfl, Nat.le_of_ble_eq_true rfl⟩ ?_
  refine lv_istore_n (lv' := [(3, .int v1), (0, .ref (xa 0)), (1, .int p1), (2, .int p2)]) hx hb dX0_childOf_5 rfl hl (by decide) rfl (fun ls hl => ?_)
  refine lv_iconst (v := 0) hx hb dX0_childOf_6 (by decide) ?_
  refine lv_istore (lv' := [(4, .int (0 : Int32)), (3, .int v1), (0, .ref (xa 0)), (1, .int p1), (2, .int p2)]) hx hb dX0_childOf_7 hl (by decide) rfl (fun ls hl => ?_)
  have hL9 : ∀ (nn : Nat) (x3_9 : Int32) (x4_9 : Int32), fX0_childOf_L9 rs p1 p2 nn x3_9 x4_9 = some r → ∀ ls : Array Slot, lv_has ls 5 [(0, .ref (xa 0)), (2, .int p2), (3, .int x3_9), (4, .int x4_9)] → gR p l e rmX0_childOf s m [.ref (xa 0), .int p1, .int p2] below meth c (vp_Si (fun x => x = r)) 9 ls [] := by
    intro nn9
    induction nn9 with
    | zero =>
      intro x3_9 x4_9 hf
      rw [fX0_childOf_L9] at hf; cases hf
    | succ nn9 ih9 =>
      intro x3_9 x4_9 hf ls hl
      rw [fX0_childOf_L9] at hf
      refine lv_iload hx hb dX0_childOf_9 (lv_at hl 3 rfl) ?_
      refine lv_iload_n hx hb dX0_childOf_11 rfl (lv_at hl 1 rfl) ?_
      refine lv_icmp_ge (tgt := 33) hx hb dX0_childOf_12 (by decide) (fun c3 => ?_) (fun c3 => ?_)
      · have hf := oi_t c3 hf
        refine lv_iload_n hx hb dX0_childOf_33 rfl (lv_at hl 2 rfl) ?_
        exact rd_iret hx hb hr hlk (Option.some.inj hf) dX0_childOf_34
      · have hf := oi_f c3 hf
        refine lv_iload_n hx hb dX0_childOf_15 rfl (lv_at hl 2 rfl) ?_
        refine lv_bipush (v := (-4)) hx hb dX0_childOf_16 (by decide) ?_
        refine lv_icmp_eq (tgt := 33) hx hb dX0_childOf_18 (by decide) (fun c4 => ?_) (fun c4 => ?_)
        · have hf := oi_t c4 hf
          refine lv_iload_n hx hb dX0_childOf_33 rfl (lv_at hl 2 rfl) ?_
          exact rd_iret hx hb hr hlk (Option.some.inj hf) dX0_childOf_34
        · have hf := oi_f c4 hf
          refine lv_aload_n hx hb dX0_childOf_21 rfl (lv_at hl 0 rfl) ?_
          refine lv_iload_n hx hb dX0_childOf_22 rfl (lv_at hl 2 rfl) ?_
          obtain ⟨v5, ev5, hf⟩ := ob hf
          refine rd_callV (As := [.int x3_9]) (rest := []) ⟨hx, hb, hml, hown, hts⟩ (mX0_nextOf l D k xa ra xi rs x3_9 _ ev5) (cwV 1 hts (lw_V q566 q568 qs27 q90 q569) rfl rfl rfl ⟨rfl, hdX0_nextOf⟩ ⟨Nat.le_of_ble_eq_true rfl, Nat.le_of_ble_eq_true rfl⟩) hK hP [0, 1, 2, 3, 4, 5, 6] rfl 0 0 rfl rfl rfl hl.1 rfl (Nat.le_of_ble_eq_true rfl) dX0_childOf_23 ⟨Nat.le_of_ble_eq_true rfl, Nat.le_of_ble_eq_true rfl⟩ ?_
          refine lv_istore_n (lv' := [(3, .int v5), (0, .ref (xa 0)), (2, .int p2), (4, .int x4_9)]) hx hb dX0_childOf_26 rfl hl (by decide) rfl (fun ls hl => ?_)
          refine lv_iinc (v := (x4_9 + 1)) (lv' := [(4, .int (x4_9 + 1)), (3, .int v5), (0, .ref (xa 0)), (2, .int p2)]) hx hb dX0_childOf_27 hl (k := 3) rfl rfl (by decide) rfl (fun ls hl => ?_)
          refine lv_goto (tgt := 9) hx hb dX0_childOf_30 (by decide) ?_
          exact ih9 v5 (x4_9 + 1) hf ls (lv_sub hl [2, 3, 1, 0] rfl)
  exact hL9 FU v1 (0 : Int32) hf ls (lv_sub hl [2, 4, 1, 0] rfl)

abbrev rmX0_childrenOf : Room := { frames := 7, cells := 0, slots := 0, locals := 159 }
theorem hdX0_childrenOf : yX0_childrenOf.cls ≠ "java/lang/invoke/MethodHandle" ∧ yX0_childrenOf.cls ≠ "java/lang/invoke/VarHandle" ∧ (parseMethodDescriptor yX0_childrenOf.desc).map (fun d => d.parameters.length) = some 1 := by decide +kernel
set_option maxHeartbeats 4000000 in
theorem mX0_childrenOf (l : Launch) (D : va_G) (k : Nat → ClassId) (xa : Nat → Nat) (ra : Nat → Nat → Nat) (xi : Nat → Int32) (rs : RS) (p1 : Int32) (r : Int32) (hf : fX0_childrenOf rs p1 = some r) : CtI l yX0_childrenOf cX0_childrenOf 4 rmX0_childrenOf [.ref (xa 0), .int p1] D k (wN k xa ra xi rs) r := by
  refine rd_start (by decide +kernel) (Nat.le_of_ble_eq_true rfl) ?_
  intro p e s m below meth c ls hx hb hr hlk hml hown hts hP hK hl
  have hl : lv_has ls 4 [(0, .ref (xa 0)), (1, .int p1)] := hl
  have hown : s.vm.findClass RX0 = some m.cls := hown
  unfold fX0_childrenOf at hf
  refine lv_iconst (v := 0) hx hb dX0_childrenOf_0 (by decide) ?_
  refine lv_istore_n (lv' := [(2, .int (0 : Int32)), (0, .ref (xa 0)), (1, .int p1)]) hx hb dX0_childrenOf_1 rfl hl (by decide) rfl (fun ls hl => ?_)
  refine lv_aload_n hx hb dX0_childrenOf_2 rfl (lv_at hl 1 rfl) ?_
  refine lv_iload_n hx hb dX0_childrenOf_3 rfl (lv_at hl 2 rfl) ?_
  obtain ⟨v1, ev1, hf⟩ := ob hf
  refine rd_callV (As := [.int p1]) (rest := []) ⟨hx, hb, hml, hown, hts⟩ (mX0_firstOf l D k xa ra xi rs p1 _ ev1) (cwV 1 hts (lw_V q558 q560 qs25 q90 q561) rfl rfl rfl ⟨rfl, hdX0_firstOf⟩ ⟨Nat.le_of_ble_eq_true rfl, Nat.le_of_ble_eq_true rfl⟩) hK hP [0, 1, 2, 3, 4, 5, 6] rfl 0 0 rfl rfl rfl hl.1 rfl (Nat.le_of_ble_eq_true rfl) dX0_childrenOf_4 ⟨Nat.le_of_ble_eq_true rfl, Nat.le_of_ble_eq_true rfl⟩ ?_
  refine lv_istore_n (lv' := [(3, .int v1), (2, .int (0 : Int32)), (0, .ref (xa 0)), (1, .int p1)]) hx hb dX0_childrenOf_7 rfl hl (by decide) rfl (fun ls hl => ?_)
  have hL8 : ∀ (nn : Nat) (x2_8 : Int32) (x3_8 : Int32), fX0_childrenOf_L8 rs p1 nn x2_8 x3_8 = some r → ∀ ls : Array Slot, lv_has ls 4 [(0, .ref (xa 0)), (2, .int x2_8), (3, .int x3_8)] → gR p l e rmX0_childrenOf s m [.ref (xa 0), .int p1] below meth c (vp_Si (fun x => x = r)) 8 ls [] := by
    intro nn8
    induction nn8 with
    | zero =>
      intro x2_8 x3_8 hf
      rw [fX0_childrenOf_L8] at hf; cases hf
    | succ nn8 ih8 =>
      intro x2_8 x3_8 hf ls hl
      rw [fX0_childrenOf_L8] at hf
      refine lv_iload_n hx hb dX0_childrenOf_8 rfl (lv_at hl 2 rfl) ?_
      refine lv_bipush (v := (-4)) hx hb dX0_childrenOf_9 (by decide) ?_
      refine lv_icmp_eq (tgt := 26) hx hb dX0_childrenOf_11 (by decide) (fun c3 => ?_) (fun c3 => ?_)
      · have hf := oi_t c3 hf
        refine lv_iload_n hx hb dX0_childrenOf_26 rfl (lv_at hl 1 rfl) ?_
        exact rd_iret hx hb hr hlk (Option.some.inj hf) dX0_childrenOf_27
      · have hf := oi_f c3 hf
        refine lv_iinc (v := (x2_8 + 1)) (lv' := [(2, .int (x2_8 + 1)), (0, .ref (xa 0)), (3, .int x3_8)]) hx hb dX0_childrenOf_14 hl (k := 1) rfl rfl (by decide) rfl (fun ls hl => ?_)
        refine lv_aload_n hx hb dX0_childrenOf_17 rfl (lv_at hl 1 rfl) ?_
        refine lv_iload_n hx hb dX0_childrenOf_18 rfl (lv_at hl 2 rfl) ?_
        obtain ⟨v4, ev4, hf⟩ := ob hf
        refine rd_callV (As := [.int x3_8]) (rest := []) ⟨hx, hb, hml, hown, hts⟩ (mX0_nextOf l D k xa ra xi rs x3_8 _ ev4) (cwV 1 hts (lw_V q566 q568 qs27 q90 q569) rfl rfl rfl ⟨rfl, hdX0_nextOf⟩ ⟨Nat.le_of_ble_eq_true rfl, Nat.le_of_ble_eq_true rfl⟩) hK hP [0, 1, 2, 3, 4, 5, 6] rfl 0 0 rfl rfl rfl hl.1 rfl (Nat.le_of_ble_eq_true rfl) dX0_childrenOf_19 ⟨Nat.le_of_ble_eq_true rfl, Nat.le_of_ble_eq_true rfl⟩ ?_
        refine lv_istore_n (lv' := [(3, .int v4), (2, .int (x2_8 + 1)), (0, .ref (xa 0))]) hx hb dX0_childrenOf_22 rfl hl (by decide) rfl (fun ls hl => ?_)
        refine lv_goto (tgt := 8) hx hb dX0_childrenOf_23 (by decide) ?_
        exact ih8 (x2_8 + 1) v4 hf ls (lv_sub hl [2, 1, 0] rfl)
  exact hL8 FU (0 : Int32) v1 hf ls (lv_sub hl [2, 1, 0] rfl)

abbrev rmX0_whichOf : Room := { frames := 6, cells := 0, slots := 0, locals := 138 }
theorem hdX0_whichOf : yX0_whichOf.cls ≠ "java/lang/invoke/MethodHandle" ∧ yX0_whichOf.cls ≠ "java/lang/invoke/VarHandle" ∧ (parseMethodDescriptor yX0_whichOf.desc).map (fun d => d.parameters.length) = some 1 := by decide +kernel
set_option maxHeartbeats 4000000 in
theorem mX0_whichOf (l : Launch) (D : va_G) (k : Nat → ClassId) (xa : Nat → Nat) (ra : Nat → Nat → Nat) (xi : Nat → Int32) (rs : RS) (p1 : Int32) (r : Int32) (hf : fX0_whichOf rs p1 = some r) : CtI l yX0_whichOf cX0_whichOf 4 rmX0_whichOf [.ref (xa 0), .int p1] D k (wN k xa ra xi rs) r := by
  refine rd_start (by decide +kernel) (Nat.le_of_ble_eq_true rfl) ?_
  intro p e s m below meth c ls hx hb hr hlk hml hown hts hP hK hl
  have hl : lv_has ls 4 [(0, .ref (xa 0)), (1, .int p1)] := hl
  have hown : s.vm.findClass RX0 = some m.cls := hown
  unfold fX0_whichOf at hf
  refine lv_iconst (v := 0) hx hb dX0_whichOf_0 (by decide) ?_
  refine lv_istore_n (lv' := [(2, .int (0 : Int32)), (0, .ref (xa 0)), (1, .int p1)]) hx hb dX0_whichOf_1 rfl hl (by decide) rfl (fun ls hl => ?_)
  refine lv_aload_n hx hb dX0_whichOf_2 rfl (lv_at hl 1 rfl) ?_
  refine lv_iload_n hx hb dX0_whichOf_3 rfl (lv_at hl 2 rfl) ?_
  obtain ⟨v1, ev1, hf⟩ := ob hf
  refine rd_callV (As := [.int p1]) (rest := []) ⟨hx, hb, hml, hown, hts⟩ (mX0_beforeOf l D k xa ra xi rs p1 _ ev1) (cwV 1 hts (lw_V q570 q572 qs28 q90 q573) rfl rfl rfl ⟨rfl, hdX0_beforeOf⟩ ⟨Nat.le_of_ble_eq_true rfl, Nat.le_of_ble_eq_true rfl⟩) hK hP [0, 1, 2, 3, 4, 5, 6] rfl 0 0 rfl rfl rfl hl.1 rfl (Nat.le_of_ble_eq_true rfl) dX0_whichOf_4 ⟨Nat.le_of_ble_eq_true rfl, Nat.le_of_ble_eq_true rfl⟩ ?_
  refine lv_istore_n (lv' := [(3, .int v1), (2, .int (0 : Int32)), (0, .ref (xa 0)), (1, .int p1)]) hx hb dX0_whichOf_7 rfl hl (by decide) rfl (fun ls hl => ?_)
  have hL8 : ∀ (nn : Nat) (x2_8 : Int32) (x3_8 : Int32), fX0_whichOf_L8 rs p1 nn x2_8 x3_8 = some r → ∀ ls : Array Slot, lv_has ls 4 [(0, .ref (xa 0)), (2, .int x2_8), (3, .int x3_8)] → gR p l e rmX0_whichOf s m [.ref (xa 0), .int p1] below meth c (vp_Si (fun x => x = r)) 8 ls [] := by
    intro nn8
    induction nn8 with
    | zero =>
      intro x2_8 x3_8 hf
      rw [fX0_whichOf_L8] at hf; cases hf
    | succ nn8 ih8 =>
      intro x2_8 x3_8 hf ls hl
      rw [fX0_whichOf_L8] at hf
      refine lv_iload_n hx hb dX0_whichOf_8 rfl (lv_at hl 2 rfl) ?_
      refine lv_bipush (v := (-4)) hx hb dX0_whichOf_9 (by decide) ?_
      refine lv_icmp_eq (tgt := 26) hx hb dX0_whichOf_11 (by decide) (fun c3 => ?_) (fun c3 => ?_)
      · have hf := oi_t c3 hf
        refine lv_iload_n hx hb dX0_whichOf_26 rfl (lv_at hl 1 rfl) ?_
        exact rd_iret hx hb hr hlk (Option.some.inj hf) dX0_whichOf_27
      · have hf := oi_f c3 hf
        refine lv_iinc (v := (x2_8 + 1)) (lv' := [(2, .int (x2_8 + 1)), (0, .ref (xa 0)), (3, .int x3_8)]) hx hb dX0_whichOf_14 hl (k := 1) rfl rfl (by decide) rfl (fun ls hl => ?_)
        refine lv_aload_n hx hb dX0_whichOf_17 rfl (lv_at hl 1 rfl) ?_
        refine lv_iload_n hx hb dX0_whichOf_18 rfl (lv_at hl 2 rfl) ?_
        obtain ⟨v4, ev4, hf⟩ := ob hf
        refine rd_callV (As := [.int x3_8]) (rest := []) ⟨hx, hb, hml, hown, hts⟩ (mX0_beforeOf l D k xa ra xi rs x3_8 _ ev4) (cwV 1 hts (lw_V q570 q572 qs28 q90 q573) rfl rfl rfl ⟨rfl, hdX0_beforeOf⟩ ⟨Nat.le_of_ble_eq_true rfl, Nat.le_of_ble_eq_true rfl⟩) hK hP [0, 1, 2, 3, 4, 5, 6] rfl 0 0 rfl rfl rfl hl.1 rfl (Nat.le_of_ble_eq_true rfl) dX0_whichOf_19 ⟨Nat.le_of_ble_eq_true rfl, Nat.le_of_ble_eq_true rfl⟩ ?_
        refine lv_istore_n (lv' := [(3, .int v4), (2, .int (x2_8 + 1)), (0, .ref (xa 0))]) hx hb dX0_whichOf_22 rfl hl (by decide) rfl (fun ls hl => ?_)
        refine lv_goto (tgt := 8) hx hb dX0_whichOf_23 (by decide) ?_
        exact ih8 (x2_8 + 1) v4 hf ls (lv_sub hl [2, 1, 0] rfl)
  exact hL8 FU (0 : Int32) v1 hf ls (lv_sub hl [2, 1, 0] rfl)

abbrev rmX0_sizeOf : Room := { frames := 6, cells := 0, slots := 0, locals := 137 }
theorem hdX0_sizeOf : yX0_sizeOf.cls ≠ "java/lang/invoke/MethodHandle" ∧ yX0_sizeOf.cls ≠ "java/lang/invoke/VarHandle" ∧ (parseMethodDescriptor yX0_sizeOf.desc).map (fun d => d.parameters.length) = some 1 := by decide +kernel
set_option maxHeartbeats 4000000 in
theorem mX0_sizeOf (l : Launch) (D : va_G) (k : Nat → ClassId) (xa : Nat → Nat) (ra : Nat → Nat → Nat) (xi : Nat → Int32) (rs : RS) (p1 : Int32) (r : Int32) (hf : fX0_sizeOf rs p1 = some r) : CtI l yX0_sizeOf cX0_sizeOf 2 rmX0_sizeOf [.ref (xa 0), .int p1] D k (wN k xa ra xi rs) r := by
  refine rd_start (by decide +kernel) (Nat.le_of_ble_eq_true rfl) ?_
  intro p e s m below meth c ls hx hb hr hlk hml hown hts hP hK hl
  have hl : lv_has ls 2 [(0, .ref (xa 0)), (1, .int p1)] := hl
  have hown : s.vm.findClass RX0 = some m.cls := hown
  unfold fX0_sizeOf at hf
  refine lv_aload_n hx hb dX0_sizeOf_0 rfl (lv_at hl 0 rfl) ?_
  refine lv_iload_n hx hb dX0_sizeOf_1 rfl (lv_at hl 1 rfl) ?_
  obtain ⟨v1, ev1, hf⟩ := ob hf
  refine rd_callV (As := [.int p1]) (rest := []) ⟨hx, hb, hml, hown, hts⟩ (mX0_closeOf l D k xa ra xi rs p1 _ ev1) (cwV 1 hts (lw_V q542 q544 qs21 q90 q545) rfl rfl rfl ⟨rfl, hdX0_closeOf⟩ ⟨Nat.le_of_ble_eq_true rfl, Nat.le_of_ble_eq_true rfl⟩) hK hP [0, 1, 2, 3, 4, 5, 6] rfl 0 0 rfl rfl rfl hl.1 rfl (Nat.le_of_ble_eq_true rfl) dX0_sizeOf_2 ⟨Nat.le_of_ble_eq_true rfl, Nat.le_of_ble_eq_true rfl⟩ ?_
  refine lv_aload_n hx hb dX0_sizeOf_5 rfl (lv_at hl 0 rfl) ?_
  refine lv_iload_n hx hb dX0_sizeOf_6 rfl (lv_at hl 1 rfl) ?_
  obtain ⟨v3, ev3, hf⟩ := ob hf
  refine rd_callV (As := [.int p1]) (rest := [.int v1]) ⟨hx, hb, hml, hown, hts⟩ (mX0_openOf l D k xa ra xi rs p1 _ ev3) (cwV 1 hts (lw_V q538 q540 qs20 q90 q541) rfl rfl rfl ⟨rfl, hdX0_openOf⟩ ⟨Nat.le_of_ble_eq_true rfl, Nat.le_of_ble_eq_true rfl⟩) hK hP [0, 1, 2, 3, 4, 5, 6] rfl 0 0 rfl rfl rfl hl.1 rfl (Nat.le_of_ble_eq_true rfl) dX0_sizeOf_7 ⟨Nat.le_of_ble_eq_true rfl, Nat.le_of_ble_eq_true rfl⟩ ?_
  refine lv_isub hx hb dX0_sizeOf_10 ?_
  refine lv_iconst (v := 1) hx hb dX0_sizeOf_11 (by decide) ?_
  refine lv_iadd hx hb dX0_sizeOf_12 ?_
  refine lv_iconst (v := 2) hx hb dX0_sizeOf_13 (by decide) ?_
  refine lv_idiv hx hb dX0_sizeOf_14 (by decide) ?_
  exact rd_iret hx hb hr hlk (Option.some.inj hf) dX0_sizeOf_15

abbrev rmX0_leavesOf : Room := { frames := 6, cells := 0, slots := 0, locals := 137 }
theorem hdX0_leavesOf : yX0_leavesOf.cls ≠ "java/lang/invoke/MethodHandle" ∧ yX0_leavesOf.cls ≠ "java/lang/invoke/VarHandle" ∧ (parseMethodDescriptor yX0_leavesOf.desc).map (fun d => d.parameters.length) = some 1 := by decide +kernel
set_option maxHeartbeats 4000000 in
theorem mX0_leavesOf (l : Launch) (D : va_G) (k : Nat → ClassId) (xa : Nat → Nat) (ra : Nat → Nat → Nat) (xi : Nat → Int32) (rs : RS) (p1 : Int32) (r : Int32) (hf : fX0_leavesOf rs p1 = some r) : CtI l yX0_leavesOf cX0_leavesOf 2 rmX0_leavesOf [.ref (xa 0), .int p1] D k (wN k xa ra xi rs) r := by
  refine rd_start (by decide +kernel) (Nat.le_of_ble_eq_true rfl) ?_
  intro p e s m below meth c ls hx hb hr hlk hml hown hts hP hK hl
  have hl : lv_has ls 2 [(0, .ref (xa 0)), (1, .int p1)] := hl
  have hown : s.vm.findClass RX0 = some m.cls := hown
  unfold fX0_leavesOf at hf
  refine lv_aload_n hx hb dX0_leavesOf_0 rfl (lv_at hl 0 rfl) ?_
  refine lv_aload_n hx hb dX0_leavesOf_1 rfl (lv_at hl 0 rfl) ?_
  refine lv_iload_n hx hb dX0_leavesOf_2 rfl (lv_at hl 1 rfl) ?_
  obtain ⟨v1, ev1, hf⟩ := ob hf
  refine rd_callV (As := [.int p1]) (rest := [.ref (xa 0)]) ⟨hx, hb, hml, hown, hts⟩ (mX0_closeOf l D k xa ra xi rs p1 _ ev1) (cwV 1 hts (lw_V q542 q544 qs21 q90 q545) rfl rfl rfl ⟨rfl, hdX0_closeOf⟩ ⟨Nat.le_of_ble_eq_true rfl, Nat.le_of_ble_eq_true rfl⟩) hK hP [0, 1, 2, 3, 4, 5, 6] rfl 0 0 rfl rfl rfl hl.1 rfl (Nat.le_of_ble_eq_true rfl) dX0_leavesOf_3 ⟨Nat.le_of_ble_eq_true rfl, Nat.le_of_ble_eq_true rfl⟩ ?_
  refine lv_iconst (v := 1) hx hb dX0_leavesOf_6 (by decide) ?_
  refine lv_iadd hx hb dX0_leavesOf_7 ?_
  refine lv_iconst (v := 2) hx hb dX0_leavesOf_8 (by decide) ?_
  obtain ⟨v3, ev3, hf⟩ := ob hf
  refine rd_callV (As := [.int (v1 + (1 : Int32)), .int (2 : Int32)]) (rest := []) ⟨hx, hb, hml, hown, hts⟩ (mX0_ranked l D k xa ra xi rs (v1 + (1 : Int32)) (2 : Int32) _ ev3) (cwV 2 hts (lw_V q425 q427 qs8 q90 q428) rfl rfl rfl ⟨rfl, hdX0_ranked⟩ ⟨Nat.le_of_ble_eq_true rfl, Nat.le_of_ble_eq_true rfl⟩) hK hP [0, 1, 2, 3, 4, 5, 6] rfl 0 0 rfl rfl rfl hl.1 rfl (Nat.le_of_ble_eq_true rfl) dX0_leavesOf_9 ⟨Nat.le_of_ble_eq_true rfl, Nat.le_of_ble_eq_true rfl⟩ ?_
  refine lv_aload_n hx hb dX0_leavesOf_12 rfl (lv_at hl 0 rfl) ?_
  refine lv_aload_n hx hb dX0_leavesOf_13 rfl (lv_at hl 0 rfl) ?_
  refine lv_iload_n hx hb dX0_leavesOf_14 rfl (lv_at hl 1 rfl) ?_
  obtain ⟨v5, ev5, hf⟩ := ob hf
  refine rd_callV (As := [.int p1]) (rest := [.ref (xa 0), .int v3]) ⟨hx, hb, hml, hown, hts⟩ (mX0_openOf l D k xa ra xi rs p1 _ ev5) (cwV 1 hts (lw_V q538 q540 qs20 q90 q541) rfl rfl rfl ⟨rfl, hdX0_openOf⟩ ⟨Nat.le_of_ble_eq_true rfl, Nat.le_of_ble_eq_true rfl⟩) hK hP [0, 1, 2, 3, 4, 5, 6] rfl 0 0 rfl rfl rfl hl.1 rfl (Nat.le_of_ble_eq_true rfl) dX0_leavesOf_15 ⟨Nat.le_of_ble_eq_true rfl, Nat.le_of_ble_eq_true rfl⟩ ?_
  refine lv_iconst (v := 2) hx hb dX0_leavesOf_18 (by decide) ?_
  obtain ⟨v7, ev7, hf⟩ := ob hf
  refine rd_callV (As := [.int v5, .int (2 : Int32)]) (rest := [.int v3]) ⟨hx, hb, hml, hown, hts⟩ (mX0_ranked l D k xa ra xi rs v5 (2 : Int32) _ ev7) (cwV 2 hts (lw_V q425 q427 qs8 q90 q428) rfl rfl rfl ⟨rfl, hdX0_ranked⟩ ⟨Nat.le_of_ble_eq_true rfl, Nat.le_of_ble_eq_true rfl⟩) hK hP [0, 1, 2, 3, 4, 5, 6] rfl 0 0 rfl rfl rfl hl.1 rfl (Nat.le_of_ble_eq_true rfl) dX0_leavesOf_19 ⟨Nat.le_of_ble_eq_true rfl, Nat.le_of_ble_eq_true rfl⟩ ?_
  refine lv_isub hx hb dX0_leavesOf_22 ?_
  exact rd_iret hx hb hr hlk (Option.some.inj hf) dX0_leavesOf_23

abbrev rmX0_deeperOf : Room := { frames := 5, cells := 0, slots := 0, locals := 116 }
theorem hdX0_deeperOf : yX0_deeperOf.cls ≠ "java/lang/invoke/MethodHandle" ∧ yX0_deeperOf.cls ≠ "java/lang/invoke/VarHandle" ∧ (parseMethodDescriptor yX0_deeperOf.desc).map (fun d => d.parameters.length) = some 1 := by decide +kernel
abbrev qcX0_deeperOf (D : va_G) (k : Nat → ClassId) (xa : Nat → Nat) (ra : Nat → Nat → Nat) (xi : Nat → Int32) (rs : RS) (r : Int32) (A : Nat → Prop) : Array Value → State → Outcome → State → Prop := va_Qi (fun x (_ : Unit) => x = r) (fun _ t => va_P D vwCl (wN k xa ra xi rs) t.heap) A
set_option maxHeartbeats 4000000 in
theorem mX0_deeperOf (l : Launch) (D : va_G) (k : Nat → ClassId) (xa : Nat → Nat) (ra : Nat → Nat → Nat) (xi : Nat → Int32) (rs : RS) (p1 : Int32) (sz : Nat) (r : Int32) (xi_o : Nat → Int32) (hf : fX0_deeperOf xi rs p1 = some (r, xi_o)) : Met l yX0_deeperOf (ws_ yX0_deeperOf cX0_deeperOf 3 (some .int)) rmX0_deeperOf (wrP D k (wN k xa ra xi rs) sz [.ref (xa 0), .int p1]) (qcX0_deeperOf D k xa ra xi_o rs r (va_A (wN k xa ra xi rs) sz)) 0 0 (va_A (wN k xa ra xi rs) sz) := by
  refine wr_start (Qc := fun A => qcX0_deeperOf D k xa ra xi_o rs r A) (by decide +kernel) (Nat.le_of_ble_eq_true rfl) ?_
  intro p e s m below meth c ls A hA hx hb hr hlk hml hown hts hP hK hD hl
  have hl : lv_has ls 3 [(0, .ref (xa 0)), (1, .int p1)] := hl
  have hown : s.vm.findClass RX0 = some m.cls := hown
  have hS : va_S A s.heap s.heap [] := va_S.rf
  suffices hw : ∀ (H : Heap) (locs : List Loc), va_P D vwCl (wN k xa ra xi rs) H → va_S A s.heap H locs → gW p l e rmX0_deeperOf s m [.ref (xa 0), .int p1] below meth c (qcX0_deeperOf D k xa ra xi_o rs r A) A 0 0 H locs 0 ls [] from hw s.heap [] hP hS
  clear hP hS
  intro H locs hP hS
  unfold fX0_deeperOf at hf
  refine lv_aload_n hx hb dX0_deeperOf_0 rfl (lv_at hl 0 rfl) ?_
  refine lv_iload_n hx hb dX0_deeperOf_1 rfl (lv_at hl 1 rfl) ?_
  obtain ⟨v1, ev1, hf⟩ := ob hf
  refine rd_callV (As := [.int p1]) (rest := []) ⟨hx, hb, hml, hown, hts⟩ (mX0_openOf l D k xa ra xi rs p1 _ ev1) (cwV 1 hts (lw_V q538 q540 qs20 q90 q541) rfl rfl rfl ⟨rfl, hdX0_openOf⟩ ⟨Nat.le_of_ble_eq_true rfl, Nat.le_of_ble_eq_true rfl⟩) hK hP [0, 1, 2, 3, 4, 5, 6] rfl 0 0 rfl rfl rfl hl.1 rfl (Nat.le_of_ble_eq_true rfl) dX0_deeperOf_2 ⟨Nat.le_of_ble_eq_true rfl, Nat.le_of_ble_eq_true rfl⟩ ?_
  refine lv_istore_n (lv' := [(2, .int v1), (0, .ref (xa 0)), (1, .int p1)]) hx hb dX0_deeperOf_5 rfl hl (by decide) rfl (fun ls hl => ?_)
  refine lv_aload_n hx hb dX0_deeperOf_6 rfl (lv_at hl 1 rfl) ?_
  refine lv_iload_n hx hb dX0_deeperOf_7 rfl (lv_at hl 0 rfl) ?_
  refine lv_iconst (v := 1) hx hb dX0_deeperOf_8 (by decide) ?_
  refine lv_iadd hx hb dX0_deeperOf_9 ?_
  refine lv_aload_n hx hb dX0_deeperOf_10 rfl (lv_at hl 1 rfl) ?_
  refine lv_iload_n hx hb dX0_deeperOf_11 rfl (lv_at hl 0 rfl) ?_
  obtain ⟨v3, ev3, hf⟩ := ob hf
  refine rd_callV (As := [.int v1]) (rest := [.int (v1 + (1 : Int32)), .ref (xa 0)]) ⟨hx, hb, hml, hown, hts⟩ (mX0_partner l D k xa ra xi rs v1 _ ev3) (cwV 1 hts (lw_V q512 q514 qs17 q90 q515) rfl rfl rfl ⟨rfl, hdX0_partner⟩ ⟨Nat.le_of_ble_eq_true rfl, Nat.le_of_ble_eq_true rfl⟩) hK hP [0, 1, 2, 3, 4, 5, 6] rfl 0 0 rfl rfl rfl hl.1 rfl (Nat.le_of_ble_eq_true rfl) dX0_deeperOf_12 ⟨Nat.le_of_ble_eq_true rfl, Nat.le_of_ble_eq_true rfl⟩ ?_
  obtain ⟨g5, et6, hf⟩ := ob hf
  refine wr_callVv (As := [.int (v1 + (1 : Int32)), .int v3]) (rest := []) ⟨hx, hb, hml, hown, hts⟩ (mX0_findLeast l D k xa ra xi rs (v1 + (1 : Int32)) v3 _ _ et6) (cwV 2 hts (lw_V q521 q523 qs18 q90 q524) rfl rfl rfl ⟨rfl, hdX0_findLeast⟩ ⟨Nat.le_of_ble_eq_true rfl, Nat.le_of_ble_eq_true rfl⟩) hK hP hD hS hA [0, 1, 2, 3, 4, 5, 6] [] (wN k xa ra g5 rs) rfl rfl fm_n 7 rfl (by decide) (by decide) [(xa 0), (ra 0 0), (ra 0 1), (ra 0 2), (ra 0 3), (ra 0 4), (ra 0 5)] rfl rfl 0 0 rfl rfl rfl hl.1 rfl (Nat.le_of_ble_eq_true rfl) dX0_deeperOf_15 ⟨Nat.le_of_ble_eq_true rfl, Nat.le_of_ble_eq_true rfl⟩ (fun H locs hP hD hS => ?_)
  refine lv_aload_n hx hb dX0_deeperOf_18 rfl (lv_at hl 1 rfl) ?_
  refine va_get (D := D) (cl := vwCl) (ci := 0) (v := .int (g5 4)) (C := RX0) (T := TX0) (N := 15) hx hb hts in_X0 hown hK.1 hP 0 rfl rfl 6 (by decide) (hts _ q196) (fun _ h9 => h9) rfl dX0_deeperOf_19 ?_
  refine lv_aload_n hx hb dX0_deeperOf_22 rfl (lv_at hl 1 rfl) ?_
  refine va_get (D := D) (cl := vwCl) (ci := 0) (v := .ref (ra 0 0)) (C := RX0) (T := TX0) (N := 15) hx hb hts in_X0 hown hK.1 hP 0 rfl rfl 0 (by decide) (hts _ q190) (fun _ h9 => h9) rfl dX0_deeperOf_23 ?_
  refine lv_iload_n hx hb dX0_deeperOf_26 rfl (lv_at hl 0 rfl) ?_
  obtain ⟨v7, ev7, hf⟩ := ob hf
  refine rd_callV (As := [.int v1]) (rest := [.int (g5 4)]) ⟨hx, hb, hml, hown, hts⟩ (mX1_excess l D k (ra 0) rs v1 _ ev7) (cwV 1 hts (lw_V q460 q461 q462 q91 q463) rfl rfl rfl ⟨rfl, hdX1_excess⟩ ⟨Nat.le_of_ble_eq_true rfl, Nat.le_of_ble_eq_true rfl⟩) hK hP [1, 2, 3, 4, 5, 6] rfl 1 1 rfl rfl rfl hl.1 rfl (Nat.le_of_ble_eq_true rfl) dX0_deeperOf_27 ⟨Nat.le_of_ble_eq_true rfl, Nat.le_of_ble_eq_true rfl⟩ ?_
  refine lv_isub hx hb dX0_deeperOf_30 ?_
  refine lv_iconst (v := 1) hx hb dX0_deeperOf_31 (by decide) ?_
  refine lv_isub hx hb dX0_deeperOf_32 ?_
  obtain ⟨he1, he2⟩ := prod2 hf
  rw [he2] at hP
  exact wr_iret hx hb hr hlk he1 hP hS dX0_deeperOf_33
