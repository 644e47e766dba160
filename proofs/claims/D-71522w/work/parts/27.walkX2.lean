/-! walks of the tree, by program -/
set_option maxRecDepth 100000
abbrev rmX0_node : Room := { frames := 8, cells := 0, slots := 0, locals := 182 }
theorem hdX0_node : yX0_node.cls ≠ "java/lang/invoke/MethodHandle" ∧ yX0_node.cls ≠ "java/lang/invoke/VarHandle" ∧ (parseMethodDescriptor yX0_node.desc).map (fun d => d.parameters.length) = some 2 := by decide +kernel
abbrev qcX0_node (D : va_G) (k : Nat → ClassId) (xa : Nat → Nat) (ra : Nat → Nat → Nat) (xi : Nat → Int32) (rs : RS) (r : Int32) (A : Nat → Prop) : Array Value → State → Outcome → State → Prop := va_Qi (fun x (_ : Unit) => x = r) (fun _ t => va_P D vwCl (wN k xa ra xi rs) t.heap) A
set_option maxHeartbeats 4000000 in
theorem mX0_node (l : Launch) (D : va_G) (k : Nat → ClassId) (xa : Nat → Nat) (ra : Nat → Nat → Nat) (xi : Nat → Int32) (rs : RS) (p1 : Int32) (p2 : Int32) (sz : Nat) (r : Int32) (xi_o : Nat → Int32) (hf : fX0_node xi rs p1 p2 = some (r, xi_o)) : Met l yX0_node (ws_ yX0_node cX0_node 3 (some .int)) rmX0_node (wrP D k (wN k xa ra xi rs) sz [.ref (xa 0), .int p1, .int p2]) (qcX0_node D k xa ra xi_o rs r (va_A (wN k xa ra xi rs) sz)) 0 0 (va_A (wN k xa ra xi rs) sz) := by
  refine wr_start (Qc := fun A => qcX0_node D k xa ra xi_o rs r A) (by decide +kernel) (Nat.le_of_ble_eq_true rfl) ?_
  intro p e s m below meth c ls A hA hx hb hr hlk hml hown hts hP hK hD hl
  have hl : lv_has ls 3 [(0, .ref (xa 0)), (1, .int p1), (2, .int p2)] := hl
  have hown : s.vm.findClass RX0 = some m.cls := hown
  have hS : va_S A s.heap s.heap [] := va_S.rf
  suffices hw : ∀ (H : Heap) (locs : List Loc), va_P D vwCl (wN k xa ra xi rs) H → va_S A s.heap H locs → gW p l e rmX0_node s m [.ref (xa 0), .int p1, .int p2] below meth c (qcX0_node D k xa ra xi_o rs r A) A 0 0 H locs 0 ls [] from hw s.heap [] hP hS
  clear hP hS
  intro H locs hP hS
  unfold fX0_node at hf
  refine lv_aload_n hx hb dX0_node_0 rfl (lv_at hl 0 rfl) ?_
  refine lv_iload_n hx hb dX0_node_1 rfl (lv_at hl 1 rfl) ?_
  obtain ⟨v1, ev1, hf⟩ := ob hf
  refine rd_callVZ (As := [.int p1]) (rest := []) ⟨hx, hb, hml, hown, hts⟩ (mX0_isNode l D k xa ra xi rs p1 _ ev1) (cwV 1 hts (lw_V q534 q536 qs19 q90 q537) rfl rfl rfl ⟨rfl, hdX0_isNode⟩ ⟨Nat.le_of_ble_eq_true rfl, Nat.le_of_ble_eq_true rfl⟩) hK hP [0, 1, 2, 3, 4, 5, 6] rfl 0 0 rfl rfl rfl hl.1 rfl (Nat.le_of_ble_eq_true rfl) dX0_node_2 ⟨Nat.le_of_ble_eq_true rfl, Nat.le_of_ble_eq_true rfl⟩ (fun zv1 => ?_)
  refine lv_if_ne (tgt := 10) hx hb dX0_node_5 (by decide) (fun c3 => ?_) (fun c3 => ?_)
  · have hf := oi_f c3 hf
    refine lv_iload_n hx hb dX0_node_10 rfl (lv_at hl 2 rfl) ?_
    by_cases c4 : p2 = 0
    · have hf := oi_t c4 hf
      refine lv_tableIn (off := 69) (tgt := 80) hx hb dX0_node_11 (by rw [c4]; decide) (by rw [c4]; decide) (by rw [c4]; rfl) (by decide) ?_
      refine lv_aload_n hx hb dX0_node_80 rfl (lv_at hl 0 rfl) ?_
      refine lv_iload_n hx hb dX0_node_81 rfl (lv_at hl 1 rfl) ?_
      obtain ⟨v5, ev5, hf⟩ := ob hf
      refine rd_callV (As := [.int p1]) (rest := []) ⟨hx, hb, hml, hown, hts⟩ (mX0_openOf l D k xa ra xi rs p1 _ ev5) (cwV 1 hts (lw_V q538 q540 qs20 q90 q541) rfl rfl rfl ⟨rfl, hdX0_openOf⟩ ⟨Nat.le_of_ble_eq_true rfl, Nat.le_of_ble_eq_true rfl⟩) hK hP [0, 1, 2, 3, 4, 5, 6] rfl 0 0 rfl rfl rfl hl.1 rfl (Nat.le_of_ble_eq_true rfl) dX0_node_82 ⟨Nat.le_of_ble_eq_true rfl, Nat.le_of_ble_eq_true rfl⟩ ?_
      obtain ⟨he1, he2⟩ := prod2 hf
      rw [he2] at hP
      exact wr_iret hx hb hr hlk he1 hP hS dX0_node_85
    have hf := oi_f c4 hf
    by_cases c7 : p2 = 1
    · have hf := oi_t c7 hf
      refine lv_tableIn (off := 75) (tgt := 86) hx hb dX0_node_11 (by rw [c7]; decide) (by rw [c7]; decide) (by rw [c7]; rfl) (by decide) ?_
      refine lv_aload_n hx hb dX0_node_86 rfl (lv_at hl 0 rfl) ?_
      refine lv_iload_n hx hb dX0_node_87 rfl (lv_at hl 1 rfl) ?_
      obtain ⟨v8, ev8, hf⟩ := ob hf
      refine rd_callV (As := [.int p1]) (rest := []) ⟨hx, hb, hml, hown, hts⟩ (mX0_closeOf l D k xa ra xi rs p1 _ ev8) (cwV 1 hts (lw_V q542 q544 qs21 q90 q545) rfl rfl rfl ⟨rfl, hdX0_closeOf⟩ ⟨Nat.le_of_ble_eq_true rfl, Nat.le_of_ble_eq_true rfl⟩) hK hP [0, 1, 2, 3, 4, 5, 6] rfl 0 0 rfl rfl rfl hl.1 rfl (Nat.le_of_ble_eq_true rfl) dX0_node_88 ⟨Nat.le_of_ble_eq_true rfl, Nat.le_of_ble_eq_true rfl⟩ ?_
      obtain ⟨he1, he2⟩ := prod2 hf
      rw [he2] at hP
      exact wr_iret hx hb hr hlk he1 hP hS dX0_node_91
    have hf := oi_f c7 hf
    by_cases c10 : p2 = 2
    · have hf := oi_t c10 hf
      refine lv_tableIn (off := 81) (tgt := 92) hx hb dX0_node_11 (by rw [c10]; decide) (by rw [c10]; decide) (by rw [c10]; rfl) (by decide) ?_
      refine lv_aload_n hx hb dX0_node_92 rfl (lv_at hl 0 rfl) ?_
      refine lv_iload_n hx hb dX0_node_93 rfl (lv_at hl 1 rfl) ?_
      obtain ⟨v11, ev11, hf⟩ := ob hf
      refine rd_callV (As := [.int p1]) (rest := []) ⟨hx, hb, hml, hown, hts⟩ (mX0_depthOf l D k xa ra xi rs p1 _ ev11) (cwV 1 hts (lw_V q546 q548 qs22 q90 q549) rfl rfl rfl ⟨rfl, hdX0_depthOf⟩ ⟨Nat.le_of_ble_eq_true rfl, Nat.le_of_ble_eq_true rfl⟩) hK hP [0, 1, 2, 3, 4, 5, 6] rfl 0 0 rfl rfl rfl hl.1 rfl (Nat.le_of_ble_eq_true rfl) dX0_node_94 ⟨Nat.le_of_ble_eq_true rfl, Nat.le_of_ble_eq_true rfl⟩ ?_
      obtain ⟨he1, he2⟩ := prod2 hf
      rw [he2] at hP
      exact wr_iret hx hb hr hlk he1 hP hS dX0_node_97
    have hf := oi_f c10 hf
    by_cases c13 : p2 = 3
    · have hf := oi_t c13 hf
      refine lv_tableIn (off := 87) (tgt := 98) hx hb dX0_node_11 (by rw [c13]; decide) (by rw [c13]; decide) (by rw [c13]; rfl) (by decide) ?_
      refine lv_aload_n hx hb dX0_node_98 rfl (lv_at hl 0 rfl) ?_
      refine lv_iload_n hx hb dX0_node_99 rfl (lv_at hl 1 rfl) ?_
      obtain ⟨v14, ev14, hf⟩ := ob hf
      refine rd_callV (As := [.int p1]) (rest := []) ⟨hx, hb, hml, hown, hts⟩ (mX0_parentOf l D k xa ra xi rs p1 _ ev14) (cwV 1 hts (lw_V q550 q552 qs23 q90 q553) rfl rfl rfl ⟨rfl, hdX0_parentOf⟩ ⟨Nat.le_of_ble_eq_true rfl, Nat.le_of_ble_eq_true rfl⟩) hK hP [0, 1, 2, 3, 4, 5, 6] rfl 0 0 rfl rfl rfl hl.1 rfl (Nat.le_of_ble_eq_true rfl) dX0_node_100 ⟨Nat.le_of_ble_eq_true rfl, Nat.le_of_ble_eq_true rfl⟩ ?_
      obtain ⟨he1, he2⟩ := prod2 hf
      rw [he2] at hP
      exact wr_iret hx hb hr hlk he1 hP hS dX0_node_103
    have hf := oi_f c13 hf
    by_cases c16 : p2 = 4
    · have hf := oi_t c16 hf
      refine lv_tableIn (off := 93) (tgt := 104) hx hb dX0_node_11 (by rw [c16]; decide) (by rw [c16]; decide) (by rw [c16]; rfl) (by decide) ?_
      refine lv_aload_n hx hb dX0_node_104 rfl (lv_at hl 0 rfl) ?_
      refine lv_iload_n hx hb dX0_node_105 rfl (lv_at hl 1 rfl) ?_
      obtain ⟨v17, ev17, hf⟩ := ob hf
      refine rd_callV (As := [.int p1]) (rest := []) ⟨hx, hb, hml, hown, hts⟩ (mX0_firstOf l D k xa ra xi rs p1 _ ev17) (cwV 1 hts (lw_V q558 q560 qs25 q90 q561) rfl rfl rfl ⟨rfl, hdX0_firstOf⟩ ⟨Nat.le_of_ble_eq_true rfl, Nat.le_of_ble_eq_true rfl⟩) hK hP [0, 1, 2, 3, 4, 5, 6] rfl 0 0 rfl rfl rfl hl.1 rfl (Nat.le_of_ble_eq_true rfl) dX0_node_106 ⟨Nat.le_of_ble_eq_true rfl, Nat.le_of_ble_eq_true rfl⟩ ?_
      obtain ⟨he1, he2⟩ := prod2 hf
      rw [he2] at hP
      exact wr_iret hx hb hr hlk he1 hP hS dX0_node_109
    have hf := oi_f c16 hf
    by_cases c19 : p2 = 5
    · have hf := oi_t c19 hf
      refine lv_tableIn (off := 99) (tgt := 110) hx hb dX0_node_11 (by rw [c19]; decide) (by rw [c19]; decide) (by rw [c19]; rfl) (by decide) ?_
      refine lv_aload_n hx hb dX0_node_110 rfl (lv_at hl 0 rfl) ?_
      refine lv_iload_n hx hb dX0_node_111 rfl (lv_at hl 1 rfl) ?_
      obtain ⟨v20, ev20, hf⟩ := ob hf
      refine rd_callV (As := [.int p1]) (rest := []) ⟨hx, hb, hml, hown, hts⟩ (mX0_lastOf l D k xa ra xi rs p1 _ ev20) (cwV 1 hts (lw_V q562 q564 qs26 q90 q565) rfl rfl rfl ⟨rfl, hdX0_lastOf⟩ ⟨Nat.le_of_ble_eq_true rfl, Nat.le_of_ble_eq_true rfl⟩) hK hP [0, 1, 2, 3, 4, 5, 6] rfl 0 0 rfl rfl rfl hl.1 rfl (Nat.le_of_ble_eq_true rfl) dX0_node_112 ⟨Nat.le_of_ble_eq_true rfl, Nat.le_of_ble_eq_true rfl⟩ ?_
      obtain ⟨he1, he2⟩ := prod2 hf
      rw [he2] at hP
      exact wr_iret hx hb hr hlk he1 hP hS dX0_node_115
    have hf := oi_f c19 hf
    by_cases c22 : p2 = 6
    · have hf := oi_t c22 hf
      refine lv_tableIn (off := 105) (tgt := 116) hx hb dX0_node_11 (by rw [c22]; decide) (by rw [c22]; decide) (by rw [c22]; rfl) (by decide) ?_
      refine lv_aload_n hx hb dX0_node_116 rfl (lv_at hl 0 rfl) ?_
      refine lv_iload_n hx hb dX0_node_117 rfl (lv_at hl 1 rfl) ?_
      obtain ⟨v23, ev23, hf⟩ := ob hf
      refine rd_callV (As := [.int p1]) (rest := []) ⟨hx, hb, hml, hown, hts⟩ (mX0_nextOf l D k xa ra xi rs p1 _ ev23) (cwV 1 hts (lw_V q566 q568 qs27 q90 q569) rfl rfl rfl ⟨rfl, hdX0_nextOf⟩ ⟨Nat.le_of_ble_eq_true rfl, Nat.le_of_ble_eq_true rfl⟩) hK hP [0, 1, 2, 3, 4, 5, 6] rfl 0 0 rfl rfl rfl hl.1 rfl (Nat.le_of_ble_eq_true rfl) dX0_node_118 ⟨Nat.le_of_ble_eq_true rfl, Nat.le_of_ble_eq_true rfl⟩ ?_
      obtain ⟨he1, he2⟩ := prod2 hf
      rw [he2] at hP
      exact wr_iret hx hb hr hlk he1 hP hS dX0_node_121
    have hf := oi_f c22 hf
    by_cases c25 : p2 = 7
    · have hf := oi_t c25 hf
      refine lv_tableIn (off := 111) (tgt := 122) hx hb dX0_node_11 (by rw [c25]; decide) (by rw [c25]; decide) (by rw [c25]; rfl) (by decide) ?_
      refine lv_aload_n hx hb dX0_node_122 rfl (lv_at hl 0 rfl) ?_
      refine lv_iload_n hx hb dX0_node_123 rfl (lv_at hl 1 rfl) ?_
      obtain ⟨v26, ev26, hf⟩ := ob hf
      refine rd_callV (As := [.int p1]) (rest := []) ⟨hx, hb, hml, hown, hts⟩ (mX0_beforeOf l D k xa ra xi rs p1 _ ev26) (cwV 1 hts (lw_V q570 q572 qs28 q90 q573) rfl rfl rfl ⟨rfl, hdX0_beforeOf⟩ ⟨Nat.le_of_ble_eq_true rfl, Nat.le_of_ble_eq_true rfl⟩) hK hP [0, 1, 2, 3, 4, 5, 6] rfl 0 0 rfl rfl rfl hl.1 rfl (Nat.le_of_ble_eq_true rfl) dX0_node_124 ⟨Nat.le_of_ble_eq_true rfl, Nat.le_of_ble_eq_true rfl⟩ ?_
      obtain ⟨he1, he2⟩ := prod2 hf
      rw [he2] at hP
      exact wr_iret hx hb hr hlk he1 hP hS dX0_node_127
    have hf := oi_f c25 hf
    by_cases c28 : p2 = 8
    · have hf := oi_t c28 hf
      refine lv_tableIn (off := 117) (tgt := 128) hx hb dX0_node_11 (by rw [c28]; decide) (by rw [c28]; decide) (by rw [c28]; rfl) (by decide) ?_
      refine lv_aload_n hx hb dX0_node_128 rfl (lv_at hl 0 rfl) ?_
      refine lv_iload_n hx hb dX0_node_129 rfl (lv_at hl 1 rfl) ?_
      obtain ⟨v29, ev29, hf⟩ := ob hf
      refine rd_callV (As := [.int p1]) (rest := []) ⟨hx, hb, hml, hown, hts⟩ (mX0_childrenOf l D k xa ra xi rs p1 _ ev29) (cwV 1 hts (lw_V q574 q576 qs29 q90 q577) rfl rfl rfl ⟨rfl, hdX0_childrenOf⟩ ⟨Nat.le_of_ble_eq_true rfl, Nat.le_of_ble_eq_true rfl⟩) hK hP [0, 1, 2, 3, 4, 5, 6] rfl 0 0 rfl rfl rfl hl.1 rfl (Nat.le_of_ble_eq_true rfl) dX0_node_130 ⟨Nat.le_of_ble_eq_true rfl, Nat.le_of_ble_eq_true rfl⟩ ?_
      obtain ⟨he1, he2⟩ := prod2 hf
      rw [he2] at hP
      exact wr_iret hx hb hr hlk he1 hP hS dX0_node_133
    have hf := oi_f c28 hf
    by_cases c31 : p2 = 9
    · have hf := oi_t c31 hf
      refine lv_tableIn (off := 123) (tgt := 134) hx hb dX0_node_11 (by rw [c31]; decide) (by rw [c31]; decide) (by rw [c31]; rfl) (by decide) ?_
      refine lv_aload_n hx hb dX0_node_134 rfl (lv_at hl 0 rfl) ?_
      refine lv_iload_n hx hb dX0_node_135 rfl (lv_at hl 1 rfl) ?_
      obtain ⟨v32, ev32, hf⟩ := ob hf
      refine rd_callV (As := [.int p1]) (rest := []) ⟨hx, hb, hml, hown, hts⟩ (mX0_sizeOf l D k xa ra xi rs p1 _ ev32) (cwV 1 hts (lw_V q578 q580 qs30 q90 q581) rfl rfl rfl ⟨rfl, hdX0_sizeOf⟩ ⟨Nat.le_of_ble_eq_true rfl, Nat.le_of_ble_eq_true rfl⟩) hK hP [0, 1, 2, 3, 4, 5, 6] rfl 0 0 rfl rfl rfl hl.1 rfl (Nat.le_of_ble_eq_true rfl) dX0_node_136 ⟨Nat.le_of_ble_eq_true rfl, Nat.le_of_ble_eq_true rfl⟩ ?_
      obtain ⟨he1, he2⟩ := prod2 hf
      rw [he2] at hP
      exact wr_iret hx hb hr hlk he1 hP hS dX0_node_139
    have hf := oi_f c31 hf
    by_cases c34 : p2 = 10
    · have hf := oi_t c34 hf
      refine lv_tableIn (off := 129) (tgt := 140) hx hb dX0_node_11 (by rw [c34]; decide) (by rw [c34]; decide) (by rw [c34]; rfl) (by decide) ?_
      refine lv_aload_n hx hb dX0_node_140 rfl (lv_at hl 0 rfl) ?_
      refine lv_iload_n hx hb dX0_node_141 rfl (lv_at hl 1 rfl) ?_
      obtain ⟨v35, ev35, hf⟩ := ob hf
      refine rd_callV (As := [.int p1]) (rest := []) ⟨hx, hb, hml, hown, hts⟩ (mX0_leavesOf l D k xa ra xi rs p1 _ ev35) (cwV 1 hts (lw_V q582 q584 qs31 q90 q585) rfl rfl rfl ⟨rfl, hdX0_leavesOf⟩ ⟨Nat.le_of_ble_eq_true rfl, Nat.le_of_ble_eq_true rfl⟩) hK hP [0, 1, 2, 3, 4, 5, 6] rfl 0 0 rfl rfl rfl hl.1 rfl (Nat.le_of_ble_eq_true rfl) dX0_node_142 ⟨Nat.le_of_ble_eq_true rfl, Nat.le_of_ble_eq_true rfl⟩ ?_
      obtain ⟨he1, he2⟩ := prod2 hf
      rw [he2] at hP
      exact wr_iret hx hb hr hlk he1 hP hS dX0_node_145
    have hf := oi_f c34 hf
    by_cases c37 : p2 = 11
    · have hf := oi_t c37 hf
      refine lv_tableIn (off := 135) (tgt := 146) hx hb dX0_node_11 (by rw [c37]; decide) (by rw [c37]; decide) (by rw [c37]; rfl) (by decide) ?_
      refine lv_aload_n hx hb dX0_node_146 rfl (lv_at hl 0 rfl) ?_
      refine lv_iload_n hx hb dX0_node_147 rfl (lv_at hl 1 rfl) ?_
      obtain ⟨⟨v38, g39⟩, et40, hf⟩ := ob hf
      refine wr_callV (As := [.int p1]) (rest := []) ⟨hx, hb, hml, hown, hts⟩ (mX0_deeperOf l D k xa ra xi rs p1 _ _ _ et40) (cwV 1 hts (lw_V q586 q588 qs32 q90 q589) rfl rfl rfl ⟨rfl, hdX0_deeperOf⟩ ⟨Nat.le_of_ble_eq_true rfl, Nat.le_of_ble_eq_true rfl⟩) hK hP hD hS hA [0, 1, 2, 3, 4, 5, 6] [] (wN k xa ra g39 rs) rfl rfl fm_n 7 rfl (by decide) (by decide) [(xa 0), (ra 0 0), (ra 0 1), (ra 0 2), (ra 0 3), (ra 0 4), (ra 0 5)] rfl rfl 0 0 rfl rfl rfl hl.1 rfl (Nat.le_of_ble_eq_true rfl) dX0_node_148 ⟨Nat.le_of_ble_eq_true rfl, Nat.le_of_ble_eq_true rfl⟩ (fun H locs hP hD hS => ?_)
      obtain ⟨he1, he2⟩ := prod2 hf
      rw [he2] at hP
      exact wr_iret hx hb hr hlk he1 hP hS dX0_node_151
    have hf := oi_f c37 hf
    by_cases c41 : p2 = 12
    · have hf := oi_t c41 hf
      refine lv_tableIn (off := 141) (tgt := 152) hx hb dX0_node_11 (by rw [c41]; decide) (by rw [c41]; decide) (by rw [c41]; rfl) (by decide) ?_
      refine lv_aload_n hx hb dX0_node_152 rfl (lv_at hl 0 rfl) ?_
      refine lv_aload_n hx hb dX0_node_153 rfl (lv_at hl 0 rfl) ?_
      refine lv_iload_n hx hb dX0_node_154 rfl (lv_at hl 1 rfl) ?_
      obtain ⟨v42, ev42, hf⟩ := ob hf
      refine rd_callV (As := [.int p1]) (rest := [.ref (xa 0)]) ⟨hx, hb, hml, hown, hts⟩ (mX0_closeOf l D k xa ra xi rs p1 _ ev42) (cwV 1 hts (lw_V q542 q544 qs21 q90 q545) rfl rfl rfl ⟨rfl, hdX0_closeOf⟩ ⟨Nat.le_of_ble_eq_true rfl, Nat.le_of_ble_eq_true rfl⟩) hK hP [0, 1, 2, 3, 4, 5, 6] rfl 0 0 rfl rfl rfl hl.1 rfl (Nat.le_of_ble_eq_true rfl) dX0_node_155 ⟨Nat.le_of_ble_eq_true rfl, Nat.le_of_ble_eq_true rfl⟩ ?_
      refine lv_iconst (v := 1) hx hb dX0_node_158 (by decide) ?_
      obtain ⟨v44, ev44, hf⟩ := ob hf
      refine rd_callV (As := [.int v42, .int (1 : Int32)]) (rest := []) ⟨hx, hb, hml, hown, hts⟩ (mX0_ranked l D k xa ra xi rs v42 (1 : Int32) _ ev44) (cwV 2 hts (lw_V q425 q427 qs8 q90 q428) rfl rfl rfl ⟨rfl, hdX0_ranked⟩ ⟨Nat.le_of_ble_eq_true rfl, Nat.le_of_ble_eq_true rfl⟩) hK hP [0, 1, 2, 3, 4, 5, 6] rfl 0 0 rfl rfl rfl hl.1 rfl (Nat.le_of_ble_eq_true rfl) dX0_node_159 ⟨Nat.le_of_ble_eq_true rfl, Nat.le_of_ble_eq_true rfl⟩ ?_
      obtain ⟨he1, he2⟩ := prod2 hf
      rw [he2] at hP
      exact wr_iret hx hb hr hlk he1 hP hS dX0_node_162
    have hf := oi_f c41 hf
    by_cases c46 : p2 = 13
    · have hf := oi_t c46 hf
      refine lv_tableIn (off := 152) (tgt := 163) hx hb dX0_node_11 (by rw [c46]; decide) (by rw [c46]; decide) (by rw [c46]; rfl) (by decide) ?_
      refine lv_aload_n hx hb dX0_node_163 rfl (lv_at hl 0 rfl) ?_
      refine lv_iload_n hx hb dX0_node_164 rfl (lv_at hl 1 rfl) ?_
      obtain ⟨v47, ev47, hf⟩ := ob hf
      refine rd_callV (As := [.int p1]) (rest := []) ⟨hx, hb, hml, hown, hts⟩ (mX0_whichOf l D k xa ra xi rs p1 _ ev47) (cwV 1 hts (lw_V q590 q592 qs33 q90 q593) rfl rfl rfl ⟨rfl, hdX0_whichOf⟩ ⟨Nat.le_of_ble_eq_true rfl, Nat.le_of_ble_eq_true rfl⟩) hK hP [0, 1, 2, 3, 4, 5, 6] rfl 0 0 rfl rfl rfl hl.1 rfl (Nat.le_of_ble_eq_true rfl) dX0_node_165 ⟨Nat.le_of_ble_eq_true rfl, Nat.le_of_ble_eq_true rfl⟩ ?_
      obtain ⟨he1, he2⟩ := prod2 hf
      rw [he2] at hP
      exact wr_iret hx hb hr hlk he1 hP hS dX0_node_168
    have hf := oi_f c46 hf
    refine lv_tableOut (tgt := 169) hx hb dX0_node_11 (tb_out14 c4 c7 c10 c13 c16 c19 c22 c25 c28 c31 c34 c37 c41 c46) (by decide) ?_
    refine lv_iconst (v := (-1)) hx hb dX0_node_169 (by decide) ?_
    obtain ⟨he1, he2⟩ := prod2 hf
    rw [he2] at hP
    exact wr_iret hx hb hr hlk he1 hP hS dX0_node_170
  · have hf := oi_t c3 hf
    refine lv_iconst (v := (-1)) hx hb dX0_node_8 (by decide) ?_
    obtain ⟨he1, he2⟩ := prod2 hf
    rw [he2] at hP
    exact wr_iret hx hb hr hlk he1 hP hS dX0_node_9

abbrev rmX0_child : Room := { frames := 8, cells := 0, slots := 0, locals := 183 }
theorem hdX0_child : yX0_child.cls ≠ "java/lang/invoke/MethodHandle" ∧ yX0_child.cls ≠ "java/lang/invoke/VarHandle" ∧ (parseMethodDescriptor yX0_child.desc).map (fun d => d.parameters.length) = some 2 := by decide +kernel
set_option maxHeartbeats 4000000 in
theorem mX0_child (l : Launch) (D : va_G) (k : Nat → ClassId) (xa : Nat → Nat) (ra : Nat → Nat → Nat) (xi : Nat → Int32) (rs : RS) (p1 : Int32) (p2 : Int32) (r : Int32) (hf : fX0_child rs p1 p2 = some r) : CtI l yX0_child cX0_child 3 rmX0_child [.ref (xa 0), .int p1, .int p2] D k (wN k xa ra xi rs) r := by
  refine rd_start (by decide +kernel) (Nat.le_of_ble_eq_true rfl) ?_
  intro p e s m below meth c ls hx hb hr hlk hml hown hts hP hK hl
  have hl : lv_has ls 3 [(0, .ref (xa 0)), (1, .int p1), (2, .int p2)] := hl
  have hown : s.vm.findClass RX0 = some m.cls := hown
  unfold fX0_child at hf
  refine lv_aload_n hx hb dX0_child_0 rfl (lv_at hl 0 rfl) ?_
  refine lv_iload_n hx hb dX0_child_1 rfl (lv_at hl 1 rfl) ?_
  obtain ⟨v1, ev1, hf⟩ := ob hf
  refine rd_callVZ (As := [.int p1]) (rest := []) ⟨hx, hb, hml, hown, hts⟩ (mX0_isNode l D k xa ra xi rs p1 _ ev1) (cwV 1 hts (lw_V q534 q536 qs19 q90 q537) rfl rfl rfl ⟨rfl, hdX0_isNode⟩ ⟨Nat.le_of_ble_eq_true rfl, Nat.le_of_ble_eq_true rfl⟩) hK hP [0, 1, 2, 3, 4, 5, 6] rfl 0 0 rfl rfl rfl hl.1 rfl (Nat.le_of_ble_eq_true rfl) dX0_child_2 ⟨Nat.le_of_ble_eq_true rfl, Nat.le_of_ble_eq_true rfl⟩ (fun zv1 => ?_)
  refine lv_if_eq (tgt := 21) hx hb dX0_child_5 (by decide) (fun c3 => ?_) (fun c3 => ?_)
  · have hf := oi_t c3 hf
    refine lv_iconst (v := (-1)) hx hb dX0_child_21 (by decide) ?_
    exact rd_iret hx hb hr hlk (Option.some.inj hf) dX0_child_22
  · have hf := oi_f c3 hf
    refine lv_iload_n hx hb dX0_child_8 rfl (lv_at hl 2 rfl) ?_
    refine lv_if_lt (tgt := 21) hx hb dX0_child_9 (by decide) (fun c4 => ?_) (fun c4 => ?_)
    · have hf := oi_t c4 hf
      refine lv_iconst (v := (-1)) hx hb dX0_child_21 (by decide) ?_
      exact rd_iret hx hb hr hlk (Option.some.inj hf) dX0_child_22
    · have hf := oi_f c4 hf
      refine lv_aload_n hx hb dX0_child_12 rfl (lv_at hl 0 rfl) ?_
      refine lv_iload_n hx hb dX0_child_13 rfl (lv_at hl 1 rfl) ?_
      refine lv_iload_n hx hb dX0_child_14 rfl (lv_at hl 2 rfl) ?_
      obtain ⟨v5, ev5, hf⟩ := ob hf
      refine rd_callV (As := [.int p1, .int p2]) (rest := []) ⟨hx, hb, hml, hown, hts⟩ (mX0_childOf l D k xa ra xi rs p1 p2 _ ev5) (cwV 2 hts (lw_V q598 q600 qs34 q90 q601) rfl rfl rfl ⟨rfl, hdX0_childOf⟩ ⟨Nat.le_of_ble_eq_true rfl, Nat.le_of_ble_eq_true rfl⟩) hK hP [0, 1, 2, 3, 4, 5, 6] rfl 0 0 rfl rfl rfl hl.1 rfl (Nat.le_of_ble_eq_true rfl) dX0_child_15 ⟨Nat.le_of_ble_eq_true rfl, Nat.le_of_ble_eq_true rfl⟩ ?_
      refine lv_goto (tgt := 22) hx hb dX0_child_18 (by decide) ?_
      exact rd_iret hx hb hr hlk (Option.some.inj hf) dX0_child_22

abbrev rmX0_below : Room := { frames := 5, cells := 0, slots := 0, locals := 116 }
theorem hdX0_below : yX0_below.cls ≠ "java/lang/invoke/MethodHandle" ∧ yX0_below.cls ≠ "java/lang/invoke/VarHandle" ∧ (parseMethodDescriptor yX0_below.desc).map (fun d => d.parameters.length) = some 1 := by decide +kernel
set_option maxHeartbeats 4000000 in
theorem mX0_below (l : Launch) (D : va_G) (k : Nat → ClassId) (xa : Nat → Nat) (ra : Nat → Nat → Nat) (xi : Nat → Int32) (rs : RS) (p1 : Int32) (r : Int32) (hf : fX0_below rs p1 = some r) : CtI l yX0_below cX0_below 2 rmX0_below [.ref (xa 0), .int p1] D k (wN k xa ra xi rs) r := by
  refine rd_start (by decide +kernel) (Nat.le_of_ble_eq_true rfl) ?_
  intro p e s m below meth c ls hx hb hr hlk hml hown hts hP hK hl
  have hl : lv_has ls 2 [(0, .ref (xa 0)), (1, .int p1)] := hl
  have hown : s.vm.findClass RX0 = some m.cls := hown
  unfold fX0_below at hf
  refine lv_aload_n hx hb dX0_below_0 rfl (lv_at hl 0 rfl) ?_
  refine lv_iload_n hx hb dX0_below_1 rfl (lv_at hl 1 rfl) ?_
  obtain ⟨v1, ev1, hf⟩ := ob hf
  refine rd_callVZ (As := [.int p1]) (rest := []) ⟨hx, hb, hml, hown, hts⟩ (mX0_isNode l D k xa ra xi rs p1 _ ev1) (cwV 1 hts (lw_V q534 q536 qs19 q90 q537) rfl rfl rfl ⟨rfl, hdX0_isNode⟩ ⟨Nat.le_of_ble_eq_true rfl, Nat.le_of_ble_eq_true rfl⟩) hK hP [0, 1, 2, 3, 4, 5, 6] rfl 0 0 rfl rfl rfl hl.1 rfl (Nat.le_of_ble_eq_true rfl) dX0_below_2 ⟨Nat.le_of_ble_eq_true rfl, Nat.le_of_ble_eq_true rfl⟩ (fun zv1 => ?_)
  refine lv_if_eq (tgt := 25) hx hb dX0_below_5 (by decide) (fun c3 => ?_) (fun c3 => ?_)
  · have hf := oi_t c3 hf
    refine lv_iconst (v := (-1)) hx hb dX0_below_25 (by decide) ?_
    exact rd_iret hx hb hr hlk (Option.some.inj hf) dX0_below_26
  · have hf := oi_f c3 hf
    refine lv_aload_n hx hb dX0_below_8 rfl (lv_at hl 0 rfl) ?_
    refine lv_aload_n hx hb dX0_below_9 rfl (lv_at hl 0 rfl) ?_
    refine lv_aload_n hx hb dX0_below_10 rfl (lv_at hl 0 rfl) ?_
    refine lv_iload_n hx hb dX0_below_11 rfl (lv_at hl 1 rfl) ?_
    refine lv_iconst (v := 1) hx hb dX0_below_12 (by decide) ?_
    obtain ⟨v4, ev4, hf⟩ := ob hf
    refine rd_callV (As := [.int p1, .int (1 : Int32)]) (rest := [.ref (xa 0), .ref (xa 0)]) ⟨hx, hb, hml, hown, hts⟩ (mX0_selected l D k xa ra xi rs p1 (1 : Int32) _ ev4) (cwV 2 hts (lw_V q474 q476 qs12 q90 q477) rfl rfl rfl ⟨rfl, hdX0_selected⟩ ⟨Nat.le_of_ble_eq_true rfl, Nat.le_of_ble_eq_true rfl⟩) hK hP [0, 1, 2, 3, 4, 5, 6] rfl 0 0 rfl rfl rfl hl.1 rfl (Nat.le_of_ble_eq_true rfl) dX0_below_13 ⟨Nat.le_of_ble_eq_true rfl, Nat.le_of_ble_eq_true rfl⟩ ?_
    obtain ⟨v6, ev6, hf⟩ := ob hf
    refine rd_callV (As := [.int v4]) (rest := [.ref (xa 0)]) ⟨hx, hb, hml, hown, hts⟩ (mX0_partner l D k xa ra xi rs v4 _ ev6) (cwV 1 hts (lw_V q512 q514 qs17 q90 q515) rfl rfl rfl ⟨rfl, hdX0_partner⟩ ⟨Nat.le_of_ble_eq_true rfl, Nat.le_of_ble_eq_true rfl⟩) hK hP [0, 1, 2, 3, 4, 5, 6] rfl 0 0 rfl rfl rfl hl.1 rfl (Nat.le_of_ble_eq_true rfl) dX0_below_16 ⟨Nat.le_of_ble_eq_true rfl, Nat.le_of_ble_eq_true rfl⟩ ?_
    obtain ⟨v8, ev8, hf⟩ := ob hf
    refine rd_callV (As := [.int v6]) (rest := []) ⟨hx, hb, hml, hown, hts⟩ (mX0_nodeAt l D k xa ra xi rs v6 _ ev8) (cwV 1 hts (lw_V q554 q556 qs24 q90 q557) rfl rfl rfl ⟨rfl, hdX0_nodeAt⟩ ⟨Nat.le_of_ble_eq_true rfl, Nat.le_of_ble_eq_true rfl⟩) hK hP [0, 1, 2, 3, 4, 5, 6] rfl 0 0 rfl rfl rfl hl.1 rfl (Nat.le_of_ble_eq_true rfl) dX0_below_19 ⟨Nat.le_of_ble_eq_true rfl, Nat.le_of_ble_eq_true rfl⟩ ?_
    refine lv_goto (tgt := 26) hx hb dX0_below_22 (by decide) ?_
    exact rd_iret hx hb hr hlk (Option.some.inj hf) dX0_below_26

abbrev rmX0_up : Room := { frames := 4, cells := 0, slots := 0, locals := 95 }
theorem hdX0_up : yX0_up.cls ≠ "java/lang/invoke/MethodHandle" ∧ yX0_up.cls ≠ "java/lang/invoke/VarHandle" ∧ (parseMethodDescriptor yX0_up.desc).map (fun d => d.parameters.length) = some 2 := by decide +kernel
set_option maxHeartbeats 4000000 in
theorem mX0_up (l : Launch) (D : va_G) (k : Nat → ClassId) (xa : Nat → Nat) (ra : Nat → Nat → Nat) (xi : Nat → Int32) (rs : RS) (p1 : Int32) (p2 : Int32) (r : Int32) (hf : fX0_up rs p1 p2 = some r) : CtI l yX0_up cX0_up 5 rmX0_up [.ref (xa 0), .int p1, .int p2] D k (wN k xa ra xi rs) r := by
  refine rd_start (by decide +kernel) (Nat.le_of_ble_eq_true rfl) ?_
  intro p e s m below meth c ls hx hb hr hlk hml hown hts hP hK hl
  have hl : lv_has ls 5 [(0, .ref (xa 0)), (1, .int p1), (2, .int p2)] := hl
  have hown : s.vm.findClass RX0 = some m.cls := hown
  unfold fX0_up at hf
  refine lv_aload_n hx hb dX0_up_0 rfl (lv_at hl 0 rfl) ?_
  refine lv_iload_n hx hb dX0_up_1 rfl (lv_at hl 1 rfl) ?_
  obtain ⟨v1, ev1, hf⟩ := ob hf
  refine rd_callVZ (As := [.int p1]) (rest := []) ⟨hx, hb, hml, hown, hts⟩ (mX0_isNode l D k xa ra xi rs p1 _ ev1) (cwV 1 hts (lw_V q534 q536 qs19 q90 q537) rfl rfl rfl ⟨rfl, hdX0_isNode⟩ ⟨Nat.le_of_ble_eq_true rfl, Nat.le_of_ble_eq_true rfl⟩) hK hP [0, 1, 2, 3, 4, 5, 6] rfl 0 0 rfl rfl rfl hl.1 rfl (Nat.le_of_ble_eq_true rfl) dX0_up_2 ⟨Nat.le_of_ble_eq_true rfl, Nat.le_of_ble_eq_true rfl⟩ (fun zv1 => ?_)
  refine lv_if_eq (tgt := 12) hx hb dX0_up_5 (by decide) (fun c3 => ?_) (fun c3 => ?_)
  · have hf := oi_t c3 hf
    refine lv_iconst (v := (-1)) hx hb dX0_up_12 (by decide) ?_
    exact rd_iret hx hb hr hlk (Option.some.inj hf) dX0_up_13
  · have hf := oi_f c3 hf
    refine lv_iload_n hx hb dX0_up_8 rfl (lv_at hl 2 rfl) ?_
    refine lv_if_ge (tgt := 14) hx hb dX0_up_9 (by decide) (fun c4 => ?_) (fun c4 => ?_)
    · have hf := oi_t c4 hf
      refine lv_aload_n hx hb dX0_up_14 rfl (lv_at hl 0 rfl) ?_
      refine lv_iload_n hx hb dX0_up_15 rfl (lv_at hl 1 rfl) ?_
      obtain ⟨v5, ev5, hf⟩ := ob hf
      refine rd_callV (As := [.int p1]) (rest := []) ⟨hx, hb, hml, hown, hts⟩ (mX0_openOf l D k xa ra xi rs p1 _ ev5) (cwV 1 hts (lw_V q538 q540 qs20 q90 q541) rfl rfl rfl ⟨rfl, hdX0_openOf⟩ ⟨Nat.le_of_ble_eq_true rfl, Nat.le_of_ble_eq_true rfl⟩) hK hP [0, 1, 2, 3, 4, 5, 6] rfl 0 0 rfl rfl rfl hl.1 rfl (Nat.le_of_ble_eq_true rfl) dX0_up_16 ⟨Nat.le_of_ble_eq_true rfl, Nat.le_of_ble_eq_true rfl⟩ ?_
      refine lv_istore_n (lv' := [(3, .int v5), (0, .ref (xa 0)), (1, .int p1), (2, .int p2)]) hx hb dX0_up_19 rfl hl (by decide) rfl (fun ls hl => ?_)
      refine lv_aload_n hx hb dX0_up_20 rfl (lv_at hl 1 rfl) ?_
      refine va_get (D := D) (cl := vwCl) (ci := 0) (v := .ref (ra 0 0)) (C := RX0) (T := TX0) (N := 15) hx hb hts in_X0 hown hK.1 hP 0 rfl rfl 0 (by decide) (hts _ q190) (fun _ h9 => h9) rfl dX0_up_21 ?_
      refine lv_iload_n hx hb dX0_up_24 rfl (lv_at hl 0 rfl) ?_
      obtain ⟨v7, ev7, hf⟩ := ob hf
      refine rd_callV (As := [.int v5]) (rest := []) ⟨hx, hb, hml, hown, hts⟩ (mX1_excess l D k (ra 0) rs v5 _ ev7) (cwV 1 hts (lw_V q460 q461 q462 q91 q463) rfl rfl rfl ⟨rfl, hdX1_excess⟩ ⟨Nat.le_of_ble_eq_true rfl, Nat.le_of_ble_eq_true rfl⟩) hK hP [1, 2, 3, 4, 5, 6] rfl 1 1 rfl rfl rfl hl.1 rfl (Nat.le_of_ble_eq_true rfl) dX0_up_25 ⟨Nat.le_of_ble_eq_true rfl, Nat.le_of_ble_eq_true rfl⟩ ?_
      refine lv_istore (lv' := [(4, .int v7), (3, .int v5), (0, .ref (xa 0)), (1, .int p1), (2, .int p2)]) hx hb dX0_up_28 hl (by decide) rfl (fun ls hl => ?_)
      refine lv_iload_n hx hb dX0_up_30 rfl (lv_at hl 4 rfl) ?_
      refine lv_if_ne (tgt := 38) hx hb dX0_up_31 (by decide) (fun c9 => ?_) (fun c9 => ?_)
      · have hf := oi_f c9 hf
        refine lv_iload_n hx hb dX0_up_38 rfl (lv_at hl 4 rfl) ?_
        refine lv_iload hx hb dX0_up_39 (lv_at hl 0 rfl) ?_
        refine lv_icmp_le (tgt := 49) hx hb dX0_up_41 (by decide) (fun c10 => ?_) (fun c10 => ?_)
        · have hf := oi_t c10 hf
          refine lv_aload_n hx hb dX0_up_49 rfl (lv_at hl 2 rfl) ?_
          refine lv_aload_n hx hb dX0_up_50 rfl (lv_at hl 2 rfl) ?_
          refine lv_iload_n hx hb dX0_up_51 rfl (lv_at hl 1 rfl) ?_
          refine lv_iload hx hb dX0_up_52 (lv_at hl 0 rfl) ?_
          refine lv_iload_n hx hb dX0_up_54 rfl (lv_at hl 4 rfl) ?_
          refine lv_isub hx hb dX0_up_55 ?_
          obtain ⟨v11, ev11, hf⟩ := ob hf
          refine rd_callV (As := [.int v5, .int (v7 - p2)]) (rest := [.ref (xa 0)]) ⟨hx, hb, hml, hown, hts⟩ (mX0_searchBack l D k xa ra xi rs v5 (v7 - p2) _ ev11) (cwV 2 hts (lw_V q500 q502 qs15 q90 q503) rfl rfl rfl ⟨rfl, hdX0_searchBack⟩ ⟨Nat.le_of_ble_eq_true rfl, Nat.le_of_ble_eq_true rfl⟩) hK hP [0, 1, 2, 3, 4, 5, 6] rfl 0 0 rfl rfl rfl hl.1 rfl (Nat.le_of_ble_eq_true rfl) dX0_up_56 ⟨Nat.le_of_ble_eq_true rfl, Nat.le_of_ble_eq_true rfl⟩ ?_
          obtain ⟨v13, ev13, hf⟩ := ob hf
          refine rd_callV (As := [.int v11]) (rest := []) ⟨hx, hb, hml, hown, hts⟩ (mX0_nodeAt l D k xa ra xi rs v11 _ ev13) (cwV 1 hts (lw_V q554 q556 qs24 q90 q557) rfl rfl rfl ⟨rfl, hdX0_nodeAt⟩ ⟨Nat.le_of_ble_eq_true rfl, Nat.le_of_ble_eq_true rfl⟩) hK hP [0, 1, 2, 3, 4, 5, 6] rfl 0 0 rfl rfl rfl hl.1 rfl (Nat.le_of_ble_eq_true rfl) dX0_up_59 ⟨Nat.le_of_ble_eq_true rfl, Nat.le_of_ble_eq_true rfl⟩ ?_
          exact rd_iret hx hb hr hlk (Option.some.inj hf) dX0_up_62
        · have hf := oi_f c10 hf
          refine lv_bipush (v := (-4)) hx hb dX0_up_44 (by decide) ?_
          refine lv_goto (tgt := 62) hx hb dX0_up_46 (by decide) ?_
          exact rd_iret hx hb hr hlk (Option.some.inj hf) dX0_up_62
      · have hf := oi_t c9 hf
        refine lv_iload_n hx hb dX0_up_34 rfl (lv_at hl 3 rfl) ?_
        refine lv_goto (tgt := 62) hx hb dX0_up_35 (by decide) ?_
        exact rd_iret hx hb hr hlk (Option.some.inj hf) dX0_up_62
    · have hf := oi_f c4 hf
      refine lv_iconst (v := (-1)) hx hb dX0_up_12 (by decide) ?_
      exact rd_iret hx hb hr hlk (Option.some.inj hf) dX0_up_13

abbrev rmX0_isAbove : Room := { frames := 6, cells := 0, slots := 0, locals := 137 }
theorem hdX0_isAbove : yX0_isAbove.cls ≠ "java/lang/invoke/MethodHandle" ∧ yX0_isAbove.cls ≠ "java/lang/invoke/VarHandle" ∧ (parseMethodDescriptor yX0_isAbove.desc).map (fun d => d.parameters.length) = some 2 := by decide +kernel
set_option maxHeartbeats 4000000 in
theorem mX0_isAbove (l : Launch) (D : va_G) (k : Nat → ClassId) (xa : Nat → Nat) (ra : Nat → Nat → Nat) (xi : Nat → Int32) (rs : RS) (p1 : Int32) (p2 : Int32) (r : Int32) (hf : fX0_isAbove rs p1 p2 = some r) : CtZ l yX0_isAbove cX0_isAbove 4 rmX0_isAbove [.ref (xa 0), .int p1, .int p2] D k (wN k xa ra xi rs) r := by
  refine rd_start (by decide +kernel) (Nat.le_of_ble_eq_true rfl) ?_
  intro p e s m below meth c ls hx hb hr hlk hml hown hts hP hK hl
  have hl : lv_has ls 4 [(0, .ref (xa 0)), (1, .int p1), (2, .int p2)] := hl
  have hown : s.vm.findClass RX0 = some m.cls := hown
  unfold fX0_isAbove at hf
  refine lv_aload_n hx hb dX0_isAbove_0 rfl (lv_at hl 0 rfl) ?_
  refine lv_iload_n hx hb dX0_isAbove_1 rfl (lv_at hl 2 rfl) ?_
  obtain ⟨v1, ev1, hf⟩ := ob hf
  refine rd_callV (As := [.int p2]) (rest := []) ⟨hx, hb, hml, hown, hts⟩ (mX0_openOf l D k xa ra xi rs p2 _ ev1) (cwV 1 hts (lw_V q538 q540 qs20 q90 q541) rfl rfl rfl ⟨rfl, hdX0_openOf⟩ ⟨Nat.le_of_ble_eq_true rfl, Nat.le_of_ble_eq_true rfl⟩) hK hP [0, 1, 2, 3, 4, 5, 6] rfl 0 0 rfl rfl rfl hl.1 rfl (Nat.le_of_ble_eq_true rfl) dX0_isAbove_2 ⟨Nat.le_of_ble_eq_true rfl, Nat.le_of_ble_eq_true rfl⟩ ?_
  refine lv_istore_n (lv' := [(3, .int v1), (0, .ref (xa 0)), (1, .int p1), (2, .int p2)]) hx hb dX0_isAbove_5 rfl hl (by decide) rfl (fun ls hl => ?_)
  refine lv_aload_n hx hb dX0_isAbove_6 rfl (lv_at hl 1 rfl) ?_
  refine lv_iload_n hx hb dX0_isAbove_7 rfl (lv_at hl 2 rfl) ?_
  obtain ⟨v3, ev3, hf⟩ := ob hf
  refine rd_callV (As := [.int p1]) (rest := []) ⟨hx, hb, hml, hown, hts⟩ (mX0_openOf l D k xa ra xi rs p1 _ ev3) (cwV 1 hts (lw_V q538 q540 qs20 q90 q541) rfl rfl rfl ⟨rfl, hdX0_openOf⟩ ⟨Nat.le_of_ble_eq_true rfl, Nat.le_of_ble_eq_true rfl⟩) hK hP [0, 1, 2, 3, 4, 5, 6] rfl 0 0 rfl rfl rfl hl.1 rfl (Nat.le_of_ble_eq_true rfl) dX0_isAbove_8 ⟨Nat.le_of_ble_eq_true rfl, Nat.le_of_ble_eq_true rfl⟩ ?_
  refine lv_iload_n hx hb dX0_isAbove_11 rfl (lv_at hl 0 rfl) ?_
  refine lv_icmp_gt (tgt := 28) hx hb dX0_isAbove_12 (by decide) (fun c5 => ?_) (fun c5 => ?_)
  · have hf := oi_t c5 hf
    refine lv_iconst (v := 0) hx hb dX0_isAbove_28 (by decide) ?_
    exact rd_zret hx hb hr hlk (Or.inl rfl) (Option.some.inj hf) dX0_isAbove_29
  · have hf := oi_f c5 hf
    refine lv_iload_n hx hb dX0_isAbove_15 rfl (lv_at hl 0 rfl) ?_
    refine lv_aload_n hx hb dX0_isAbove_16 rfl (lv_at hl 1 rfl) ?_
    refine lv_iload_n hx hb dX0_isAbove_17 rfl (lv_at hl 2 rfl) ?_
    obtain ⟨v6, ev6, hf⟩ := ob hf
    refine rd_callV (As := [.int p1]) (rest := [.int v1]) ⟨hx, hb, hml, hown, hts⟩ (mX0_closeOf l D k xa ra xi rs p1 _ ev6) (cwV 1 hts (lw_V q542 q544 qs21 q90 q545) rfl rfl rfl ⟨rfl, hdX0_closeOf⟩ ⟨Nat.le_of_ble_eq_true rfl, Nat.le_of_ble_eq_true rfl⟩) hK hP [0, 1, 2, 3, 4, 5, 6] rfl 0 0 rfl rfl rfl hl.1 rfl (Nat.le_of_ble_eq_true rfl) dX0_isAbove_18 ⟨Nat.le_of_ble_eq_true rfl, Nat.le_of_ble_eq_true rfl⟩ ?_
    refine lv_icmp_gt (tgt := 28) hx hb dX0_isAbove_21 (by decide) (fun c8 => ?_) (fun c8 => ?_)
    · have hf := oi_t c8 hf
      refine lv_iconst (v := 0) hx hb dX0_isAbove_28 (by decide) ?_
      exact rd_zret hx hb hr hlk (Or.inl rfl) (Option.some.inj hf) dX0_isAbove_29
    · have hf := oi_f c8 hf
      refine lv_iconst (v := 1) hx hb dX0_isAbove_24 (by decide) ?_
      refine lv_goto (tgt := 29) hx hb dX0_isAbove_25 (by decide) ?_
      exact rd_zret hx hb hr hlk (Or.inr rfl) (Option.some.inj hf) dX0_isAbove_29

abbrev rmX0_metOf : Room := { frames := 7, cells := 0, slots := 0, locals := 160 }
theorem hdX0_metOf : yX0_metOf.cls ≠ "java/lang/invoke/MethodHandle" ∧ yX0_metOf.cls ≠ "java/lang/invoke/VarHandle" ∧ (parseMethodDescriptor yX0_metOf.desc).map (fun d => d.parameters.length) = some 2 := by decide +kernel
abbrev qcX0_metOf (D : va_G) (k : Nat → ClassId) (xa : Nat → Nat) (ra : Nat → Nat → Nat) (xi : Nat → Int32) (rs : RS) (r : Int32) (A : Nat → Prop) : Array Value → State → Outcome → State → Prop := va_Qi (fun x (_ : Unit) => x = r) (fun _ t => va_P D vwCl (wN k xa ra xi rs) t.heap) A
set_option maxHeartbeats 4000000 in
theorem mX0_metOf (l : Launch) (D : va_G) (k : Nat → ClassId) (xa : Nat → Nat) (ra : Nat → Nat → Nat) (xi : Nat → Int32) (rs : RS) (p1 : Int32) (p2 : Int32) (sz : Nat) (r : Int32) (xi_o : Nat → Int32) (hf : fX0_metOf xi rs p1 p2 = some (r, xi_o)) : Met l yX0_metOf (ws_ yX0_metOf cX0_metOf 6 (some .int)) rmX0_metOf (wrP D k (wN k xa ra xi rs) sz [.ref (xa 0), .int p1, .int p2]) (qcX0_metOf D k xa ra xi_o rs r (va_A (wN k xa ra xi rs) sz)) 0 0 (va_A (wN k xa ra xi rs) sz) := by
  refine wr_start (Qc := fun A => qcX0_metOf D k xa ra xi_o rs r A) (by decide +kernel) (Nat.le_of_ble_eq_true rfl) ?_
  intro p e s m below meth c ls A hA hx hb hr hlk hml hown hts hP hK hD hl
  have hl : lv_has ls 6 [(0, .ref (xa 0)), (1, .int p1), (2, .int p2)] := hl
  have hown : s.vm.findClass RX0 = some m.cls := hown
  have hS : va_S A s.heap s.heap [] := va_S.rf
  suffices hw : ∀ (H : Heap) (locs : List Loc), va_P D vwCl (wN k xa ra xi rs) H → va_S A s.heap H locs → gW p l e rmX0_metOf s m [.ref (xa 0), .int p1, .int p2] below meth c (qcX0_metOf D k xa ra xi_o rs r A) A 0 0 H locs 0 ls [] from hw s.heap [] hP hS
  clear hP hS
  intro H locs hP hS
  unfold fX0_metOf at hf
  refine lv_iload_n hx hb dX0_metOf_0 rfl (lv_at hl 1 rfl) ?_
  refine lv_iload_n hx hb dX0_metOf_1 rfl (lv_at hl 2 rfl) ?_
  refine x_mmin hx hb (hml.trans hl.1.symm) hown (hts _ q490) (hts _ q177) (hts _ q93) (hts _ q178) (Nat.le_of_ble_eq_true rfl) (Nat.le_of_ble_eq_true rfl) (Nat.le_of_ble_eq_true rfl) (Nat.le_of_ble_eq_true rfl) dX0_metOf_2 ?_
  obtain ⟨y1, ey1, hf⟩ := ob hf
  refine x_asI ey1 ?_
  refine lv_istore_n (lv' := [(3, .int y1), (0, .ref (xa 0)), (1, .int p1), (2, .int p2)]) hx hb dX0_metOf_5 rfl hl (by decide) rfl (fun ls hl => ?_)
  refine lv_iload_n hx hb dX0_metOf_6 rfl (lv_at hl 2 rfl) ?_
  refine lv_iload_n hx hb dX0_metOf_7 rfl (lv_at hl 3 rfl) ?_
  refine x_mmax hx hb (hml.trans hl.1.symm) hown (hts _ q525) (hts _ q188) (hts _ q93) (hts _ q189) (Nat.le_of_ble_eq_true rfl) (Nat.le_of_ble_eq_true rfl) (Nat.le_of_ble_eq_true rfl) (Nat.le_of_ble_eq_true rfl) dX0_metOf_8 ?_
  obtain ⟨y2, ey2, hf⟩ := ob hf
  refine x_asI ey2 ?_
  refine lv_istore (lv' := [(4, .int y2), (3, .int y1), (0, .ref (xa 0)), (1, .int p1), (2, .int p2)]) hx hb dX0_metOf_11 hl (by decide) rfl (fun ls hl => ?_)
  refine lv_aload_n hx hb dX0_metOf_13 rfl (lv_at hl 2 rfl) ?_
  refine lv_iload_n hx hb dX0_metOf_14 rfl (lv_at hl 1 rfl) ?_
  refine lv_iload hx hb dX0_metOf_15 (lv_at hl 0 rfl) ?_
  obtain ⟨v3, ev3, hf⟩ := ob hf
  refine rd_callVZ (As := [.int y1, .int y2]) (rest := []) ⟨hx, hb, hml, hown, hts⟩ (mX0_isAbove l D k xa ra xi rs y1 y2 _ ev3) (cwV 2 hts (lw_V q618 q620 qs36 q90 q621) rfl rfl rfl ⟨rfl, hdX0_isAbove⟩ ⟨Nat.le_of_ble_eq_true rfl, Nat.le_of_ble_eq_true rfl⟩) hK hP [0, 1, 2, 3, 4, 5, 6] rfl 0 0 rfl rfl rfl hl.1 rfl (Nat.le_of_ble_eq_true rfl) dX0_metOf_17 ⟨Nat.le_of_ble_eq_true rfl, Nat.le_of_ble_eq_true rfl⟩ (fun zv3 => ?_)
  refine lv_if_eq (tgt := 25) hx hb dX0_metOf_20 (by decide) (fun c5 => ?_) (fun c5 => ?_)
  · have hf := oi_t c5 hf
    refine lv_aload_n hx hb dX0_metOf_25 rfl (lv_at hl 2 rfl) ?_
    refine lv_iload_n hx hb dX0_metOf_26 rfl (lv_at hl 1 rfl) ?_
    obtain ⟨v6, ev6, hf⟩ := ob hf
    refine rd_callV (As := [.int y1]) (rest := []) ⟨hx, hb, hml, hown, hts⟩ (mX0_openOf l D k xa ra xi rs y1 _ ev6) (cwV 1 hts (lw_V q538 q540 qs20 q90 q541) rfl rfl rfl ⟨rfl, hdX0_openOf⟩ ⟨Nat.le_of_ble_eq_true rfl, Nat.le_of_ble_eq_true rfl⟩) hK hP [0, 1, 2, 3, 4, 5, 6] rfl 0 0 rfl rfl rfl hl.1 rfl (Nat.le_of_ble_eq_true rfl) dX0_metOf_27 ⟨Nat.le_of_ble_eq_true rfl, Nat.le_of_ble_eq_true rfl⟩ ?_
    refine lv_istore (lv' := [(5, .int v6), (4, .int y2), (3, .int y1), (0, .ref (xa 0)), (1, .int p1), (2, .int p2)]) hx hb dX0_metOf_30 hl (by decide) rfl (fun ls hl => ?_)
    refine lv_aload_n hx hb dX0_metOf_32 rfl (lv_at hl 3 rfl) ?_
    refine lv_iload hx hb dX0_metOf_33 (lv_at hl 0 rfl) ?_
    refine lv_aload_n hx hb dX0_metOf_35 rfl (lv_at hl 3 rfl) ?_
    refine lv_iload hx hb dX0_metOf_36 (lv_at hl 1 rfl) ?_
    obtain ⟨v8, ev8, hf⟩ := ob hf
    refine rd_callV (As := [.int y2]) (rest := [.int v6, .ref (xa 0)]) ⟨hx, hb, hml, hown, hts⟩ (mX0_openOf l D k xa ra xi rs y2 _ ev8) (cwV 1 hts (lw_V q538 q540 qs20 q90 q541) rfl rfl rfl ⟨rfl, hdX0_openOf⟩ ⟨Nat.le_of_ble_eq_true rfl, Nat.le_of_ble_eq_true rfl⟩) hK hP [0, 1, 2, 3, 4, 5, 6] rfl 0 0 rfl rfl rfl hl.1 rfl (Nat.le_of_ble_eq_true rfl) dX0_metOf_38 ⟨Nat.le_of_ble_eq_true rfl, Nat.le_of_ble_eq_true rfl⟩ ?_
    obtain ⟨g10, et11, hf⟩ := ob hf
    refine wr_callVv (As := [.int v6, .int v8]) (rest := []) ⟨hx, hb, hml, hown, hts⟩ (mX0_findLeast l D k xa ra xi rs v6 v8 _ _ et11) (cwV 2 hts (lw_V q521 q523 qs18 q90 q524) rfl rfl rfl ⟨rfl, hdX0_findLeast⟩ ⟨Nat.le_of_ble_eq_true rfl, Nat.le_of_ble_eq_true rfl⟩) hK hP hD hS hA [0, 1, 2, 3, 4, 5, 6] [] (wN k xa ra g10 rs) rfl rfl fm_n 7 rfl (by decide) (by decide) [(xa 0), (ra 0 0), (ra 0 1), (ra 0 2), (ra 0 3), (ra 0 4), (ra 0 5)] rfl rfl 0 0 rfl rfl rfl hl.1 rfl (Nat.le_of_ble_eq_true rfl) dX0_metOf_41 ⟨Nat.le_of_ble_eq_true rfl, Nat.le_of_ble_eq_true rfl⟩ (fun H locs hP hD hS => ?_)
    refine lv_aload_n hx hb dX0_metOf_44 rfl (lv_at hl 3 rfl) ?_
    refine lv_aload_n hx hb dX0_metOf_45 rfl (lv_at hl 3 rfl) ?_
    refine lv_iload hx hb dX0_metOf_46 (lv_at hl 0 rfl) ?_
    refine lv_aload_n hx hb dX0_metOf_48 rfl (lv_at hl 3 rfl) ?_
    refine va_get (D := D) (cl := vwCl) (ci := 0) (v := .int (g10 1)) (C := RX0) (T := TX0) (N := 15) hx hb hts in_X0 hown hK.1 hP 0 rfl rfl 3 (by decide) (hts _ q193) (fun _ h9 => h9) rfl dX0_metOf_49 ?_
    refine lv_iconst (v := 1) hx hb dX0_metOf_52 (by decide) ?_
    refine lv_isub hx hb dX0_metOf_53 ?_
    obtain ⟨v12, ev12, hf⟩ := ob hf
    refine rd_callV (As := [.int v6, .int ((g10 1) - (1 : Int32))]) (rest := [.ref (xa 0)]) ⟨hx, hb, hml, hown, hts⟩ (mX0_searchBack l D k xa ra g10 rs v6 ((g10 1) - (1 : Int32)) _ ev12) (cwV 2 hts (lw_V q500 q502 qs15 q90 q503) rfl rfl rfl ⟨rfl, hdX0_searchBack⟩ ⟨Nat.le_of_ble_eq_true rfl, Nat.le_of_ble_eq_true rfl⟩) hK hP [0, 1, 2, 3, 4, 5, 6] rfl 0 0 rfl rfl rfl hl.1 rfl (Nat.le_of_ble_eq_true rfl) dX0_metOf_54 ⟨Nat.le_of_ble_eq_true rfl, Nat.le_of_ble_eq_true rfl⟩ ?_
    obtain ⟨v14, ev14, hf⟩ := ob hf
    refine rd_callV (As := [.int v12]) (rest := []) ⟨hx, hb, hml, hown, hts⟩ (mX0_nodeAt l D k xa ra g10 rs v12 _ ev14) (cwV 1 hts (lw_V q554 q556 qs24 q90 q557) rfl rfl rfl ⟨rfl, hdX0_nodeAt⟩ ⟨Nat.le_of_ble_eq_true rfl, Nat.le_of_ble_eq_true rfl⟩) hK hP [0, 1, 2, 3, 4, 5, 6] rfl 0 0 rfl rfl rfl hl.1 rfl (Nat.le_of_ble_eq_true rfl) dX0_metOf_57 ⟨Nat.le_of_ble_eq_true rfl, Nat.le_of_ble_eq_true rfl⟩ ?_
    obtain ⟨he1, he2⟩ := prod2 hf
    rw [he2] at hP
    exact wr_iret hx hb hr hlk he1 hP hS dX0_metOf_60
  · have hf := oi_f c5 hf
    refine lv_iload_n hx hb dX0_metOf_23 rfl (lv_at hl 1 rfl) ?_
    obtain ⟨he1, he2⟩ := prod2 hf
    rw [he2] at hP
    exact wr_iret hx hb hr hlk he1 hP hS dX0_metOf_24

abbrev rmX0_meet : Room := { frames := 8, cells := 0, slots := 0, locals := 185 }
theorem hdX0_meet : yX0_meet.cls ≠ "java/lang/invoke/MethodHandle" ∧ yX0_meet.cls ≠ "java/lang/invoke/VarHandle" ∧ (parseMethodDescriptor yX0_meet.desc).map (fun d => d.parameters.length) = some 2 := by decide +kernel
abbrev qcX0_meet (D : va_G) (k : Nat → ClassId) (xa : Nat → Nat) (ra : Nat → Nat → Nat) (xi : Nat → Int32) (rs : RS) (r : Int32) (A : Nat → Prop) : Array Value → State → Outcome → State → Prop := va_Qi (fun x (_ : Unit) => x = r) (fun _ t => va_P D vwCl (wN k xa ra xi rs) t.heap) A
set_option maxHeartbeats 4000000 in
theorem mX0_meet (l : Launch) (D : va_G) (k : Nat → ClassId) (xa : Nat → Nat) (ra : Nat → Nat → Nat) (xi : Nat → Int32) (rs : RS) (p1 : Int32) (p2 : Int32) (sz : Nat) (r : Int32) (xi_o : Nat → Int32) (hf : fX0_meet xi rs p1 p2 = some (r, xi_o)) : Met l yX0_meet (ws_ yX0_meet cX0_meet 3 (some .int)) rmX0_meet (wrP D k (wN k xa ra xi rs) sz [.ref (xa 0), .int p1, .int p2]) (qcX0_meet D k xa ra xi_o rs r (va_A (wN k xa ra xi rs) sz)) 0 0 (va_A (wN k xa ra xi rs) sz) := by
  refine wr_start (Qc := fun A => qcX0_meet D k xa ra xi_o rs r A) (by decide +kernel) (Nat.le_of_ble_eq_true rfl) ?_
  intro p e s m below meth c ls A hA hx hb hr hlk hml hown hts hP hK hD hl
  have hl : lv_has ls 3 [(0, .ref (xa 0)), (1, .int p1), (2, .int p2)] := hl
  have hown : s.vm.findClass RX0 = some m.cls := hown
  have hS : va_S A s.heap s.heap [] := va_S.rf
  suffices hw : ∀ (H : Heap) (locs : List Loc), va_P D vwCl (wN k xa ra xi rs) H → va_S A s.heap H locs → gW p l e rmX0_meet s m [.ref (xa 0), .int p1, .int p2] below meth c (qcX0_meet D k xa ra xi_o rs r A) A 0 0 H locs 0 ls [] from hw s.heap [] hP hS
  clear hP hS
  intro H locs hP hS
  unfold fX0_meet at hf
  refine lv_aload_n hx hb dX0_meet_0 rfl (lv_at hl 0 rfl) ?_
  refine lv_iload_n hx hb dX0_meet_1 rfl (lv_at hl 1 rfl) ?_
  obtain ⟨v1, ev1, hf⟩ := ob hf
  refine rd_callVZ (As := [.int p1]) (rest := []) ⟨hx, hb, hml, hown, hts⟩ (mX0_isNode l D k xa ra xi rs p1 _ ev1) (cwV 1 hts (lw_V q534 q536 qs19 q90 q537) rfl rfl rfl ⟨rfl, hdX0_isNode⟩ ⟨Nat.le_of_ble_eq_true rfl, Nat.le_of_ble_eq_true rfl⟩) hK hP [0, 1, 2, 3, 4, 5, 6] rfl 0 0 rfl rfl rfl hl.1 rfl (Nat.le_of_ble_eq_true rfl) dX0_meet_2 ⟨Nat.le_of_ble_eq_true rfl, Nat.le_of_ble_eq_true rfl⟩ (fun zv1 => ?_)
  refine lv_if_eq (tgt := 25) hx hb dX0_meet_5 (by decide) (fun c3 => ?_) (fun c3 => ?_)
  · have hf := oi_t c3 hf
    refine lv_iconst (v := (-1)) hx hb dX0_meet_25 (by decide) ?_
    obtain ⟨he1, he2⟩ := prod2 hf
    rw [he2] at hP
    exact wr_iret hx hb hr hlk he1 hP hS dX0_meet_26
  · have hf := oi_f c3 hf
    refine lv_aload_n hx hb dX0_meet_8 rfl (lv_at hl 0 rfl) ?_
    refine lv_iload_n hx hb dX0_meet_9 rfl (lv_at hl 2 rfl) ?_
    obtain ⟨v4, ev4, hf⟩ := ob hf
    refine rd_callVZ (As := [.int p2]) (rest := []) ⟨hx, hb, hml, hown, hts⟩ (mX0_isNode l D k xa ra xi rs p2 _ ev4) (cwV 1 hts (lw_V q534 q536 qs19 q90 q537) rfl rfl rfl ⟨rfl, hdX0_isNode⟩ ⟨Nat.le_of_ble_eq_true rfl, Nat.le_of_ble_eq_true rfl⟩) hK hP [0, 1, 2, 3, 4, 5, 6] rfl 0 0 rfl rfl rfl hl.1 rfl (Nat.le_of_ble_eq_true rfl) dX0_meet_10 ⟨Nat.le_of_ble_eq_true rfl, Nat.le_of_ble_eq_true rfl⟩ (fun zv4 => ?_)
    refine lv_if_eq (tgt := 25) hx hb dX0_meet_13 (by decide) (fun c6 => ?_) (fun c6 => ?_)
    · have hf := oi_t c6 hf
      refine lv_iconst (v := (-1)) hx hb dX0_meet_25 (by decide) ?_
      obtain ⟨he1, he2⟩ := prod2 hf
      rw [he2] at hP
      exact wr_iret hx hb hr hlk he1 hP hS dX0_meet_26
    · have hf := oi_f c6 hf
      refine lv_aload_n hx hb dX0_meet_16 rfl (lv_at hl 0 rfl) ?_
      refine lv_iload_n hx hb dX0_meet_17 rfl (lv_at hl 1 rfl) ?_
      refine lv_iload_n hx hb dX0_meet_18 rfl (lv_at hl 2 rfl) ?_
      obtain ⟨⟨v7, g8⟩, et9, hf⟩ := ob hf
      refine wr_callV (As := [.int p1, .int p2]) (rest := []) ⟨hx, hb, hml, hown, hts⟩ (mX0_metOf l D k xa ra xi rs p1 p2 _ _ _ et9) (cwV 2 hts (lw_V q614 q616 qs35 q90 q617) rfl rfl rfl ⟨rfl, hdX0_metOf⟩ ⟨Nat.le_of_ble_eq_true rfl, Nat.le_of_ble_eq_true rfl⟩) hK hP hD hS hA [0, 1, 2, 3, 4, 5, 6] [] (wN k xa ra g8 rs) rfl rfl fm_n 7 rfl (by decide) (by decide) [(xa 0), (ra 0 0), (ra 0 1), (ra 0 2), (ra 0 3), (ra 0 4), (ra 0 5)] rfl rfl 0 0 rfl rfl rfl hl.1 rfl (Nat.le_of_ble_eq_true rfl) dX0_meet_19 ⟨Nat.le_of_ble_eq_true rfl, Nat.le_of_ble_eq_true rfl⟩ (fun H locs hP hD hS => ?_)
      refine lv_goto (tgt := 26) hx hb dX0_meet_22 (by decide) ?_
      obtain ⟨he1, he2⟩ := prod2 hf
      rw [he2] at hP
      exact wr_iret hx hb hr hlk he1 hP hS dX0_meet_26

abbrev rmX0_way : Room := { frames := 8, cells := 0, slots := 0, locals := 185 }
theorem hdX0_way : yX0_way.cls ≠ "java/lang/invoke/MethodHandle" ∧ yX0_way.cls ≠ "java/lang/invoke/VarHandle" ∧ (parseMethodDescriptor yX0_way.desc).map (fun d => d.parameters.length) = some 2 := by decide +kernel
abbrev qcX0_way (D : va_G) (k : Nat → ClassId) (xa : Nat → Nat) (ra : Nat → Nat → Nat) (xi : Nat → Int32) (rs : RS) (r : Int32) (A : Nat → Prop) : Array Value → State → Outcome → State → Prop := va_Qi (fun x (_ : Unit) => x = r) (fun _ t => va_P D vwCl (wN k xa ra xi rs) t.heap) A
set_option maxHeartbeats 4000000 in
theorem mX0_way (l : Launch) (D : va_G) (k : Nat → ClassId) (xa : Nat → Nat) (ra : Nat → Nat → Nat) (xi : Nat → Int32) (rs : RS) (p1 : Int32) (p2 : Int32) (sz : Nat) (r : Int32) (xi_o : Nat → Int32) (hf : fX0_way xi rs p1 p2 = some (r, xi_o)) : Met l yX0_way (ws_ yX0_way cX0_way 3 (some .int)) rmX0_way (wrP D k (wN k xa ra xi rs) sz [.ref (xa 0), .int p1, .int p2]) (qcX0_way D k xa ra xi_o rs r (va_A (wN k xa ra xi rs) sz)) 0 0 (va_A (wN k xa ra xi rs) sz) := by
  refine wr_start (Qc := fun A => qcX0_way D k xa ra xi_o rs r A) (by decide +kernel) (Nat.le_of_ble_eq_true rfl) ?_
  intro p e s m below meth c ls A hA hx hb hr hlk hml hown hts hP hK hD hl
  have hl : lv_has ls 3 [(0, .ref (xa 0)), (1, .int p1), (2, .int p2)] := hl
  have hown : s.vm.findClass RX0 = some m.cls := hown
  have hS : va_S A s.heap s.heap [] := va_S.rf
  suffices hw : ∀ (H : Heap) (locs : List Loc), va_P D vwCl (wN k xa ra xi rs) H → va_S A s.heap H locs → gW p l e rmX0_way s m [.ref (xa 0), .int p1, .int p2] below meth c (qcX0_way D k xa ra xi_o rs r A) A 0 0 H locs 0 ls [] from hw s.heap [] hP hS
  clear hP hS
  intro H locs hP hS
  unfold fX0_way at hf
  refine lv_aload_n hx hb dX0_way_0 rfl (lv_at hl 0 rfl) ?_
  refine lv_iload_n hx hb dX0_way_1 rfl (lv_at hl 1 rfl) ?_
  obtain ⟨v1, ev1, hf⟩ := ob hf
  refine rd_callVZ (As := [.int p1]) (rest := []) ⟨hx, hb, hml, hown, hts⟩ (mX0_isNode l D k xa ra xi rs p1 _ ev1) (cwV 1 hts (lw_V q534 q536 qs19 q90 q537) rfl rfl rfl ⟨rfl, hdX0_isNode⟩ ⟨Nat.le_of_ble_eq_true rfl, Nat.le_of_ble_eq_true rfl⟩) hK hP [0, 1, 2, 3, 4, 5, 6] rfl 0 0 rfl rfl rfl hl.1 rfl (Nat.le_of_ble_eq_true rfl) dX0_way_2 ⟨Nat.le_of_ble_eq_true rfl, Nat.le_of_ble_eq_true rfl⟩ (fun zv1 => ?_)
  refine lv_if_eq (tgt := 43) hx hb dX0_way_5 (by decide) (fun c3 => ?_) (fun c3 => ?_)
  · have hf := oi_t c3 hf
    refine lv_iconst (v := (-1)) hx hb dX0_way_43 (by decide) ?_
    obtain ⟨he1, he2⟩ := prod2 hf
    rw [he2] at hP
    exact wr_iret hx hb hr hlk he1 hP hS dX0_way_44
  · have hf := oi_f c3 hf
    refine lv_aload_n hx hb dX0_way_8 rfl (lv_at hl 0 rfl) ?_
    refine lv_iload_n hx hb dX0_way_9 rfl (lv_at hl 2 rfl) ?_
    obtain ⟨v4, ev4, hf⟩ := ob hf
    refine rd_callVZ (As := [.int p2]) (rest := []) ⟨hx, hb, hml, hown, hts⟩ (mX0_isNode l D k xa ra xi rs p2 _ ev4) (cwV 1 hts (lw_V q534 q536 qs19 q90 q537) rfl rfl rfl ⟨rfl, hdX0_isNode⟩ ⟨Nat.le_of_ble_eq_true rfl, Nat.le_of_ble_eq_true rfl⟩) hK hP [0, 1, 2, 3, 4, 5, 6] rfl 0 0 rfl rfl rfl hl.1 rfl (Nat.le_of_ble_eq_true rfl) dX0_way_10 ⟨Nat.le_of_ble_eq_true rfl, Nat.le_of_ble_eq_true rfl⟩ (fun zv4 => ?_)
    refine lv_if_eq (tgt := 43) hx hb dX0_way_13 (by decide) (fun c6 => ?_) (fun c6 => ?_)
    · have hf := oi_t c6 hf
      refine lv_iconst (v := (-1)) hx hb dX0_way_43 (by decide) ?_
      obtain ⟨he1, he2⟩ := prod2 hf
      rw [he2] at hP
      exact wr_iret hx hb hr hlk he1 hP hS dX0_way_44
    · have hf := oi_f c6 hf
      refine lv_aload_n hx hb dX0_way_16 rfl (lv_at hl 0 rfl) ?_
      refine lv_iload_n hx hb dX0_way_17 rfl (lv_at hl 1 rfl) ?_
      obtain ⟨v7, ev7, hf⟩ := ob hf
      refine rd_callV (As := [.int p1]) (rest := []) ⟨hx, hb, hml, hown, hts⟩ (mX0_depthOf l D k xa ra xi rs p1 _ ev7) (cwV 1 hts (lw_V q546 q548 qs22 q90 q549) rfl rfl rfl ⟨rfl, hdX0_depthOf⟩ ⟨Nat.le_of_ble_eq_true rfl, Nat.le_of_ble_eq_true rfl⟩) hK hP [0, 1, 2, 3, 4, 5, 6] rfl 0 0 rfl rfl rfl hl.1 rfl (Nat.le_of_ble_eq_true rfl) dX0_way_18 ⟨Nat.le_of_ble_eq_true rfl, Nat.le_of_ble_eq_true rfl⟩ ?_
      refine lv_aload_n hx hb dX0_way_21 rfl (lv_at hl 0 rfl) ?_
      refine lv_iload_n hx hb dX0_way_22 rfl (lv_at hl 2 rfl) ?_
      obtain ⟨v9, ev9, hf⟩ := ob hf
      refine rd_callV (As := [.int p2]) (rest := [.int v7]) ⟨hx, hb, hml, hown, hts⟩ (mX0_depthOf l D k xa ra xi rs p2 _ ev9) (cwV 1 hts (lw_V q546 q548 qs22 q90 q549) rfl rfl rfl ⟨rfl, hdX0_depthOf⟩ ⟨Nat.le_of_ble_eq_true rfl, Nat.le_of_ble_eq_true rfl⟩) hK hP [0, 1, 2, 3, 4, 5, 6] rfl 0 0 rfl rfl rfl hl.1 rfl (Nat.le_of_ble_eq_true rfl) dX0_way_23 ⟨Nat.le_of_ble_eq_true rfl, Nat.le_of_ble_eq_true rfl⟩ ?_
      refine lv_iadd hx hb dX0_way_26 ?_
      refine lv_iconst (v := 2) hx hb dX0_way_27 (by decide) ?_
      refine lv_aload_n hx hb dX0_way_28 rfl (lv_at hl 0 rfl) ?_
      refine lv_aload_n hx hb dX0_way_29 rfl (lv_at hl 0 rfl) ?_
      refine lv_iload_n hx hb dX0_way_30 rfl (lv_at hl 1 rfl) ?_
      refine lv_iload_n hx hb dX0_way_31 rfl (lv_at hl 2 rfl) ?_
      obtain ⟨⟨v11, g12⟩, et13, hf⟩ := ob hf
      refine wr_callV (As := [.int p1, .int p2]) (rest := [.ref (xa 0), .int (2 : Int32), .int (v7 + v9)]) ⟨hx, hb, hml, hown, hts⟩ (mX0_metOf l D k xa ra xi rs p1 p2 _ _ _ et13) (cwV 2 hts (lw_V q614 q616 qs35 q90 q617) rfl rfl rfl ⟨rfl, hdX0_metOf⟩ ⟨Nat.le_of_ble_eq_true rfl, Nat.le_of_ble_eq_true rfl⟩) hK hP hD hS hA [0, 1, 2, 3, 4, 5, 6] [] (wN k xa ra g12 rs) rfl rfl fm_n 7 rfl (by decide) (by decide) [(xa 0), (ra 0 0), (ra 0 1), (ra 0 2), (ra 0 3), (ra 0 4), (ra 0 5)] rfl rfl 0 0 rfl rfl rfl hl.1 rfl (Nat.le_of_ble_eq_true rfl) dX0_way_32 ⟨Nat.le_of_ble_eq_true rfl, Nat.le_of_ble_eq_true rfl⟩ (fun H locs hP hD hS => ?_)
      obtain ⟨v14, ev14, hf⟩ := ob hf
      refine rd_callV (As := [.int v11]) (rest := [.int (2 : Int32), .int (v7 + v9)]) ⟨hx, hb, hml, hown, hts⟩ (mX0_depthOf l D k xa ra g12 rs v11 _ ev14) (cwV 1 hts (lw_V q546 q548 qs22 q90 q549) rfl rfl rfl ⟨rfl, hdX0_depthOf⟩ ⟨Nat.le_of_ble_eq_true rfl, Nat.le_of_ble_eq_true rfl⟩) hK hP [0, 1, 2, 3, 4, 5, 6] rfl 0 0 rfl rfl rfl hl.1 rfl (Nat.le_of_ble_eq_true rfl) dX0_way_35 ⟨Nat.le_of_ble_eq_true rfl, Nat.le_of_ble_eq_true rfl⟩ ?_
      refine lv_imul hx hb dX0_way_38 ?_
      refine lv_isub hx hb dX0_way_39 ?_
      refine lv_goto (tgt := 44) hx hb dX0_way_40 (by decide) ?_
      obtain ⟨he1, he2⟩ := prod2 hf
      rw [he2] at hP
      exact wr_iret hx hb hr hlk he1 hP hS dX0_way_44

abbrev rmX0_onOf : Room := { frames := 6, cells := 0, slots := 0, locals := 137 }
theorem hdX0_onOf : yX0_onOf.cls ≠ "java/lang/invoke/MethodHandle" ∧ yX0_onOf.cls ≠ "java/lang/invoke/VarHandle" ∧ (parseMethodDescriptor yX0_onOf.desc).map (fun d => d.parameters.length) = some 1 := by decide +kernel
set_option maxHeartbeats 4000000 in
theorem mX0_onOf (l : Launch) (D : va_G) (k : Nat → ClassId) (xa : Nat → Nat) (ra : Nat → Nat → Nat) (xi : Nat → Int32) (rs : RS) (p1 : Int32) (r : Int32) (hf : fX0_onOf rs p1 = some r) : CtI l yX0_onOf cX0_onOf 4 rmX0_onOf [.ref (xa 0), .int p1] D k (wN k xa ra xi rs) r := by
  refine rd_start (by decide +kernel) (Nat.le_of_ble_eq_true rfl) ?_
  intro p e s m below meth c ls hx hb hr hlk hml hown hts hP hK hl
  have hl : lv_has ls 4 [(0, .ref (xa 0)), (1, .int p1)] := hl
  have hown : s.vm.findClass RX0 = some m.cls := hown
  unfold fX0_onOf at hf
  refine lv_aload_n hx hb dX0_onOf_0 rfl (lv_at hl 0 rfl) ?_
  refine lv_iload_n hx hb dX0_onOf_1 rfl (lv_at hl 1 rfl) ?_
  obtain ⟨v1, ev1, hf⟩ := ob hf
  refine rd_callV (As := [.int p1]) (rest := []) ⟨hx, hb, hml, hown, hts⟩ (mX0_closeOf l D k xa ra xi rs p1 _ ev1) (cwV 1 hts (lw_V q542 q544 qs21 q90 q545) rfl rfl rfl ⟨rfl, hdX0_closeOf⟩ ⟨Nat.le_of_ble_eq_true rfl, Nat.le_of_ble_eq_true rfl⟩) hK hP [0, 1, 2, 3, 4, 5, 6] rfl 0 0 rfl rfl rfl hl.1 rfl (Nat.le_of_ble_eq_true rfl) dX0_onOf_2 ⟨Nat.le_of_ble_eq_true rfl, Nat.le_of_ble_eq_true rfl⟩ ?_
  refine lv_istore_n (lv' := [(2, .int v1), (0, .ref (xa 0)), (1, .int p1)]) hx hb dX0_onOf_5 rfl hl (by decide) rfl (fun ls hl => ?_)
  refine lv_aload_n hx hb dX0_onOf_6 rfl (lv_at hl 1 rfl) ?_
  refine lv_iload_n hx hb dX0_onOf_7 rfl (lv_at hl 0 rfl) ?_
  refine lv_iconst (v := 1) hx hb dX0_onOf_8 (by decide) ?_
  refine lv_iadd hx hb dX0_onOf_9 ?_
  refine lv_aload_n hx hb dX0_onOf_10 rfl (lv_at hl 1 rfl) ?_
  refine va_get (D := D) (cl := vwCl) (ci := 0) (v := .ref (ra 0 0)) (C := RX0) (T := TX0) (N := 15) hx hb hts in_X0 hown hK.1 hP 0 rfl rfl 0 (by decide) (hts _ q190) (fun _ h9 => h9) rfl dX0_onOf_11 ?_
  refine lv_iload_n hx hb dX0_onOf_14 rfl (lv_at hl 0 rfl) ?_
  refine lv_iconst (v := 1) hx hb dX0_onOf_15 (by decide) ?_
  refine lv_iadd hx hb dX0_onOf_16 ?_
  obtain ⟨v3, ev3, hf⟩ := ob hf
  refine rd_callV (As := [.int (v1 + (1 : Int32))]) (rest := [.int (v1 + (1 : Int32)), .ref (xa 0)]) ⟨hx, hb, hml, hown, hts⟩ (mX1_excess l D k (ra 0) rs (v1 + (1 : Int32)) _ ev3) (cwV 1 hts (lw_V q460 q461 q462 q91 q463) rfl rfl rfl ⟨rfl, hdX1_excess⟩ ⟨Nat.le_of_ble_eq_true rfl, Nat.le_of_ble_eq_true rfl⟩) hK hP [1, 2, 3, 4, 5, 6] rfl 1 1 rfl rfl rfl hl.1 rfl (Nat.le_of_ble_eq_true rfl) dX0_onOf_17 ⟨Nat.le_of_ble_eq_true rfl, Nat.le_of_ble_eq_true rfl⟩ ?_
  refine lv_iconst (v := 1) hx hb dX0_onOf_20 (by decide) ?_
  refine lv_iadd hx hb dX0_onOf_21 ?_
  obtain ⟨v5, ev5, hf⟩ := ob hf
  refine rd_callV (As := [.int (v1 + (1 : Int32)), .int (v3 + (1 : Int32))]) (rest := []) ⟨hx, hb, hml, hown, hts⟩ (mX0_searchOn l D k xa ra xi rs (v1 + (1 : Int32)) (v3 + (1 : Int32)) _ ev5) (cwV 2 hts (lw_V q482 q484 qs13 q90 q485) rfl rfl rfl ⟨rfl, hdX0_searchOn⟩ ⟨Nat.le_of_ble_eq_true rfl, Nat.le_of_ble_eq_true rfl⟩) hK hP [0, 1, 2, 3, 4, 5, 6] rfl 0 0 rfl rfl rfl hl.1 rfl (Nat.le_of_ble_eq_true rfl) dX0_onOf_22 ⟨Nat.le_of_ble_eq_true rfl, Nat.le_of_ble_eq_true rfl⟩ ?_
  refine lv_istore_n (lv' := [(3, .int v5), (2, .int v1), (0, .ref (xa 0)), (1, .int p1)]) hx hb dX0_onOf_25 rfl hl (by decide) rfl (fun ls hl => ?_)
  refine lv_iload_n hx hb dX0_onOf_26 rfl (lv_at hl 0 rfl) ?_
  refine lv_bipush (v := (-4)) hx hb dX0_onOf_27 (by decide) ?_
  refine lv_icmp_ne (tgt := 37) hx hb dX0_onOf_29 (by decide) (fun c7 => ?_) (fun c7 => ?_)
  · have hf := oi_f c7 hf
    refine lv_aload_n hx hb dX0_onOf_37 rfl (lv_at hl 2 rfl) ?_
    refine lv_iload_n hx hb dX0_onOf_38 rfl (lv_at hl 0 rfl) ?_
    refine lv_iconst (v := 1) hx hb dX0_onOf_39 (by decide) ?_
    refine lv_isub hx hb dX0_onOf_40 ?_
    obtain ⟨v8, ev8, hf⟩ := ob hf
    refine rd_callV (As := [.int (v5 - (1 : Int32))]) (rest := []) ⟨hx, hb, hml, hown, hts⟩ (mX0_nodeAt l D k xa ra xi rs (v5 - (1 : Int32)) _ ev8) (cwV 1 hts (lw_V q554 q556 qs24 q90 q557) rfl rfl rfl ⟨rfl, hdX0_nodeAt⟩ ⟨Nat.le_of_ble_eq_true rfl, Nat.le_of_ble_eq_true rfl⟩) hK hP [0, 1, 2, 3, 4, 5, 6] rfl 0 0 rfl rfl rfl hl.1 rfl (Nat.le_of_ble_eq_true rfl) dX0_onOf_41 ⟨Nat.le_of_ble_eq_true rfl, Nat.le_of_ble_eq_true rfl⟩ ?_
    exact rd_iret hx hb hr hlk (Option.some.inj hf) dX0_onOf_44
  · have hf := oi_t c7 hf
    refine lv_bipush (v := (-4)) hx hb dX0_onOf_32 (by decide) ?_
    refine lv_goto (tgt := 44) hx hb dX0_onOf_34 (by decide) ?_
    exact rd_iret hx hb hr hlk (Option.some.inj hf) dX0_onOf_44

abbrev rmX0_backOf : Room := { frames := 5, cells := 0, slots := 0, locals := 116 }
theorem hdX0_backOf : yX0_backOf.cls ≠ "java/lang/invoke/MethodHandle" ∧ yX0_backOf.cls ≠ "java/lang/invoke/VarHandle" ∧ (parseMethodDescriptor yX0_backOf.desc).map (fun d => d.parameters.length) = some 1 := by decide +kernel
set_option maxHeartbeats 4000000 in
theorem mX0_backOf (l : Launch) (D : va_G) (k : Nat → ClassId) (xa : Nat → Nat) (ra : Nat → Nat → Nat) (xi : Nat → Int32) (rs : RS) (p1 : Int32) (r : Int32) (hf : fX0_backOf rs p1 = some r) : CtI l yX0_backOf cX0_backOf 4 rmX0_backOf [.ref (xa 0), .int p1] D k (wN k xa ra xi rs) r := by
  refine rd_start (by decide +kernel) (Nat.le_of_ble_eq_true rfl) ?_
  intro p e s m below meth c ls hx hb hr hlk hml hown hts hP hK hl
  have hl : lv_has ls 4 [(0, .ref (xa 0)), (1, .int p1)] := hl
  have hown : s.vm.findClass RX0 = some m.cls := hown
  unfold fX0_backOf at hf
  refine lv_aload_n hx hb dX0_backOf_0 rfl (lv_at hl 0 rfl) ?_
  refine lv_iload_n hx hb dX0_backOf_1 rfl (lv_at hl 1 rfl) ?_
  obtain ⟨v1, ev1, hf⟩ := ob hf
  refine rd_callV (As := [.int p1]) (rest := []) ⟨hx, hb, hml, hown, hts⟩ (mX0_openOf l D k xa ra xi rs p1 _ ev1) (cwV 1 hts (lw_V q538 q540 qs20 q90 q541) rfl rfl rfl ⟨rfl, hdX0_openOf⟩ ⟨Nat.le_of_ble_eq_true rfl, Nat.le_of_ble_eq_true rfl⟩) hK hP [0, 1, 2, 3, 4, 5, 6] rfl 0 0 rfl rfl rfl hl.1 rfl (Nat.le_of_ble_eq_true rfl) dX0_backOf_2 ⟨Nat.le_of_ble_eq_true rfl, Nat.le_of_ble_eq_true rfl⟩ ?_
  refine lv_istore_n (lv' := [(2, .int v1), (0, .ref (xa 0)), (1, .int p1)]) hx hb dX0_backOf_5 rfl hl (by decide) rfl (fun ls hl => ?_)
  refine lv_aload_n hx hb dX0_backOf_6 rfl (lv_at hl 1 rfl) ?_
  refine lv_iload_n hx hb dX0_backOf_7 rfl (lv_at hl 0 rfl) ?_
  refine lv_aload_n hx hb dX0_backOf_8 rfl (lv_at hl 1 rfl) ?_
  refine va_get (D := D) (cl := vwCl) (ci := 0) (v := .ref (ra 0 0)) (C := RX0) (T := TX0) (N := 15) hx hb hts in_X0 hown hK.1 hP 0 rfl rfl 0 (by decide) (hts _ q190) (fun _ h9 => h9) rfl dX0_backOf_9 ?_
  refine lv_iload_n hx hb dX0_backOf_12 rfl (lv_at hl 0 rfl) ?_
  obtain ⟨v3, ev3, hf⟩ := ob hf
  refine rd_callV (As := [.int v1]) (rest := [.int v1, .ref (xa 0)]) ⟨hx, hb, hml, hown, hts⟩ (mX1_excess l D k (ra 0) rs v1 _ ev3) (cwV 1 hts (lw_V q460 q461 q462 q91 q463) rfl rfl rfl ⟨rfl, hdX1_excess⟩ ⟨Nat.le_of_ble_eq_true rfl, Nat.le_of_ble_eq_true rfl⟩) hK hP [1, 2, 3, 4, 5, 6] rfl 1 1 rfl rfl rfl hl.1 rfl (Nat.le_of_ble_eq_true rfl) dX0_backOf_13 ⟨Nat.le_of_ble_eq_true rfl, Nat.le_of_ble_eq_true rfl⟩ ?_
  refine lv_iconst (v := 1) hx hb dX0_backOf_16 (by decide) ?_
  refine lv_iadd hx hb dX0_backOf_17 ?_
  obtain ⟨v5, ev5, hf⟩ := ob hf
  refine rd_callV (As := [.int v1, .int (v3 + (1 : Int32))]) (rest := []) ⟨hx, hb, hml, hown, hts⟩ (mX0_searchBack l D k xa ra xi rs v1 (v3 + (1 : Int32)) _ ev5) (cwV 2 hts (lw_V q500 q502 qs15 q90 q503) rfl rfl rfl ⟨rfl, hdX0_searchBack⟩ ⟨Nat.le_of_ble_eq_true rfl, Nat.le_of_ble_eq_true rfl⟩) hK hP [0, 1, 2, 3, 4, 5, 6] rfl 0 0 rfl rfl rfl hl.1 rfl (Nat.le_of_ble_eq_true rfl) dX0_backOf_18 ⟨Nat.le_of_ble_eq_true rfl, Nat.le_of_ble_eq_true rfl⟩ ?_
  refine lv_istore_n (lv' := [(3, .int v5), (2, .int v1), (0, .ref (xa 0)), (1, .int p1)]) hx hb dX0_backOf_21 rfl hl (by decide) rfl (fun ls hl => ?_)
  refine lv_iload_n hx hb dX0_backOf_22 rfl (lv_at hl 0 rfl) ?_
  refine lv_bipush (v := (-4)) hx hb dX0_backOf_23 (by decide) ?_
  refine lv_icmp_ne (tgt := 33) hx hb dX0_backOf_25 (by decide) (fun c7 => ?_) (fun c7 => ?_)
  · have hf := oi_f c7 hf
    refine lv_aload_n hx hb dX0_backOf_33 rfl (lv_at hl 2 rfl) ?_
    refine lv_aload_n hx hb dX0_backOf_34 rfl (lv_at hl 2 rfl) ?_
    refine lv_iload_n hx hb dX0_backOf_35 rfl (lv_at hl 0 rfl) ?_
    obtain ⟨v8, ev8, hf⟩ := ob hf
    refine rd_callV (As := [.int v5]) (rest := [.ref (xa 0)]) ⟨hx, hb, hml, hown, hts⟩ (mX0_partner l D k xa ra xi rs v5 _ ev8) (cwV 1 hts (lw_V q512 q514 qs17 q90 q515) rfl rfl rfl ⟨rfl, hdX0_partner⟩ ⟨Nat.le_of_ble_eq_true rfl, Nat.le_of_ble_eq_true rfl⟩) hK hP [0, 1, 2, 3, 4, 5, 6] rfl 0 0 rfl rfl rfl hl.1 rfl (Nat.le_of_ble_eq_true rfl) dX0_backOf_36 ⟨Nat.le_of_ble_eq_true rfl, Nat.le_of_ble_eq_true rfl⟩ ?_
    obtain ⟨v10, ev10, hf⟩ := ob hf
    refine rd_callV (As := [.int v8]) (rest := []) ⟨hx, hb, hml, hown, hts⟩ (mX0_nodeAt l D k xa ra xi rs v8 _ ev10) (cwV 1 hts (lw_V q554 q556 qs24 q90 q557) rfl rfl rfl ⟨rfl, hdX0_nodeAt⟩ ⟨Nat.le_of_ble_eq_true rfl, Nat.le_of_ble_eq_true rfl⟩) hK hP [0, 1, 2, 3, 4, 5, 6] rfl 0 0 rfl rfl rfl hl.1 rfl (Nat.le_of_ble_eq_true rfl) dX0_backOf_39 ⟨Nat.le_of_ble_eq_true rfl, Nat.le_of_ble_eq_true rfl⟩ ?_
    exact rd_iret hx hb hr hlk (Option.some.inj hf) dX0_backOf_42
  · have hf := oi_t c7 hf
    refine lv_bipush (v := (-4)) hx hb dX0_backOf_28 (by decide) ?_
    refine lv_goto (tgt := 42) hx hb dX0_backOf_30 (by decide) ?_
    exact rd_iret hx hb hr hlk (Option.some.inj hf) dX0_backOf_42

abbrev rmX0_firstDeep : Room := { frames := 4, cells := 0, slots := 0, locals := 94 }
theorem hdX0_firstDeep : yX0_firstDeep.cls ≠ "java/lang/invoke/MethodHandle" ∧ yX0_firstDeep.cls ≠ "java/lang/invoke/VarHandle" ∧ (parseMethodDescriptor yX0_firstDeep.desc).map (fun d => d.parameters.length) = some 1 := by decide +kernel
set_option maxHeartbeats 4000000 in
theorem mX0_firstDeep (l : Launch) (D : va_G) (k : Nat → ClassId) (xa : Nat → Nat) (ra : Nat → Nat → Nat) (xi : Nat → Int32) (rs : RS) (p1 : Int32) (r : Int32) (hf : fX0_firstDeep rs p1 = some r) : CtI l yX0_firstDeep cX0_firstDeep 3 rmX0_firstDeep [.ref (xa 0), .int p1] D k (wN k xa ra xi rs) r := by
  refine rd_start (by decide +kernel) (Nat.le_of_ble_eq_true rfl) ?_
  intro p e s m below meth c ls hx hb hr hlk hml hown hts hP hK hl
  have hl : lv_has ls 3 [(0, .ref (xa 0)), (1, .int p1)] := hl
  have hown : s.vm.findClass RX0 = some m.cls := hown
  unfold fX0_firstDeep at hf
  refine lv_aload_n hx hb dX0_firstDeep_0 rfl (lv_at hl 0 rfl) ?_
  refine lv_iconst (v := 0) hx hb dX0_firstDeep_1 (by decide) ?_
  refine lv_iload_n hx hb dX0_firstDeep_2 rfl (lv_at hl 1 rfl) ?_
  refine lv_iconst (v := 1) hx hb dX0_firstDeep_3 (by decide) ?_
  refine lv_iadd hx hb dX0_firstDeep_4 ?_
  obtain ⟨v1, ev1, hf⟩ := ob hf
  refine rd_callV (As := [.int (0 : Int32), .int (p1 + (1 : Int32))]) (rest := []) ⟨hx, hb, hml, hown, hts⟩ (mX0_searchOn l D k xa ra xi rs (0 : Int32) (p1 + (1 : Int32)) _ ev1) (cwV 2 hts (lw_V q482 q484 qs13 q90 q485) rfl rfl rfl ⟨rfl, hdX0_searchOn⟩ ⟨Nat.le_of_ble_eq_true rfl, Nat.le_of_ble_eq_true rfl⟩) hK hP [0, 1, 2, 3, 4, 5, 6] rfl 0 0 rfl rfl rfl hl.1 rfl (Nat.le_of_ble_eq_true rfl) dX0_firstDeep_5 ⟨Nat.le_of_ble_eq_true rfl, Nat.le_of_ble_eq_true rfl⟩ ?_
  refine lv_istore_n (lv' := [(2, .int v1), (0, .ref (xa 0)), (1, .int p1)]) hx hb dX0_firstDeep_8 rfl hl (by decide) rfl (fun ls hl => ?_)
  refine lv_iload_n hx hb dX0_firstDeep_9 rfl (lv_at hl 0 rfl) ?_
  refine lv_bipush (v := (-4)) hx hb dX0_firstDeep_10 (by decide) ?_
  refine lv_icmp_ne (tgt := 20) hx hb dX0_firstDeep_12 (by decide) (fun c3 => ?_) (fun c3 => ?_)
  · have hf := oi_f c3 hf
    refine lv_aload_n hx hb dX0_firstDeep_20 rfl (lv_at hl 1 rfl) ?_
    refine lv_iload_n hx hb dX0_firstDeep_21 rfl (lv_at hl 0 rfl) ?_
    refine lv_iconst (v := 1) hx hb dX0_firstDeep_22 (by decide) ?_
    refine lv_isub hx hb dX0_firstDeep_23 ?_
    obtain ⟨v4, ev4, hf⟩ := ob hf
    refine rd_callV (As := [.int (v1 - (1 : Int32))]) (rest := []) ⟨hx, hb, hml, hown, hts⟩ (mX0_nodeAt l D k xa ra xi rs (v1 - (1 : Int32)) _ ev4) (cwV 1 hts (lw_V q554 q556 qs24 q90 q557) rfl rfl rfl ⟨rfl, hdX0_nodeAt⟩ ⟨Nat.le_of_ble_eq_true rfl, Nat.le_of_ble_eq_true rfl⟩) hK hP [0, 1, 2, 3, 4, 5, 6] rfl 0 0 rfl rfl rfl hl.1 rfl (Nat.le_of_ble_eq_true rfl) dX0_firstDeep_24 ⟨Nat.le_of_ble_eq_true rfl, Nat.le_of_ble_eq_true rfl⟩ ?_
    exact rd_iret hx hb hr hlk (Option.some.inj hf) dX0_firstDeep_27
  · have hf := oi_t c3 hf
    refine lv_bipush (v := (-4)) hx hb dX0_firstDeep_15 (by decide) ?_
    refine lv_goto (tgt := 27) hx hb dX0_firstDeep_17 (by decide) ?_
    exact rd_iret hx hb hr hlk (Option.some.inj hf) dX0_firstDeep_27

abbrev rmX0_lastDeep : Room := { frames := 5, cells := 0, slots := 0, locals := 116 }
theorem hdX0_lastDeep : yX0_lastDeep.cls ≠ "java/lang/invoke/MethodHandle" ∧ yX0_lastDeep.cls ≠ "java/lang/invoke/VarHandle" ∧ (parseMethodDescriptor yX0_lastDeep.desc).map (fun d => d.parameters.length) = some 1 := by decide +kernel
set_option maxHeartbeats 4000000 in
theorem mX0_lastDeep (l : Launch) (D : va_G) (k : Nat → ClassId) (xa : Nat → Nat) (ra : Nat → Nat → Nat) (xi : Nat → Int32) (rs : RS) (p1 : Int32) (r : Int32) (hf : fX0_lastDeep rs p1 = some r) : CtI l yX0_lastDeep cX0_lastDeep 3 rmX0_lastDeep [.ref (xa 0), .int p1] D k (wN k xa ra xi rs) r := by
  refine rd_start (by decide +kernel) (Nat.le_of_ble_eq_true rfl) ?_
  intro p e s m below meth c ls hx hb hr hlk hml hown hts hP hK hl
  have hl : lv_has ls 3 [(0, .ref (xa 0)), (1, .int p1)] := hl
  have hown : s.vm.findClass RX0 = some m.cls := hown
  unfold fX0_lastDeep at hf
  refine lv_aload_n hx hb dX0_lastDeep_0 rfl (lv_at hl 0 rfl) ?_
  refine lv_aload_n hx hb dX0_lastDeep_1 rfl (lv_at hl 0 rfl) ?_
  refine va_get (D := D) (cl := vwCl) (ci := 0) (v := .ref (ra 0 0)) (C := RX0) (T := TX0) (N := 15) hx hb hts in_X0 hown hK.1 hP 0 rfl rfl 0 (by decide) (hts _ q190) (fun _ h9 => h9) rfl dX0_lastDeep_2 ?_
  refine va_getN (D := D) (cl := vwCl) (ci := 1) (v := .int (rP rs)) (C := RX1) (T := TX1) (N := 6) hx hb hts in_X1 hown hK.1 hP 1 rfl rfl 1 (by decide) (hK.nw 2 rfl) (fun _ h9 => h9) rfl dX0_lastDeep_5 ?_
  refine lv_iload_n hx hb dX0_lastDeep_8 rfl (lv_at hl 1 rfl) ?_
  refine lv_iconst (v := 1) hx hb dX0_lastDeep_9 (by decide) ?_
  refine lv_iadd hx hb dX0_lastDeep_10 ?_
  obtain ⟨v1, ev1, hf⟩ := ob hf
  refine rd_callV (As := [.int (rP rs), .int (p1 + (1 : Int32))]) (rest := []) ⟨hx, hb, hml, hown, hts⟩ (mX0_searchBack l D k xa ra xi rs (rP rs) (p1 + (1 : Int32)) _ ev1) (cwV 2 hts (lw_V q500 q502 qs15 q90 q503) rfl rfl rfl ⟨rfl, hdX0_searchBack⟩ ⟨Nat.le_of_ble_eq_true rfl, Nat.le_of_ble_eq_true rfl⟩) hK hP [0, 1, 2, 3, 4, 5, 6] rfl 0 0 rfl rfl rfl hl.1 rfl (Nat.le_of_ble_eq_true rfl) dX0_lastDeep_11 ⟨Nat.le_of_ble_eq_true rfl, Nat.le_of_ble_eq_true rfl⟩ ?_
  refine lv_istore_n (lv' := [(2, .int v1), (0, .ref (xa 0)), (1, .int p1)]) hx hb dX0_lastDeep_14 rfl hl (by decide) rfl (fun ls hl => ?_)
  refine lv_iload_n hx hb dX0_lastDeep_15 rfl (lv_at hl 0 rfl) ?_
  refine lv_bipush (v := (-4)) hx hb dX0_lastDeep_16 (by decide) ?_
  refine lv_icmp_ne (tgt := 26) hx hb dX0_lastDeep_18 (by decide) (fun c3 => ?_) (fun c3 => ?_)
  · have hf := oi_f c3 hf
    refine lv_aload_n hx hb dX0_lastDeep_26 rfl (lv_at hl 1 rfl) ?_
    refine lv_aload_n hx hb dX0_lastDeep_27 rfl (lv_at hl 1 rfl) ?_
    refine lv_iload_n hx hb dX0_lastDeep_28 rfl (lv_at hl 0 rfl) ?_
    obtain ⟨v4, ev4, hf⟩ := ob hf
    refine rd_callV (As := [.int v1]) (rest := [.ref (xa 0)]) ⟨hx, hb, hml, hown, hts⟩ (mX0_partner l D k xa ra xi rs v1 _ ev4) (cwV 1 hts (lw_V q512 q514 qs17 q90 q515) rfl rfl rfl ⟨rfl, hdX0_partner⟩ ⟨Nat.le_of_ble_eq_true rfl, Nat.le_of_ble_eq_true rfl⟩) hK hP [0, 1, 2, 3, 4, 5, 6] rfl 0 0 rfl rfl rfl hl.1 rfl (Nat.le_of_ble_eq_true rfl) dX0_lastDeep_29 ⟨Nat.le_of_ble_eq_true rfl, Nat.le_of_ble_eq_true rfl⟩ ?_
    obtain ⟨v6, ev6, hf⟩ := ob hf
    refine rd_callV (As := [.int v4]) (rest := []) ⟨hx, hb, hml, hown, hts⟩ (mX0_nodeAt l D k xa ra xi rs v4 _ ev6) (cwV 1 hts (lw_V q554 q556 qs24 q90 q557) rfl rfl rfl ⟨rfl, hdX0_nodeAt⟩ ⟨Nat.le_of_ble_eq_true rfl, Nat.le_of_ble_eq_true rfl⟩) hK hP [0, 1, 2, 3, 4, 5, 6] rfl 0 0 rfl rfl rfl hl.1 rfl (Nat.le_of_ble_eq_true rfl) dX0_lastDeep_32 ⟨Nat.le_of_ble_eq_true rfl, Nat.le_of_ble_eq_true rfl⟩ ?_
    exact rd_iret hx hb hr hlk (Option.some.inj hf) dX0_lastDeep_35
  · have hf := oi_t c3 hf
    refine lv_bipush (v := (-4)) hx hb dX0_lastDeep_21 (by decide) ?_
    refine lv_goto (tgt := 35) hx hb dX0_lastDeep_23 (by decide) ?_
    exact rd_iret hx hb hr hlk (Option.some.inj hf) dX0_lastDeep_35

abbrev rmX0_level : Room := { frames := 7, cells := 0, slots := 0, locals := 160 }
theorem hdX0_level : yX0_level.cls ≠ "java/lang/invoke/MethodHandle" ∧ yX0_level.cls ≠ "java/lang/invoke/VarHandle" ∧ (parseMethodDescriptor yX0_level.desc).map (fun d => d.parameters.length) = some 2 := by decide +kernel
set_option maxHeartbeats 4000000 in
theorem mX0_level (l : Launch) (D : va_G) (k : Nat → ClassId) (xa : Nat → Nat) (ra : Nat → Nat → Nat) (xi : Nat → Int32) (rs : RS) (p1 : Int32) (p2 : Int32) (r : Int32) (hf : fX0_level rs p1 p2 = some r) : CtI l yX0_level cX0_level 5 rmX0_level [.ref (xa 0), .int p1, .int p2] D k (wN k xa ra xi rs) r := by
  refine rd_start (by decide +kernel) (Nat.le_of_ble_eq_true rfl) ?_
  intro p e s m below meth c ls hx hb hr hlk hml hown hts hP hK hl
  have hl : lv_has ls 5 [(0, .ref (xa 0)), (1, .int p1), (2, .int p2)] := hl
  have hown : s.vm.findClass RX0 = some m.cls := hown
  unfold fX0_level at hf
  refine lv_iload_n hx hb dX0_level_0 rfl (lv_at hl 1 rfl) ?_
  refine lv_if_lt (tgt := 26) hx hb dX0_level_1 (by decide) (fun c1 => ?_) (fun c1 => ?_)
  · have hf := oi_t c1 hf
    refine lv_iconst (v := (-1)) hx hb dX0_level_26 (by decide) ?_
    exact rd_iret hx hb hr hlk (Option.some.inj hf) dX0_level_27
  · have hf := oi_f c1 hf
    refine lv_iload_n hx hb dX0_level_4 rfl (lv_at hl 1 rfl) ?_
    refine lv_bipush (v := 64) hx hb dX0_level_5 (by decide) ?_
    have hB14 :  fX0_level_B14 rs p1 p2  = some r → ∀ ls : Array Slot, lv_has ls 5 [(0, .ref (xa 0)), (1, .int p1), (2, .int p2)] → gR p l e rmX0_level s m [.ref (xa 0), .int p1, .int p2] below meth c (vp_Si (fun x => x = r)) 14 ls [] := by
      intro  hf ls hl
      unfold fX0_level_B14 at hf
      refine lv_iload_n hx hb dX0_level_14 rfl (lv_at hl 2 rfl) ?_
      refine lv_i2l hx hb dX0_level_15 rfl ?_
      refine lv_lconst (v := 0) hx hb dX0_level_16 (by decide) ?_
      refine lv_ldc2 hx hb hown (hts _ q469) dX0_level_17 ?_
      obtain ⟨v3, ev3, hf⟩ := ob hf
      refine rd_callSZ (As := [.long ((p2).toInt64), .long (0 : Int64), .long (2 : Int64)]) (rest := []) ⟨hx, hb, hml, hown, hts⟩ (mX0_in l D k   ((p2).toInt64) (0 : Int64) (2 : Int64) _ ev3) (va_cwS 3 hts (lw_S q242 q243 q90 q244) rfl rfl rfl hdX0_in ⟨Nat.le_of_ble_eq_true rfl, Nat.le_of_ble_eq_true rfl⟩) hK rfl hl.1 rfl (Nat.le_of_ble_eq_true rfl) dX0_level_20 ⟨Nat.le_of_ble_eq_true rfl, Nat.le_of_ble_eq_true rfl⟩ (fun zv3 => ?_)
      refine lv_if_ne (tgt := 28) hx hb dX0_level_23 (by decide) (fun c5 => ?_) (fun c5 => ?_)
      · have hf := oi_f c5 hf
        refine lv_iload_n hx hb dX0_level_28 rfl (lv_at hl 1 rfl) ?_
        refine lv_bipush (v := 64) hx hb dX0_level_29 (by decide) ?_
        refine lv_icmp_lt (tgt := 46) hx hb dX0_level_31 (by decide) (fun c6 => ?_) (fun c6 => ?_)
        · have hf := oi_t c6 hf
          refine lv_iload_n hx hb dX0_level_46 rfl (lv_at hl 2 rfl) ?_
          refine lv_iconst (v := 2) hx hb dX0_level_47 (by decide) ?_
          refine lv_icmp_ge (tgt := 69) hx hb dX0_level_48 (by decide) (fun c7 => ?_) (fun c7 => ?_)
          · have hf := oi_t c7 hf
            refine lv_iconst (v := 0) hx hb dX0_level_69 (by decide) ?_
            refine lv_istore_n (lv' := [(3, .int (0 : Int32)), (0, .ref (xa 0)), (1, .int p1), (2, .int p2)]) hx hb dX0_level_70 rfl hl (by decide) rfl (fun ls hl => ?_)
            refine lv_aload_n hx hb dX0_level_71 rfl (lv_at hl 1 rfl) ?_
            refine lv_iload_n hx hb dX0_level_72 rfl (lv_at hl 2 rfl) ?_
            obtain ⟨v8, ev8, hf⟩ := ob hf
            refine rd_callV (As := [.int p1]) (rest := []) ⟨hx, hb, hml, hown, hts⟩ (mX0_firstDeep l D k xa ra xi rs p1 _ ev8) (cwV 1 hts (lw_V q630 q632 qs37 q90 q633) rfl rfl rfl ⟨rfl, hdX0_firstDeep⟩ ⟨Nat.le_of_ble_eq_true rfl, Nat.le_of_ble_eq_true rfl⟩) hK hP [0, 1, 2, 3, 4, 5, 6] rfl 0 0 rfl rfl rfl hl.1 rfl (Nat.le_of_ble_eq_true rfl) dX0_level_73 ⟨Nat.le_of_ble_eq_true rfl, Nat.le_of_ble_eq_true rfl⟩ ?_
            refine lv_istore (lv' := [(4, .int v8), (3, .int (0 : Int32)), (0, .ref (xa 0)), (1, .int p1), (2, .int p2)]) hx hb dX0_level_76 hl (by decide) rfl (fun ls hl => ?_)
            have hL78 : ∀ (nn : Nat) (x3_78 : Int32) (x4_78 : Int32), fX0_level_L78 rs p1 p2 nn x3_78 x4_78 = some r → ∀ ls : Array Slot, lv_has ls 5 [(0, .ref (xa 0)), (3, .int x3_78), (4, .int x4_78)] → gR p l e rmX0_level s m [.ref (xa 0), .int p1, .int p2] below meth c (vp_Si (fun x => x = r)) 78 ls [] := by
              intro nn78
              induction nn78 with
              | zero =>
                intro x3_78 x4_78 hf
                rw [fX0_level_L78] at hf; cases hf
              | succ nn78 ih78 =>
                intro x3_78 x4_78 hf ls hl
                rw [fX0_level_L78] at hf
                refine lv_iload hx hb dX0_level_78 (lv_at hl 2 rfl) ?_
                refine lv_bipush (v := (-4)) hx hb dX0_level_80 (by decide) ?_
                refine lv_icmp_eq (tgt := 99) hx hb dX0_level_82 (by decide) (fun c10 => ?_) (fun c10 => ?_)
                · have hf := oi_t c10 hf
                  refine lv_iload_n hx hb dX0_level_99 rfl (lv_at hl 1 rfl) ?_
                  exact rd_iret hx hb hr hlk (Option.some.inj hf) dX0_level_100
                · have hf := oi_f c10 hf
                  refine lv_iinc (v := (x3_78 + 1)) (lv' := [(3, .int (x3_78 + 1)), (0, .ref (xa 0)), (4, .int x4_78)]) hx hb dX0_level_85 hl (k := 1) rfl rfl (by decide) rfl (fun ls hl => ?_)
                  refine lv_aload_n hx hb dX0_level_88 rfl (lv_at hl 1 rfl) ?_
                  refine lv_iload hx hb dX0_level_89 (lv_at hl 2 rfl) ?_
                  obtain ⟨v11, ev11, hf⟩ := ob hf
                  refine rd_callV (As := [.int x4_78]) (rest := []) ⟨hx, hb, hml, hown, hts⟩ (mX0_onOf l D k xa ra xi rs x4_78 _ ev11) (cwV 1 hts (lw_V q638 q640 qs39 q90 q641) rfl rfl rfl ⟨rfl, hdX0_onOf⟩ ⟨Nat.le_of_ble_eq_true rfl, Nat.le_of_ble_eq_true rfl⟩) hK hP [0, 1, 2, 3, 4, 5, 6] rfl 0 0 rfl rfl rfl hl.1 rfl (Nat.le_of_ble_eq_true rfl) dX0_level_91 ⟨Nat.le_of_ble_eq_true rfl, Nat.le_of_ble_eq_true rfl⟩ ?_
                  refine lv_istore (lv' := [(4, .int v11), (3, .int (x3_78 + 1)), (0, .ref (xa 0))]) hx hb dX0_level_94 hl (by decide) rfl (fun ls hl => ?_)
                  refine lv_goto (tgt := 78) hx hb dX0_level_96 (by decide) ?_
                  exact ih78 (x3_78 + 1) v11 hf ls (lv_sub hl [2, 1, 0] rfl)
            exact hL78 FU (0 : Int32) v8 hf ls (lv_sub hl [2, 1, 0] rfl)
          · have hf := oi_f c7 hf
            refine lv_iload_n hx hb dX0_level_51 rfl (lv_at hl 2 rfl) ?_
            refine lv_if_ne (tgt := 63) hx hb dX0_level_52 (by decide) (fun c13 => ?_) (fun c13 => ?_)
            · have hf := oi_f c13 hf
              refine lv_aload_n hx hb dX0_level_63 rfl (lv_at hl 0 rfl) ?_
              refine lv_iload_n hx hb dX0_level_64 rfl (lv_at hl 1 rfl) ?_
              obtain ⟨v14, ev14, hf⟩ := ob hf
              refine rd_callV (As := [.int p1]) (rest := []) ⟨hx, hb, hml, hown, hts⟩ (mX0_lastDeep l D k xa ra xi rs p1 _ ev14) (cwV 1 hts (lw_V q634 q636 qs38 q90 q637) rfl rfl rfl ⟨rfl, hdX0_lastDeep⟩ ⟨Nat.le_of_ble_eq_true rfl, Nat.le_of_ble_eq_true rfl⟩) hK hP [0, 1, 2, 3, 4, 5, 6] rfl 0 0 rfl rfl rfl hl.1 rfl (Nat.le_of_ble_eq_true rfl) dX0_level_65 ⟨Nat.le_of_ble_eq_true rfl, Nat.le_of_ble_eq_true rfl⟩ ?_
              exact rd_iret hx hb hr hlk (Option.some.inj hf) dX0_level_68
            · have hf := oi_t c13 hf
              refine lv_aload_n hx hb dX0_level_55 rfl (lv_at hl 0 rfl) ?_
              refine lv_iload_n hx hb dX0_level_56 rfl (lv_at hl 1 rfl) ?_
              obtain ⟨v16, ev16, hf⟩ := ob hf
              refine rd_callV (As := [.int p1]) (rest := []) ⟨hx, hb, hml, hown, hts⟩ (mX0_firstDeep l D k xa ra xi rs p1 _ ev16) (cwV 1 hts (lw_V q630 q632 qs37 q90 q633) rfl rfl rfl ⟨rfl, hdX0_firstDeep⟩ ⟨Nat.le_of_ble_eq_true rfl, Nat.le_of_ble_eq_true rfl⟩) hK hP [0, 1, 2, 3, 4, 5, 6] rfl 0 0 rfl rfl rfl hl.1 rfl (Nat.le_of_ble_eq_true rfl) dX0_level_57 ⟨Nat.le_of_ble_eq_true rfl, Nat.le_of_ble_eq_true rfl⟩ ?_
              refine lv_goto (tgt := 68) hx hb dX0_level_60 (by decide) ?_
              exact rd_iret hx hb hr hlk (Option.some.inj hf) dX0_level_68
        · have hf := oi_f c6 hf
          refine lv_iload_n hx hb dX0_level_34 rfl (lv_at hl 2 rfl) ?_
          refine lv_iconst (v := 2) hx hb dX0_level_35 (by decide) ?_
          refine lv_icmp_ne (tgt := 43) hx hb dX0_level_36 (by decide) (fun c18 => ?_) (fun c18 => ?_)
          · have hf := oi_f c18 hf
            refine lv_bipush (v := (-4)) hx hb dX0_level_43 (by decide) ?_
            exact rd_iret hx hb hr hlk (Option.some.inj hf) dX0_level_45
          · have hf := oi_t c18 hf
            refine lv_iconst (v := 0) hx hb dX0_level_39 (by decide) ?_
            refine lv_goto (tgt := 45) hx hb dX0_level_40 (by decide) ?_
            exact rd_iret hx hb hr hlk (Option.some.inj hf) dX0_level_45
      · have hf := oi_t c5 hf
        refine lv_iconst (v := (-1)) hx hb dX0_level_26 (by decide) ?_
        exact rd_iret hx hb hr hlk (Option.some.inj hf) dX0_level_27
    refine lv_icmp_le (tgt := 14) hx hb dX0_level_7 (by decide) (fun c2 => ?_) (fun c2 => ?_)
    · have hf := oi_t c2 hf
      exact hB14  hf ls (lv_sub hl [0, 1, 2] rfl)
    · have hf := oi_f c2 hf
      refine lv_iload_n hx hb dX0_level_10 rfl (lv_at hl 2 rfl) ?_
      refine lv_if_lt (tgt := 26) hx hb dX0_level_11 (by decide) (fun c19 => ?_) (fun c19 => ?_)
      · have hf := oi_t c19 hf
        refine lv_iconst (v := (-1)) hx hb dX0_level_26 (by decide) ?_
        exact rd_iret hx hb hr hlk (Option.some.inj hf) dX0_level_27
      · have hf := oi_f c19 hf
        exact hB14  hf ls (lv_sub hl [0, 1, 2] rfl)

abbrev rmX0_beside : Room := { frames := 7, cells := 0, slots := 0, locals := 160 }
theorem hdX0_beside : yX0_beside.cls ≠ "java/lang/invoke/MethodHandle" ∧ yX0_beside.cls ≠ "java/lang/invoke/VarHandle" ∧ (parseMethodDescriptor yX0_beside.desc).map (fun d => d.parameters.length) = some 2 := by decide +kernel
set_option maxHeartbeats 4000000 in
theorem mX0_beside (l : Launch) (D : va_G) (k : Nat → ClassId) (xa : Nat → Nat) (ra : Nat → Nat → Nat) (xi : Nat → Int32) (rs : RS) (p1 : Int32) (p2 : Int32) (r : Int32) (hf : fX0_beside rs p1 p2 = some r) : CtI l yX0_beside cX0_beside 3 rmX0_beside [.ref (xa 0), .int p1, .int p2] D k (wN k xa ra xi rs) r := by
  refine rd_start (by decide +kernel) (Nat.le_of_ble_eq_true rfl) ?_
  intro p e s m below meth c ls hx hb hr hlk hml hown hts hP hK hl
  have hl : lv_has ls 3 [(0, .ref (xa 0)), (1, .int p1), (2, .int p2)] := hl
  have hown : s.vm.findClass RX0 = some m.cls := hown
  unfold fX0_beside at hf
  refine lv_aload_n hx hb dX0_beside_0 rfl (lv_at hl 0 rfl) ?_
  refine lv_iload_n hx hb dX0_beside_1 rfl (lv_at hl 1 rfl) ?_
  obtain ⟨v1, ev1, hf⟩ := ob hf
  refine rd_callVZ (As := [.int p1]) (rest := []) ⟨hx, hb, hml, hown, hts⟩ (mX0_isNode l D k xa ra xi rs p1 _ ev1) (cwV 1 hts (lw_V q534 q536 qs19 q90 q537) rfl rfl rfl ⟨rfl, hdX0_isNode⟩ ⟨Nat.le_of_ble_eq_true rfl, Nat.le_of_ble_eq_true rfl⟩) hK hP [0, 1, 2, 3, 4, 5, 6] rfl 0 0 rfl rfl rfl hl.1 rfl (Nat.le_of_ble_eq_true rfl) dX0_beside_2 ⟨Nat.le_of_ble_eq_true rfl, Nat.le_of_ble_eq_true rfl⟩ (fun zv1 => ?_)
  refine lv_if_eq (tgt := 38) hx hb dX0_beside_5 (by decide) (fun c3 => ?_) (fun c3 => ?_)
  · have hf := oi_t c3 hf
    refine lv_iconst (v := (-1)) hx hb dX0_beside_38 (by decide) ?_
    exact rd_iret hx hb hr hlk (Option.some.inj hf) dX0_beside_39
  · have hf := oi_f c3 hf
    refine lv_iload_n hx hb dX0_beside_8 rfl (lv_at hl 2 rfl) ?_
    refine lv_i2l hx hb dX0_beside_9 rfl ?_
    refine lv_lconst (v := 0) hx hb dX0_beside_10 (by decide) ?_
    refine lv_lconst (v := 1) hx hb dX0_beside_11 (by decide) ?_
    obtain ⟨v4, ev4, hf⟩ := ob hf
    refine rd_callSZ (As := [.long ((p2).toInt64), .long (0 : Int64), .long (1 : Int64)]) (rest := []) ⟨hx, hb, hml, hown, hts⟩ (mX0_in l D k   ((p2).toInt64) (0 : Int64) (1 : Int64) _ ev4) (va_cwS 3 hts (lw_S q242 q243 q90 q244) rfl rfl rfl hdX0_in ⟨Nat.le_of_ble_eq_true rfl, Nat.le_of_ble_eq_true rfl⟩) hK rfl hl.1 rfl (Nat.le_of_ble_eq_true rfl) dX0_beside_12 ⟨Nat.le_of_ble_eq_true rfl, Nat.le_of_ble_eq_true rfl⟩ (fun zv4 => ?_)
    refine lv_if_eq (tgt := 38) hx hb dX0_beside_15 (by decide) (fun c6 => ?_) (fun c6 => ?_)
    · have hf := oi_t c6 hf
      refine lv_iconst (v := (-1)) hx hb dX0_beside_38 (by decide) ?_
      exact rd_iret hx hb hr hlk (Option.some.inj hf) dX0_beside_39
    · have hf := oi_f c6 hf
      refine lv_iload_n hx hb dX0_beside_18 rfl (lv_at hl 2 rfl) ?_
      refine lv_if_ne (tgt := 30) hx hb dX0_beside_19 (by decide) (fun c7 => ?_) (fun c7 => ?_)
      · have hf := oi_f c7 hf
        refine lv_aload_n hx hb dX0_beside_30 rfl (lv_at hl 0 rfl) ?_
        refine lv_iload_n hx hb dX0_beside_31 rfl (lv_at hl 1 rfl) ?_
        obtain ⟨v8, ev8, hf⟩ := ob hf
        refine rd_callV (As := [.int p1]) (rest := []) ⟨hx, hb, hml, hown, hts⟩ (mX0_backOf l D k xa ra xi rs p1 _ ev8) (cwV 1 hts (lw_V q646 q648 qs40 q90 q649) rfl rfl rfl ⟨rfl, hdX0_backOf⟩ ⟨Nat.le_of_ble_eq_true rfl, Nat.le_of_ble_eq_true rfl⟩) hK hP [0, 1, 2, 3, 4, 5, 6] rfl 0 0 rfl rfl rfl hl.1 rfl (Nat.le_of_ble_eq_true rfl) dX0_beside_32 ⟨Nat.le_of_ble_eq_true rfl, Nat.le_of_ble_eq_true rfl⟩ ?_
        refine lv_goto (tgt := 39) hx hb dX0_beside_35 (by decide) ?_
        exact rd_iret hx hb hr hlk (Option.some.inj hf) dX0_beside_39
      · have hf := oi_t c7 hf
        refine lv_aload_n hx hb dX0_beside_22 rfl (lv_at hl 0 rfl) ?_
        refine lv_iload_n hx hb dX0_beside_23 rfl (lv_at hl 1 rfl) ?_
        obtain ⟨v10, ev10, hf⟩ := ob hf
        refine rd_callV (As := [.int p1]) (rest := []) ⟨hx, hb, hml, hown, hts⟩ (mX0_onOf l D k xa ra xi rs p1 _ ev10) (cwV 1 hts (lw_V q638 q640 qs39 q90 q641) rfl rfl rfl ⟨rfl, hdX0_onOf⟩ ⟨Nat.le_of_ble_eq_true rfl, Nat.le_of_ble_eq_true rfl⟩) hK hP [0, 1, 2, 3, 4, 5, 6] rfl 0 0 rfl rfl rfl hl.1 rfl (Nat.le_of_ble_eq_true rfl) dX0_beside_24 ⟨Nat.le_of_ble_eq_true rfl, Nat.le_of_ble_eq_true rfl⟩ ?_
        refine lv_goto (tgt := 39) hx hb dX0_beside_27 (by decide) ?_
        exact rd_iret hx hb hr hlk (Option.some.inj hf) dX0_beside_39

abbrev rmX0_deepest : Room := { frames := 5, cells := 0, slots := 0, locals := 116 }
theorem hdX0_deepest : yX0_deepest.cls ≠ "java/lang/invoke/MethodHandle" ∧ yX0_deepest.cls ≠ "java/lang/invoke/VarHandle" ∧ (parseMethodDescriptor yX0_deepest.desc).map (fun d => d.parameters.length) = some 1 := by decide +kernel
abbrev qcX0_deepest (D : va_G) (k : Nat → ClassId) (xa : Nat → Nat) (ra : Nat → Nat → Nat) (xi : Nat → Int32) (rs : RS) (r : Int32) (A : Nat → Prop) : Array Value → State → Outcome → State → Prop := va_Qi (fun x (_ : Unit) => x = r) (fun _ t => va_P D vwCl (wN k xa ra xi rs) t.heap) A
set_option maxHeartbeats 4000000 in
theorem mX0_deepest (l : Launch) (D : va_G) (k : Nat → ClassId) (xa : Nat → Nat) (ra : Nat → Nat → Nat) (xi : Nat → Int32) (rs : RS) (p1 : Int32) (sz : Nat) (r : Int32) (xi_o : Nat → Int32) (hf : fX0_deepest xi rs p1 = some (r, xi_o)) : Met l yX0_deepest (ws_ yX0_deepest cX0_deepest 3 (some .int)) rmX0_deepest (wrP D k (wN k xa ra xi rs) sz [.ref (xa 0), .int p1]) (qcX0_deepest D k xa ra xi_o rs r (va_A (wN k xa ra xi rs) sz)) 0 0 (va_A (wN k xa ra xi rs) sz) := by
  refine wr_start (Qc := fun A => qcX0_deepest D k xa ra xi_o rs r A) (by decide +kernel) (Nat.le_of_ble_eq_true rfl) ?_
  intro p e s m below meth c ls A hA hx hb hr hlk hml hown hts hP hK hD hl
  have hl : lv_has ls 3 [(0, .ref (xa 0)), (1, .int p1)] := hl
  have hown : s.vm.findClass RX0 = some m.cls := hown
  have hS : va_S A s.heap s.heap [] := va_S.rf
  suffices hw : ∀ (H : Heap) (locs : List Loc), va_P D vwCl (wN k xa ra xi rs) H → va_S A s.heap H locs → gW p l e rmX0_deepest s m [.ref (xa 0), .int p1] below meth c (qcX0_deepest D k xa ra xi_o rs r A) A 0 0 H locs 0 ls [] from hw s.heap [] hP hS
  clear hP hS
  intro H locs hP hS
  unfold fX0_deepest at hf
  refine lv_aload_n hx hb dX0_deepest_0 rfl (lv_at hl 0 rfl) ?_
  refine lv_iload_n hx hb dX0_deepest_1 rfl (lv_at hl 1 rfl) ?_
  obtain ⟨v1, ev1, hf⟩ := ob hf
  refine rd_callVZ (As := [.int p1]) (rest := []) ⟨hx, hb, hml, hown, hts⟩ (mX0_isNode l D k xa ra xi rs p1 _ ev1) (cwV 1 hts (lw_V q534 q536 qs19 q90 q537) rfl rfl rfl ⟨rfl, hdX0_isNode⟩ ⟨Nat.le_of_ble_eq_true rfl, Nat.le_of_ble_eq_true rfl⟩) hK hP [0, 1, 2, 3, 4, 5, 6] rfl 0 0 rfl rfl rfl hl.1 rfl (Nat.le_of_ble_eq_true rfl) dX0_deepest_2 ⟨Nat.le_of_ble_eq_true rfl, Nat.le_of_ble_eq_true rfl⟩ (fun zv1 => ?_)
  refine lv_if_ne (tgt := 10) hx hb dX0_deepest_5 (by decide) (fun c3 => ?_) (fun c3 => ?_)
  · have hf := oi_f c3 hf
    refine lv_aload_n hx hb dX0_deepest_10 rfl (lv_at hl 0 rfl) ?_
    refine lv_iload_n hx hb dX0_deepest_11 rfl (lv_at hl 1 rfl) ?_
    obtain ⟨v4, ev4, hf⟩ := ob hf
    refine rd_callV (As := [.int p1]) (rest := []) ⟨hx, hb, hml, hown, hts⟩ (mX0_openOf l D k xa ra xi rs p1 _ ev4) (cwV 1 hts (lw_V q538 q540 qs20 q90 q541) rfl rfl rfl ⟨rfl, hdX0_openOf⟩ ⟨Nat.le_of_ble_eq_true rfl, Nat.le_of_ble_eq_true rfl⟩) hK hP [0, 1, 2, 3, 4, 5, 6] rfl 0 0 rfl rfl rfl hl.1 rfl (Nat.le_of_ble_eq_true rfl) dX0_deepest_12 ⟨Nat.le_of_ble_eq_true rfl, Nat.le_of_ble_eq_true rfl⟩ ?_
    refine lv_istore_n (lv' := [(2, .int v4), (0, .ref (xa 0)), (1, .int p1)]) hx hb dX0_deepest_15 rfl hl (by decide) rfl (fun ls hl => ?_)
    refine lv_aload_n hx hb dX0_deepest_16 rfl (lv_at hl 1 rfl) ?_
    refine lv_iload_n hx hb dX0_deepest_17 rfl (lv_at hl 0 rfl) ?_
    refine lv_iconst (v := 1) hx hb dX0_deepest_18 (by decide) ?_
    refine lv_iadd hx hb dX0_deepest_19 ?_
    refine lv_aload_n hx hb dX0_deepest_20 rfl (lv_at hl 1 rfl) ?_
    refine lv_iload_n hx hb dX0_deepest_21 rfl (lv_at hl 0 rfl) ?_
    obtain ⟨v6, ev6, hf⟩ := ob hf
    refine rd_callV (As := [.int v4]) (rest := [.int (v4 + (1 : Int32)), .ref (xa 0)]) ⟨hx, hb, hml, hown, hts⟩ (mX0_partner l D k xa ra xi rs v4 _ ev6) (cwV 1 hts (lw_V q512 q514 qs17 q90 q515) rfl rfl rfl ⟨rfl, hdX0_partner⟩ ⟨Nat.le_of_ble_eq_true rfl, Nat.le_of_ble_eq_true rfl⟩) hK hP [0, 1, 2, 3, 4, 5, 6] rfl 0 0 rfl rfl rfl hl.1 rfl (Nat.le_of_ble_eq_true rfl) dX0_deepest_22 ⟨Nat.le_of_ble_eq_true rfl, Nat.le_of_ble_eq_true rfl⟩ ?_
    obtain ⟨g8, et9, hf⟩ := ob hf
    refine wr_callVv (As := [.int (v4 + (1 : Int32)), .int v6]) (rest := []) ⟨hx, hb, hml, hown, hts⟩ (mX0_findLeast l D k xa ra xi rs (v4 + (1 : Int32)) v6 _ _ et9) (cwV 2 hts (lw_V q521 q523 qs18 q90 q524) rfl rfl rfl ⟨rfl, hdX0_findLeast⟩ ⟨Nat.le_of_ble_eq_true rfl, Nat.le_of_ble_eq_true rfl⟩) hK hP hD hS hA [0, 1, 2, 3, 4, 5, 6] [] (wN k xa ra g8 rs) rfl rfl fm_n 7 rfl (by decide) (by decide) [(xa 0), (ra 0 0), (ra 0 1), (ra 0 2), (ra 0 3), (ra 0 4), (ra 0 5)] rfl rfl 0 0 rfl rfl rfl hl.1 rfl (Nat.le_of_ble_eq_true rfl) dX0_deepest_25 ⟨Nat.le_of_ble_eq_true rfl, Nat.le_of_ble_eq_true rfl⟩ (fun H locs hP hD hS => ?_)
    refine lv_aload_n hx hb dX0_deepest_28 rfl (lv_at hl 1 rfl) ?_
    refine lv_aload_n hx hb dX0_deepest_29 rfl (lv_at hl 1 rfl) ?_
    refine va_get (D := D) (cl := vwCl) (ci := 0) (v := .int (g8 5)) (C := RX0) (T := TX0) (N := 15) hx hb hts in_X0 hown hK.1 hP 0 rfl rfl 7 (by decide) (hts _ q197) (fun _ h9 => h9) rfl dX0_deepest_30 ?_
    refine lv_iconst (v := 1) hx hb dX0_deepest_33 (by decide) ?_
    refine lv_isub hx hb dX0_deepest_34 ?_
    obtain ⟨v10, ev10, hf⟩ := ob hf
    refine rd_callV (As := [.int ((g8 5) - (1 : Int32))]) (rest := []) ⟨hx, hb, hml, hown, hts⟩ (mX0_nodeAt l D k xa ra g8 rs ((g8 5) - (1 : Int32)) _ ev10) (cwV 1 hts (lw_V q554 q556 qs24 q90 q557) rfl rfl rfl ⟨rfl, hdX0_nodeAt⟩ ⟨Nat.le_of_ble_eq_true rfl, Nat.le_of_ble_eq_true rfl⟩) hK hP [0, 1, 2, 3, 4, 5, 6] rfl 0 0 rfl rfl rfl hl.1 rfl (Nat.le_of_ble_eq_true rfl) dX0_deepest_35 ⟨Nat.le_of_ble_eq_true rfl, Nat.le_of_ble_eq_true rfl⟩ ?_
    obtain ⟨he1, he2⟩ := prod2 hf
    rw [he2] at hP
    exact wr_iret hx hb hr hlk he1 hP hS dX0_deepest_38
  · have hf := oi_t c3 hf
    refine lv_iconst (v := (-1)) hx hb dX0_deepest_8 (by decide) ?_
    obtain ⟨he1, he2⟩ := prod2 hf
    rw [he2] at hP
    exact wr_iret hx hb hr hlk he1 hP hS dX0_deepest_9

abbrev rmX0_alike : Room := { frames := 7, cells := 0, slots := 0, locals := 158 }
theorem hdX0_alike : yX0_alike.cls ≠ "java/lang/invoke/MethodHandle" ∧ yX0_alike.cls ≠ "java/lang/invoke/VarHandle" ∧ (parseMethodDescriptor yX0_alike.desc).map (fun d => d.parameters.length) = some 2 := by decide +kernel
set_option maxHeartbeats 4000000 in
theorem mX0_alike (l : Launch) (D : va_G) (k : Nat → ClassId) (xa : Nat → Nat) (ra : Nat → Nat → Nat) (xi : Nat → Int32) (rs : RS) (p1 : Int32) (p2 : Int32) (r : Int32) (hf : fX0_alike rs p1 p2 = some r) : CtI l yX0_alike cX0_alike 8 rmX0_alike [.ref (xa 0), .int p1, .int p2] D k (wN k xa ra xi rs) r := by
  refine rd_start (by decide +kernel) (Nat.le_of_ble_eq_true rfl) ?_
  intro p e s m below meth c ls hx hb hr hlk hml hown hts hP hK hl
  have hl : lv_has ls 8 [(0, .ref (xa 0)), (1, .int p1), (2, .int p2)] := hl
  have hown : s.vm.findClass RX0 = some m.cls := hown
  unfold fX0_alike at hf
  refine lv_aload_n hx hb dX0_alike_0 rfl (lv_at hl 0 rfl) ?_
  refine lv_iload_n hx hb dX0_alike_1 rfl (lv_at hl 1 rfl) ?_
  obtain ⟨v1, ev1, hf⟩ := ob hf
  refine rd_callVZ (As := [.int p1]) (rest := []) ⟨hx, hb, hml, hown, hts⟩ (mX0_isNode l D k xa ra xi rs p1 _ ev1) (cwV 1 hts (lw_V q534 q536 qs19 q90 q537) rfl rfl rfl ⟨rfl, hdX0_isNode⟩ ⟨Nat.le_of_ble_eq_true rfl, Nat.le_of_ble_eq_true rfl⟩) hK hP [0, 1, 2, 3, 4, 5, 6] rfl 0 0 rfl rfl rfl hl.1 rfl (Nat.le_of_ble_eq_true rfl) dX0_alike_2 ⟨Nat.le_of_ble_eq_true rfl, Nat.le_of_ble_eq_true rfl⟩ (fun zv1 => ?_)
  refine lv_if_eq (tgt := 16) hx hb dX0_alike_5 (by decide) (fun c3 => ?_) (fun c3 => ?_)
  · have hf := oi_t c3 hf
    refine lv_iconst (v := (-1)) hx hb dX0_alike_16 (by decide) ?_
    exact rd_iret hx hb hr hlk (Option.some.inj hf) dX0_alike_17
  · have hf := oi_f c3 hf
    refine lv_aload_n hx hb dX0_alike_8 rfl (lv_at hl 0 rfl) ?_
    refine lv_iload_n hx hb dX0_alike_9 rfl (lv_at hl 2 rfl) ?_
    obtain ⟨v4, ev4, hf⟩ := ob hf
    refine rd_callVZ (As := [.int p2]) (rest := []) ⟨hx, hb, hml, hown, hts⟩ (mX0_isNode l D k xa ra xi rs p2 _ ev4) (cwV 1 hts (lw_V q534 q536 qs19 q90 q537) rfl rfl rfl ⟨rfl, hdX0_isNode⟩ ⟨Nat.le_of_ble_eq_true rfl, Nat.le_of_ble_eq_true rfl⟩) hK hP [0, 1, 2, 3, 4, 5, 6] rfl 0 0 rfl rfl rfl hl.1 rfl (Nat.le_of_ble_eq_true rfl) dX0_alike_10 ⟨Nat.le_of_ble_eq_true rfl, Nat.le_of_ble_eq_true rfl⟩ (fun zv4 => ?_)
    refine lv_if_ne (tgt := 18) hx hb dX0_alike_13 (by decide) (fun c6 => ?_) (fun c6 => ?_)
    · have hf := oi_f c6 hf
      refine lv_aload_n hx hb dX0_alike_18 rfl (lv_at hl 0 rfl) ?_
      refine lv_iload_n hx hb dX0_alike_19 rfl (lv_at hl 1 rfl) ?_
      obtain ⟨v7, ev7, hf⟩ := ob hf
      refine rd_callV (As := [.int p1]) (rest := []) ⟨hx, hb, hml, hown, hts⟩ (mX0_openOf l D k xa ra xi rs p1 _ ev7) (cwV 1 hts (lw_V q538 q540 qs20 q90 q541) rfl rfl rfl ⟨rfl, hdX0_openOf⟩ ⟨Nat.le_of_ble_eq_true rfl, Nat.le_of_ble_eq_true rfl⟩) hK hP [0, 1, 2, 3, 4, 5, 6] rfl 0 0 rfl rfl rfl hl.1 rfl (Nat.le_of_ble_eq_true rfl) dX0_alike_20 ⟨Nat.le_of_ble_eq_true rfl, Nat.le_of_ble_eq_true rfl⟩ ?_
      refine lv_istore_n (lv' := [(3, .int v7), (0, .ref (xa 0)), (1, .int p1), (2, .int p2)]) hx hb dX0_alike_23 rfl hl (by decide) rfl (fun ls hl => ?_)
      refine lv_aload_n hx hb dX0_alike_24 rfl (lv_at hl 1 rfl) ?_
      refine lv_iload_n hx hb dX0_alike_25 rfl (lv_at hl 3 rfl) ?_
      obtain ⟨v9, ev9, hf⟩ := ob hf
      refine rd_callV (As := [.int p2]) (rest := []) ⟨hx, hb, hml, hown, hts⟩ (mX0_openOf l D k xa ra xi rs p2 _ ev9) (cwV 1 hts (lw_V q538 q540 qs20 q90 q541) rfl rfl rfl ⟨rfl, hdX0_openOf⟩ ⟨Nat.le_of_ble_eq_true rfl, Nat.le_of_ble_eq_true rfl⟩) hK hP [0, 1, 2, 3, 4, 5, 6] rfl 0 0 rfl rfl rfl hl.1 rfl (Nat.le_of_ble_eq_true rfl) dX0_alike_26 ⟨Nat.le_of_ble_eq_true rfl, Nat.le_of_ble_eq_true rfl⟩ ?_
      refine lv_istore (lv' := [(4, .int v9), (3, .int v7), (0, .ref (xa 0)), (1, .int p1), (2, .int p2)]) hx hb dX0_alike_29 hl (by decide) rfl (fun ls hl => ?_)
      refine lv_iconst (v := 2) hx hb dX0_alike_31 (by decide) ?_
      refine lv_aload_n hx hb dX0_alike_32 rfl (lv_at hl 2 rfl) ?_
      refine lv_iload_n hx hb dX0_alike_33 rfl (lv_at hl 3 rfl) ?_
      obtain ⟨v11, ev11, hf⟩ := ob hf
      refine rd_callV (As := [.int p1]) (rest := [.int (2 : Int32)]) ⟨hx, hb, hml, hown, hts⟩ (mX0_sizeOf l D k xa ra xi rs p1 _ ev11) (cwV 1 hts (lw_V q578 q580 qs30 q90 q581) rfl rfl rfl ⟨rfl, hdX0_sizeOf⟩ ⟨Nat.le_of_ble_eq_true rfl, Nat.le_of_ble_eq_true rfl⟩) hK hP [0, 1, 2, 3, 4, 5, 6] rfl 0 0 rfl rfl rfl hl.1 rfl (Nat.le_of_ble_eq_true rfl) dX0_alike_34 ⟨Nat.le_of_ble_eq_true rfl, Nat.le_of_ble_eq_true rfl⟩ ?_
      refine lv_imul hx hb dX0_alike_37 ?_
      obtain ⟨y13, ey13, hf⟩ := ob hf
      refine x_asI ey13 ?_
      refine lv_istore (lv' := [(5, .int y13), (4, .int v9), (3, .int v7), (0, .ref (xa 0)), (1, .int p1), (2, .int p2)]) hx hb dX0_alike_38 hl (by decide) rfl (fun ls hl => ?_)
      refine lv_iload hx hb dX0_alike_40 (lv_at hl 0 rfl) ?_
      refine lv_iconst (v := 2) hx hb dX0_alike_42 (by decide) ?_
      refine lv_aload_n hx hb dX0_alike_43 rfl (lv_at hl 3 rfl) ?_
      refine lv_iload_n hx hb dX0_alike_44 rfl (lv_at hl 5 rfl) ?_
      obtain ⟨v14, ev14, hf⟩ := ob hf
      refine rd_callV (As := [.int p2]) (rest := [.int (2 : Int32), .int y13]) ⟨hx, hb, hml, hown, hts⟩ (mX0_sizeOf l D k xa ra xi rs p2 _ ev14) (cwV 1 hts (lw_V q578 q580 qs30 q90 q581) rfl rfl rfl ⟨rfl, hdX0_sizeOf⟩ ⟨Nat.le_of_ble_eq_true rfl, Nat.le_of_ble_eq_true rfl⟩) hK hP [0, 1, 2, 3, 4, 5, 6] rfl 0 0 rfl rfl rfl hl.1 rfl (Nat.le_of_ble_eq_true rfl) dX0_alike_45 ⟨Nat.le_of_ble_eq_true rfl, Nat.le_of_ble_eq_true rfl⟩ ?_
      refine lv_imul hx hb dX0_alike_48 ?_
      have hB57 : ∀ (x3_57 : Int32) (x4_57 : Int32) (x5_57 : Int32) (s0_57 : Int32), fX0_alike_B57 rs p1 p2 x3_57 x4_57 x5_57 s0_57 = some r → ∀ ls : Array Slot, lv_has ls 8 [(0, .ref (xa 0)), (3, .int x3_57), (4, .int x4_57), (5, .int x5_57)] → gR p l e rmX0_alike s m [.ref (xa 0), .int p1, .int p2] below meth c (vp_Si (fun x => x = r)) 57 ls [.int s0_57] := by
        intro x3_57 x4_57 x5_57 s0_57 hf ls hl
        unfold fX0_alike_B57 at hf
        refine lv_istore (lv' := [(6, .int s0_57), (0, .ref (xa 0)), (3, .int x3_57), (4, .int x4_57), (5, .int x5_57)]) hx hb dX0_alike_57 hl (by decide) rfl (fun ls hl => ?_)
        refine lv_iconst (v := 0) hx hb dX0_alike_59 (by decide) ?_
        refine lv_istore (lv' := [(7, .int (0 : Int32)), (6, .int s0_57), (0, .ref (xa 0)), (3, .int x3_57), (4, .int x4_57), (5, .int x5_57)]) hx hb dX0_alike_60 hl (by decide) rfl (fun ls hl => ?_)
        have hL62 : ∀ (nn : Nat) (x3_62 : Int32) (x4_62 : Int32) (x5_62 : Int32) (x6_62 : Int32) (x7_62 : Int32), fX0_alike_L62 rs p1 p2 nn x3_62 x4_62 x5_62 x6_62 x7_62 = some r → ∀ ls : Array Slot, lv_has ls 8 [(0, .ref (xa 0)), (3, .int x3_62), (4, .int x4_62), (5, .int x5_62), (6, .int x6_62), (7, .int x7_62)] → gR p l e rmX0_alike s m [.ref (xa 0), .int p1, .int p2] below meth c (vp_Si (fun x => x = r)) 62 ls [] := by
          intro nn62
          induction nn62 with
          | zero =>
            intro x3_62 x4_62 x5_62 x6_62 x7_62 hf
            rw [fX0_alike_L62] at hf; cases hf
          | succ nn62 ih62 =>
            intro x3_62 x4_62 x5_62 x6_62 x7_62 hf ls hl
            rw [fX0_alike_L62] at hf
            refine lv_iload hx hb dX0_alike_62 (lv_at hl 4 rfl) ?_
            have hB113 : ∀ (x6_113 : Int32), fX0_alike_B113 rs p1 p2 x6_113 = some r → ∀ ls : Array Slot, lv_has ls 8 [(6, .int x6_113)] → gR p l e rmX0_alike s m [.ref (xa 0), .int p1, .int p2] below meth c (vp_Si (fun x => x = r)) 113 ls [] := by
              intro x6_113 hf ls hl
              unfold fX0_alike_B113 at hf
              refine lv_iload hx hb dX0_alike_113 (lv_at hl 0 rfl) ?_
              refine lv_if_eq (tgt := 122) hx hb dX0_alike_115 (by decide) (fun c18 => ?_) (fun c18 => ?_)
              · have hf := oi_t c18 hf
                refine lv_iconst (v := 0) hx hb dX0_alike_122 (by decide) ?_
                exact rd_iret hx hb hr hlk (Option.some.inj hf) dX0_alike_123
              · have hf := oi_f c18 hf
                refine lv_iconst (v := 1) hx hb dX0_alike_118 (by decide) ?_
                refine lv_goto (tgt := 123) hx hb dX0_alike_119 (by decide) ?_
                exact rd_iret hx hb hr hlk (Option.some.inj hf) dX0_alike_123
            refine lv_if_eq (tgt := 113) hx hb dX0_alike_64 (by decide) (fun c17 => ?_) (fun c17 => ?_)
            · have hf := oi_t c17 hf
              exact hB113 x6_62 hf ls (lv_sub hl [4] rfl)
            · have hf := oi_f c17 hf
              refine lv_iload hx hb dX0_alike_67 (lv_at hl 5 rfl) ?_
              refine lv_iload hx hb dX0_alike_69 (lv_at hl 3 rfl) ?_
              refine lv_icmp_ge (tgt := 113) hx hb dX0_alike_71 (by decide) (fun c19 => ?_) (fun c19 => ?_)
              · have hf := oi_t c19 hf
                exact hB113 x6_62 hf ls (lv_sub hl [4] rfl)
              · have hf := oi_f c19 hf
                refine lv_aload_n hx hb dX0_alike_74 rfl (lv_at hl 0 rfl) ?_
                refine va_get (D := D) (cl := vwCl) (ci := 0) (v := .ref (ra 0 0)) (C := RX0) (T := TX0) (N := 15) hx hb hts in_X0 hown hK.1 hP 0 rfl rfl 0 (by decide) (hts _ q190) (fun _ h9 => h9) rfl dX0_alike_75 ?_
                refine lv_iload_n hx hb dX0_alike_78 rfl (lv_at hl 1 rfl) ?_
                refine lv_iload hx hb dX0_alike_79 (lv_at hl 5 rfl) ?_
                refine lv_iadd hx hb dX0_alike_81 ?_
                obtain ⟨v20, ev20, hf⟩ := ob hf
                refine rd_callVZ (As := [.int (x3_62 + x7_62)]) (rest := []) ⟨hx, hb, hml, hown, hts⟩ (mX1_isOpen l D k (ra 0) rs (x3_62 + x7_62) _ ev20) (cwV 1 hts (lw_V q439 q184 q185 q91 q186) rfl rfl rfl ⟨rfl, hdX1_isOpen⟩ ⟨Nat.le_of_ble_eq_true rfl, Nat.le_of_ble_eq_true rfl⟩) hK hP [1, 2, 3, 4, 5, 6] rfl 1 1 rfl rfl rfl hl.1 rfl (Nat.le_of_ble_eq_true rfl) dX0_alike_82 ⟨Nat.le_of_ble_eq_true rfl, Nat.le_of_ble_eq_true rfl⟩ (fun zv20 => ?_)
                refine lv_aload_n hx hb dX0_alike_85 rfl (lv_at hl 0 rfl) ?_
                refine va_get (D := D) (cl := vwCl) (ci := 0) (v := .ref (ra 0 0)) (C := RX0) (T := TX0) (N := 15) hx hb hts in_X0 hown hK.1 hP 0 rfl rfl 0 (by decide) (hts _ q190) (fun _ h9 => h9) rfl dX0_alike_86 ?_
                refine lv_iload hx hb dX0_alike_89 (lv_at hl 2 rfl) ?_
                refine lv_iload hx hb dX0_alike_91 (lv_at hl 5 rfl) ?_
                refine lv_iadd hx hb dX0_alike_93 ?_
                obtain ⟨v22, ev22, hf⟩ := ob hf
                refine rd_callVZ (As := [.int (x4_62 + x7_62)]) (rest := [.int v20]) ⟨hx, hb, hml, hown, hts⟩ (mX1_isOpen l D k (ra 0) rs (x4_62 + x7_62) _ ev22) (cwV 1 hts (lw_V q439 q184 q185 q91 q186) rfl rfl rfl ⟨rfl, hdX1_isOpen⟩ ⟨Nat.le_of_ble_eq_true rfl, Nat.le_of_ble_eq_true rfl⟩) hK hP [1, 2, 3, 4, 5, 6] rfl 1 1 rfl rfl rfl hl.1 rfl (Nat.le_of_ble_eq_true rfl) dX0_alike_94 ⟨Nat.le_of_ble_eq_true rfl, Nat.le_of_ble_eq_true rfl⟩ (fun zv22 => ?_)
                have hB105 : ∀ (x3_105 : Int32) (x4_105 : Int32) (x5_105 : Int32) (x7_105 : Int32) (s0_105 : Int32), fX0_alike_B105 rs p1 p2 (fX0_alike_L62 rs p1 p2 nn62) x3_105 x4_105 x5_105 x7_105 s0_105 = some r → ∀ ls : Array Slot, lv_has ls 8 [(0, .ref (xa 0)), (3, .int x3_105), (4, .int x4_105), (5, .int x5_105), (7, .int x7_105)] → gR p l e rmX0_alike s m [.ref (xa 0), .int p1, .int p2] below meth c (vp_Si (fun x => x = r)) 105 ls [.int s0_105] := by
                  intro x3_105 x4_105 x5_105 x7_105 s0_105 hf ls hl
                  unfold fX0_alike_B105 at hf
                  refine lv_istore (lv' := [(6, .int s0_105), (0, .ref (xa 0)), (3, .int x3_105), (4, .int x4_105), (5, .int x5_105), (7, .int x7_105)]) hx hb dX0_alike_105 hl (by decide) rfl (fun ls hl => ?_)
                  refine lv_iinc (v := (x7_105 + 1)) (lv' := [(7, .int (x7_105 + 1)), (6, .int s0_105), (0, .ref (xa 0)), (3, .int x3_105), (4, .int x4_105), (5, .int x5_105)]) hx hb dX0_alike_107 hl (k := 5) rfl rfl (by decide) rfl (fun ls hl => ?_)
                  refine lv_goto (tgt := 62) hx hb dX0_alike_110 (by decide) ?_
                  exact ih62 x3_105 x4_105 x5_105 s0_105 (x7_105 + 1) hf ls (lv_sub hl [2, 3, 4, 5, 1, 0] rfl)
                refine lv_icmp_ne (tgt := 104) hx hb dX0_alike_97 (by decide) (fun c24 => ?_) (fun c24 => ?_)
                · have hf := oi_f c24 hf
                  refine lv_iconst (v := 0) hx hb dX0_alike_104 (by decide) ?_
                  exact hB105 x3_62 x4_62 x5_62 x7_62 (0 : Int32) hf ls (lv_sub hl [0, 1, 2, 3, 5] rfl)
                · have hf := oi_t c24 hf
                  refine lv_iconst (v := 1) hx hb dX0_alike_100 (by decide) ?_
                  refine lv_goto (tgt := 105) hx hb dX0_alike_101 (by decide) ?_
                  exact hB105 x3_62 x4_62 x5_62 x7_62 (1 : Int32) hf ls (lv_sub hl [0, 1, 2, 3, 5] rfl)
        exact hL62 FU x3_57 x4_57 x5_57 s0_57 (0 : Int32) hf ls (lv_sub hl [2, 3, 4, 5, 1, 0] rfl)
      refine lv_icmp_ne (tgt := 56) hx hb dX0_alike_49 (by decide) (fun c16 => ?_) (fun c16 => ?_)
      · have hf := oi_f c16 hf
        refine lv_iconst (v := 0) hx hb dX0_alike_56 (by decide) ?_
        exact hB57 v7 v9 y13 (0 : Int32) hf ls (lv_sub hl [3, 2, 1, 0] rfl)
      · have hf := oi_t c16 hf
        refine lv_iconst (v := 1) hx hb dX0_alike_52 (by decide) ?_
        refine lv_goto (tgt := 57) hx hb dX0_alike_53 (by decide) ?_
        exact hB57 v7 v9 y13 (1 : Int32) hf ls (lv_sub hl [3, 2, 1, 0] rfl)
    · have hf := oi_t c6 hf
      refine lv_iconst (v := (-1)) hx hb dX0_alike_16 (by decide) ?_
      exact rd_iret hx hb hr hlk (Option.some.inj hf) dX0_alike_17

abbrev rmX0_weight : Room := { frames := 2, cells := 0, slots := 0, locals := 46 }
theorem hdX0_weight : yX0_weight.cls ≠ "java/lang/invoke/MethodHandle" ∧ yX0_weight.cls ≠ "java/lang/invoke/VarHandle" ∧ (parseMethodDescriptor yX0_weight.desc).map (fun d => d.parameters.length) = some 1 := by decide +kernel
set_option maxHeartbeats 4000000 in
theorem mX0_weight (l : Launch) (D : va_G) (k : Nat → ClassId) (xa : Nat → Nat) (ra : Nat → Nat → Nat) (xi : Nat → Int32) (rs : RS) (p1 : Int32) (r : Int32) (hf : fX0_weight rs p1 = some r) : CtI l yX0_weight cX0_weight 2 rmX0_weight [.ref (xa 0), .int p1] D k (wN k xa ra xi rs) r := by
  refine rd_start (by decide +kernel) (Nat.le_of_ble_eq_true rfl) ?_
  intro p e s m below meth c ls hx hb hr hlk hml hown hts hP hK hl
  have hl : lv_has ls 2 [(0, .ref (xa 0)), (1, .int p1)] := hl
  have hown : s.vm.findClass RX0 = some m.cls := hown
  unfold fX0_weight at hf
  refine lv_aload_n hx hb dX0_weight_0 rfl (lv_at hl 0 rfl) ?_
  refine lv_iload_n hx hb dX0_weight_1 rfl (lv_at hl 1 rfl) ?_
  obtain ⟨v1, ev1, hf⟩ := ob hf
  refine rd_callVZ (As := [.int p1]) (rest := []) ⟨hx, hb, hml, hown, hts⟩ (mX0_isNode l D k xa ra xi rs p1 _ ev1) (cwV 1 hts (lw_V q534 q536 qs19 q90 q537) rfl rfl rfl ⟨rfl, hdX0_isNode⟩ ⟨Nat.le_of_ble_eq_true rfl, Nat.le_of_ble_eq_true rfl⟩) hK hP [0, 1, 2, 3, 4, 5, 6] rfl 0 0 rfl rfl rfl hl.1 rfl (Nat.le_of_ble_eq_true rfl) dX0_weight_2 ⟨Nat.le_of_ble_eq_true rfl, Nat.le_of_ble_eq_true rfl⟩ (fun zv1 => ?_)
  refine lv_if_eq (tgt := 20) hx hb dX0_weight_5 (by decide) (fun c3 => ?_) (fun c3 => ?_)
  · have hf := oi_t c3 hf
    refine lv_iconst (v := (-1)) hx hb dX0_weight_20 (by decide) ?_
    exact rd_iret hx hb hr hlk (Option.some.inj hf) dX0_weight_21
  · have hf := oi_f c3 hf
    refine lv_aload_n hx hb dX0_weight_8 rfl (lv_at hl 0 rfl) ?_
    refine va_get (D := D) (cl := vwCl) (ci := 0) (v := .ref (ra 0 0)) (C := RX0) (T := TX0) (N := 15) hx hb hts in_X0 hown hK.1 hP 0 rfl rfl 0 (by decide) (hts _ q190) (fun _ h9 => h9) rfl dX0_weight_9 ?_
    refine va_getN (D := D) (cl := vwCl) (ci := 1) (v := .ref (ra 0 2)) (C := RX1) (T := TX1) (N := 6) hx hb hts in_X1 hown hK.1 hP 1 rfl rfl 2 (by decide) (hK.nw 3 rfl) (fun _ h9 => h9) rfl dX0_weight_12 ?_
    refine lv_iload_n hx hb dX0_weight_15 rfl (lv_at hl 1 rfl) ?_
    obtain ⟨v4, ev4, hf⟩ := ob hf
    refine x_iald hx hb hK hP 3 1 ev4 rfl rfl dX0_weight_16 ?_
    refine lv_goto (tgt := 21) hx hb dX0_weight_17 (by decide) ?_
    exact rd_iret hx hb hr hlk (Option.some.inj hf) dX0_weight_21

abbrev rmX0_set : Room := { frames := 2, cells := 0, slots := 0, locals := 46 }
theorem hdX0_set : yX0_set.cls ≠ "java/lang/invoke/MethodHandle" ∧ yX0_set.cls ≠ "java/lang/invoke/VarHandle" ∧ (parseMethodDescriptor yX0_set.desc).map (fun d => d.parameters.length) = some 2 := by decide +kernel
abbrev qcX0_set (D : va_G) (k : Nat → ClassId) (xa : Nat → Nat) (ra : Nat → Nat → Nat) (xi : Nat → Int32) (rs : RS) (r : Int32) (A : Nat → Prop) : Array Value → State → Outcome → State → Prop := va_Qi (fun x (_ : Unit) => x = r) (fun _ t => va_P D vwCl (wN k xa ra xi rs) t.heap) A
set_option maxHeartbeats 4000000 in
theorem mX0_set (l : Launch) (D : va_G) (k : Nat → ClassId) (xa : Nat → Nat) (ra : Nat → Nat → Nat) (xi : Nat → Int32) (rs : RS) (p1 : Int32) (p2 : Int32) (sz : Nat) (r : Int32) (rs_o : RS) (hf : fX0_set rs p1 p2 = some (r, rs_o)) : Met l yX0_set (ws_ yX0_set cX0_set 4 (some .int)) rmX0_set (wrP D k (wN k xa ra xi rs) sz [.ref (xa 0), .int p1, .int p2]) (qcX0_set D k xa ra xi rs_o r (va_A (wN k xa ra xi rs) sz)) 0 0 (va_A (wN k xa ra xi rs) sz) := by
  refine wr_start (Qc := fun A => qcX0_set D k xa ra xi rs_o r A) (by decide +kernel) (Nat.le_of_ble_eq_true rfl) ?_
  intro p e s m below meth c ls A hA hx hb hr hlk hml hown hts hP hK hD hl
  have hl : lv_has ls 4 [(0, .ref (xa 0)), (1, .int p1), (2, .int p2)] := hl
  have hown : s.vm.findClass RX0 = some m.cls := hown
  have hS : va_S A s.heap s.heap [] := va_S.rf
  suffices hw : ∀ (H : Heap) (locs : List Loc), va_P D vwCl (wN k xa ra xi rs) H → va_S A s.heap H locs → gW p l e rmX0_set s m [.ref (xa 0), .int p1, .int p2] below meth c (qcX0_set D k xa ra xi rs_o r A) A 0 0 H locs 0 ls [] from hw s.heap [] hP hS
  clear hP hS
  intro H locs hP hS
  unfold fX0_set at hf
  refine lv_aload_n hx hb dX0_set_0 rfl (lv_at hl 0 rfl) ?_
  refine lv_iload_n hx hb dX0_set_1 rfl (lv_at hl 1 rfl) ?_
  obtain ⟨v1, ev1, hf⟩ := ob hf
  refine rd_callVZ (As := [.int p1]) (rest := []) ⟨hx, hb, hml, hown, hts⟩ (mX0_isNode l D k xa ra xi rs p1 _ ev1) (cwV 1 hts (lw_V q534 q536 qs19 q90 q537) rfl rfl rfl ⟨rfl, hdX0_isNode⟩ ⟨Nat.le_of_ble_eq_true rfl, Nat.le_of_ble_eq_true rfl⟩) hK hP [0, 1, 2, 3, 4, 5, 6] rfl 0 0 rfl rfl rfl hl.1 rfl (Nat.le_of_ble_eq_true rfl) dX0_set_2 ⟨Nat.le_of_ble_eq_true rfl, Nat.le_of_ble_eq_true rfl⟩ (fun zv1 => ?_)
  refine lv_if_eq (tgt := 12) hx hb dX0_set_5 (by decide) (fun c3 => ?_) (fun c3 => ?_)
  · have hf := oi_t c3 hf
    refine lv_iconst (v := (-1)) hx hb dX0_set_12 (by decide) ?_
    obtain ⟨he1, he2⟩ := prod2 hf
    rw [he2] at hP
    exact wr_iret hx hb hr hlk he1 hP hS dX0_set_13
  · have hf := oi_f c3 hf
    refine lv_iload_n hx hb dX0_set_8 rfl (lv_at hl 2 rfl) ?_
    refine lv_if_ge (tgt := 14) hx hb dX0_set_9 (by decide) (fun c4 => ?_) (fun c4 => ?_)
    · have hf := oi_t c4 hf
      refine lv_aload_n hx hb dX0_set_14 rfl (lv_at hl 0 rfl) ?_
      refine va_get (D := D) (cl := vwCl) (ci := 0) (v := .ref (ra 0 0)) (C := RX0) (T := TX0) (N := 15) hx hb hts in_X0 hown hK.1 hP 0 rfl rfl 0 (by decide) (hts _ q190) (fun _ h9 => h9) rfl dX0_set_15 ?_
      refine va_getN (D := D) (cl := vwCl) (ci := 1) (v := .ref (ra 0 2)) (C := RX1) (T := TX1) (N := 6) hx hb hts in_X1 hown hK.1 hP 1 rfl rfl 2 (by decide) (hK.nw 3 rfl) (fun _ h9 => h9) rfl dX0_set_18 ?_
      refine lv_iload_n hx hb dX0_set_21 rfl (lv_at hl 1 rfl) ?_
      obtain ⟨v5, ev5, hf⟩ := ob hf
      refine x_iald hx hb hK hP 3 1 ev5 rfl rfl dX0_set_22 ?_
      refine lv_istore_n (lv' := [(3, .int v5), (0, .ref (xa 0)), (1, .int p1), (2, .int p2)]) hx hb dX0_set_23 rfl hl (by decide) rfl (fun ls hl => ?_)
      refine lv_aload_n hx hb dX0_set_24 rfl (lv_at hl 1 rfl) ?_
      refine va_get (D := D) (cl := vwCl) (ci := 0) (v := .ref (ra 0 0)) (C := RX0) (T := TX0) (N := 15) hx hb hts in_X0 hown hK.1 hP 0 rfl rfl 0 (by decide) (hts _ q190) (fun _ h9 => h9) rfl dX0_set_25 ?_
      refine va_getN (D := D) (cl := vwCl) (ci := 1) (v := .ref (ra 0 2)) (C := RX1) (T := TX1) (N := 6) hx hb hts in_X1 hown hK.1 hP 1 rfl rfl 2 (by decide) (hK.nw 3 rfl) (fun _ h9 => h9) rfl dX0_set_28 ?_
      refine lv_iload_n hx hb dX0_set_31 rfl (lv_at hl 2 rfl) ?_
      refine lv_iload_n hx hb dX0_set_32 rfl (lv_at hl 3 rfl) ?_
      obtain ⟨u6, eu6, hf⟩ := ob hf
      refine x_iast hx hb hK hP hD hS 3 1 eu6 rfl rfl (wN k xa ra xi (rsT rs u6)) rfl dX0_set_33 (fun H locs hP hD hS => ?_)
      refine lv_iload_n hx hb dX0_set_34 rfl (lv_at hl 0 rfl) ?_
      obtain ⟨he1, he2⟩ := prod2 hf
      rw [he2] at hP
      exact wr_iret hx hb hr hlk he1 hP hS dX0_set_35
    · have hf := oi_f c4 hf
      refine lv_iconst (v := (-1)) hx hb dX0_set_12 (by decide) ?_
      obtain ⟨he1, he2⟩ := prod2 hf
      rw [he2] at hP
      exact wr_iret hx hb hr hlk he1 hP hS dX0_set_13

abbrev rmX0_heaviest : Room := { frames := 7, cells := 0, slots := 0, locals := 158 }
theorem hdX0_heaviest : yX0_heaviest.cls ≠ "java/lang/invoke/MethodHandle" ∧ yX0_heaviest.cls ≠ "java/lang/invoke/VarHandle" ∧ (parseMethodDescriptor yX0_heaviest.desc).map (fun d => d.parameters.length) = some 1 := by decide +kernel
set_option maxHeartbeats 4000000 in
theorem mX0_heaviest (l : Launch) (D : va_G) (k : Nat → ClassId) (xa : Nat → Nat) (ra : Nat → Nat → Nat) (xi : Nat → Int32) (rs : RS) (p1 : Int32) (r : Int32) (hf : fX0_heaviest rs p1 = some r) : CtI l yX0_heaviest cX0_heaviest 4 rmX0_heaviest [.ref (xa 0), .int p1] D k (wN k xa ra xi rs) r := by
  refine rd_start (by decide +kernel) (Nat.le_of_ble_eq_true rfl) ?_
  intro p e s m below meth c ls hx hb hr hlk hml hown hts hP hK hl
  have hl : lv_has ls 4 [(0, .ref (xa 0)), (1, .int p1)] := hl
  have hown : s.vm.findClass RX0 = some m.cls := hown
  unfold fX0_heaviest at hf
  refine lv_aload_n hx hb dX0_heaviest_0 rfl (lv_at hl 0 rfl) ?_
  refine lv_iload_n hx hb dX0_heaviest_1 rfl (lv_at hl 1 rfl) ?_
  obtain ⟨v1, ev1, hf⟩ := ob hf
  refine rd_callVZ (As := [.int p1]) (rest := []) ⟨hx, hb, hml, hown, hts⟩ (mX0_isNode l D k xa ra xi rs p1 _ ev1) (cwV 1 hts (lw_V q534 q536 qs19 q90 q537) rfl rfl rfl ⟨rfl, hdX0_isNode⟩ ⟨Nat.le_of_ble_eq_true rfl, Nat.le_of_ble_eq_true rfl⟩) hK hP [0, 1, 2, 3, 4, 5, 6] rfl 0 0 rfl rfl rfl hl.1 rfl (Nat.le_of_ble_eq_true rfl) dX0_heaviest_2 ⟨Nat.le_of_ble_eq_true rfl, Nat.le_of_ble_eq_true rfl⟩ (fun zv1 => ?_)
  refine lv_if_ne (tgt := 10) hx hb dX0_heaviest_5 (by decide) (fun c3 => ?_) (fun c3 => ?_)
  · have hf := oi_f c3 hf
    refine lv_iload_n hx hb dX0_heaviest_10 rfl (lv_at hl 1 rfl) ?_
    refine lv_istore_n (lv' := [(2, .int p1), (0, .ref (xa 0)), (1, .int p1)]) hx hb dX0_heaviest_11 rfl hl (by decide) rfl (fun ls hl => ?_)
    refine lv_iload_n hx hb dX0_heaviest_12 rfl (lv_at hl 2 rfl) ?_
    refine lv_iconst (v := 1) hx hb dX0_heaviest_13 (by decide) ?_
    refine lv_iadd hx hb dX0_heaviest_14 ?_
    obtain ⟨y4, ey4, hf⟩ := ob hf
    refine x_asI ey4 ?_
    refine lv_istore_n (lv' := [(3, .int y4), (2, .int p1), (0, .ref (xa 0)), (1, .int p1)]) hx hb dX0_heaviest_15 rfl hl (by decide) rfl (fun ls hl => ?_)
    have hL16 : ∀ (nn : Nat) (x2_16 : Int32) (x3_16 : Int32), fX0_heaviest_L16 rs p1 nn x2_16 x3_16 = some r → ∀ ls : Array Slot, lv_has ls 4 [(0, .ref (xa 0)), (1, .int p1), (2, .int x2_16), (3, .int x3_16)] → gR p l e rmX0_heaviest s m [.ref (xa 0), .int p1] below meth c (vp_Si (fun x => x = r)) 16 ls [] := by
      intro nn16
      induction nn16 with
      | zero =>
        intro x2_16 x3_16 hf
        rw [fX0_heaviest_L16] at hf; cases hf
      | succ nn16 ih16 =>
        intro x2_16 x3_16 hf ls hl
        rw [fX0_heaviest_L16] at hf
        refine lv_iload_n hx hb dX0_heaviest_16 rfl (lv_at hl 3 rfl) ?_
        refine lv_iload_n hx hb dX0_heaviest_17 rfl (lv_at hl 1 rfl) ?_
        refine lv_aload_n hx hb dX0_heaviest_18 rfl (lv_at hl 0 rfl) ?_
        refine lv_iload_n hx hb dX0_heaviest_19 rfl (lv_at hl 1 rfl) ?_
        obtain ⟨v5, ev5, hf⟩ := ob hf
        refine rd_callV (As := [.int p1]) (rest := [.int p1, .int x3_16]) ⟨hx, hb, hml, hown, hts⟩ (mX0_sizeOf l D k xa ra xi rs p1 _ ev5) (cwV 1 hts (lw_V q578 q580 qs30 q90 q581) rfl rfl rfl ⟨rfl, hdX0_sizeOf⟩ ⟨Nat.le_of_ble_eq_true rfl, Nat.le_of_ble_eq_true rfl⟩) hK hP [0, 1, 2, 3, 4, 5, 6] rfl 0 0 rfl rfl rfl hl.1 rfl (Nat.le_of_ble_eq_true rfl) dX0_heaviest_20 ⟨Nat.le_of_ble_eq_true rfl, Nat.le_of_ble_eq_true rfl⟩ ?_
        refine lv_iadd hx hb dX0_heaviest_23 ?_
        refine lv_icmp_ge (tgt := 60) hx hb dX0_heaviest_24 (by decide) (fun c7 => ?_) (fun c7 => ?_)
        · have hf := oi_t c7 hf
          refine lv_iload_n hx hb dX0_heaviest_60 rfl (lv_at hl 2 rfl) ?_
          exact rd_iret hx hb hr hlk (Option.some.inj hf) dX0_heaviest_61
        · have hf := oi_f c7 hf
          refine lv_aload_n hx hb dX0_heaviest_27 rfl (lv_at hl 0 rfl) ?_
          refine va_get (D := D) (cl := vwCl) (ci := 0) (v := .ref (ra 0 0)) (C := RX0) (T := TX0) (N := 15) hx hb hts in_X0 hown hK.1 hP 0 rfl rfl 0 (by decide) (hts _ q190) (fun _ h9 => h9) rfl dX0_heaviest_28 ?_
          refine va_getN (D := D) (cl := vwCl) (ci := 1) (v := .ref (ra 0 2)) (C := RX1) (T := TX1) (N := 6) hx hb hts in_X1 hown hK.1 hP 1 rfl rfl 2 (by decide) (hK.nw 3 rfl) (fun _ h9 => h9) rfl dX0_heaviest_31 ?_
          refine lv_iload_n hx hb dX0_heaviest_34 rfl (lv_at hl 3 rfl) ?_
          obtain ⟨v8, ev8, hf⟩ := ob hf
          refine x_iald hx hb hK hP 3 1 ev8 rfl rfl dX0_heaviest_35 ?_
          refine lv_aload_n hx hb dX0_heaviest_36 rfl (lv_at hl 0 rfl) ?_
          refine va_get (D := D) (cl := vwCl) (ci := 0) (v := .ref (ra 0 0)) (C := RX0) (T := TX0) (N := 15) hx hb hts in_X0 hown hK.1 hP 0 rfl rfl 0 (by decide) (hts _ q190) (fun _ h9 => h9) rfl dX0_heaviest_37 ?_
          refine va_getN (D := D) (cl := vwCl) (ci := 1) (v := .ref (ra 0 2)) (C := RX1) (T := TX1) (N := 6) hx hb hts in_X1 hown hK.1 hP 1 rfl rfl 2 (by decide) (hK.nw 3 rfl) (fun _ h9 => h9) rfl dX0_heaviest_40 ?_
          refine lv_iload_n hx hb dX0_heaviest_43 rfl (lv_at hl 2 rfl) ?_
          obtain ⟨v9, ev9, hf⟩ := ob hf
          refine x_iald hx hb hK hP 3 1 ev9 rfl rfl dX0_heaviest_44 ?_
          have hB53 : ∀ (x3_53 : Int32) (s0_53 : Int32), fX0_heaviest_B53 rs p1 (fX0_heaviest_L16 rs p1 nn16) x3_53 s0_53 = some r → ∀ ls : Array Slot, lv_has ls 4 [(0, .ref (xa 0)), (1, .int p1), (3, .int x3_53)] → gR p l e rmX0_heaviest s m [.ref (xa 0), .int p1] below meth c (vp_Si (fun x => x = r)) 53 ls [.int s0_53] := by
            intro x3_53 s0_53 hf ls hl
            unfold fX0_heaviest_B53 at hf
            refine lv_istore_n (lv' := [(2, .int s0_53), (0, .ref (xa 0)), (1, .int p1), (3, .int x3_53)]) hx hb dX0_heaviest_53 rfl hl (by decide) rfl (fun ls hl => ?_)
            refine lv_iinc (v := (x3_53 + 1)) (lv' := [(3, .int (x3_53 + 1)), (2, .int s0_53), (0, .ref (xa 0)), (1, .int p1)]) hx hb dX0_heaviest_54 hl (k := 3) rfl rfl (by decide) rfl (fun ls hl => ?_)
            refine lv_goto (tgt := 16) hx hb dX0_heaviest_57 (by decide) ?_
            exact ih16 s0_53 (x3_53 + 1) hf ls (lv_sub hl [2, 3, 1, 0] rfl)
          refine lv_icmp_le (tgt := 52) hx hb dX0_heaviest_45 (by decide) (fun c10 => ?_) (fun c10 => ?_)
          · have hf := oi_t c10 hf
            refine lv_iload_n hx hb dX0_heaviest_52 rfl (lv_at hl 2 rfl) ?_
            exact hB53 x3_16 x2_16 hf ls (lv_sub hl [0, 1, 3] rfl)
          · have hf := oi_f c10 hf
            refine lv_iload_n hx hb dX0_heaviest_48 rfl (lv_at hl 3 rfl) ?_
            refine lv_goto (tgt := 53) hx hb dX0_heaviest_49 (by decide) ?_
            exact hB53 x3_16 x3_16 hf ls (lv_sub hl [0, 1, 3] rfl)
    exact hL16 FU p1 y4 hf ls (lv_sub hl [2, 3, 1, 0] rfl)
  · have hf := oi_t c3 hf
    refine lv_iconst (v := (-1)) hx hb dX0_heaviest_8 (by decide) ?_
    exact rd_iret hx hb hr hlk (Option.some.inj hf) dX0_heaviest_9

abbrev rmX0_bitComes : Room := { frames := 1, cells := 0, slots := 0, locals := 24 }
theorem hdX0_bitComes : yX0_bitComes.cls ≠ "java/lang/invoke/MethodHandle" ∧ yX0_bitComes.cls ≠ "java/lang/invoke/VarHandle" ∧ (parseMethodDescriptor yX0_bitComes.desc).map (fun d => d.parameters.length) = some 2 := by decide +kernel
abbrev qcX0_bitComes (D : va_G) (k : Nat → ClassId) (xa : Nat → Nat) (ra : Nat → Nat → Nat) (xi : Nat → Int32) (rs : RS) (A : Nat → Prop) : Array Value → State → Outcome → State → Prop := va_Qv (fun (_ : Unit) => True) (fun _ t => va_P D vwCl (wN k xa ra xi rs) t.heap) A
set_option maxHeartbeats 4000000 in
theorem mX0_bitComes (l : Launch) (D : va_G) (k : Nat → ClassId) (xa : Nat → Nat) (ra : Nat → Nat → Nat) (xi : Nat → Int32) (rs : RS) (p1 : Int32) (p2 : Int32) (sz : Nat) (rs_o : RS) (hf : fX0_bitComes rs p1 p2 = some rs_o) : Met l yX0_bitComes (ws_ yX0_bitComes cX0_bitComes 4 none) rmX0_bitComes (wrP D k (wN k xa ra xi rs) sz [.ref (xa 0), .int p1, .int p2]) (qcX0_bitComes D k xa ra xi rs_o (va_A (wN k xa ra xi rs) sz)) 0 0 (va_A (wN k xa ra xi rs) sz) := by
  refine wr_start (Qc := fun A => qcX0_bitComes D k xa ra xi rs_o A) (by decide +kernel) (Nat.le_of_ble_eq_true rfl) ?_
  intro p e s m below meth c ls A hA hx hb hr hlk hml hown hts hP hK hD hl
  have hl : lv_has ls 4 [(0, .ref (xa 0)), (1, .int p1), (2, .int p2)] := hl
  have hown : s.vm.findClass RX0 = some m.cls := hown
  have hS : va_S A s.heap s.heap [] := va_S.rf
  suffices hw : ∀ (H : Heap) (locs : List Loc), va_P D vwCl (wN k xa ra xi rs) H → va_S A s.heap H locs → gW p l e rmX0_bitComes s m [.ref (xa 0), .int p1, .int p2] below meth c (qcX0_bitComes D k xa ra xi rs_o A) A 0 0 H locs 0 ls [] from hw s.heap [] hP hS
  clear hP hS
  intro H locs hP hS
  unfold fX0_bitComes at hf
  refine lv_aload_n hx hb dX0_bitComes_0 rfl (lv_at hl 0 rfl) ?_
  refine va_get (D := D) (cl := vwCl) (ci := 0) (v := .ref (ra 0 0)) (C := RX0) (T := TX0) (N := 15) hx hb hts in_X0 hown hK.1 hP 0 rfl rfl 0 (by decide) (hts _ q190) (fun _ h9 => h9) rfl dX0_bitComes_1 ?_
  refine va_getN (D := D) (cl := vwCl) (ci := 1) (v := .int (rP rs)) (C := RX1) (T := TX1) (N := 6) hx hb hts in_X1 hown hK.1 hP 1 rfl rfl 1 (by decide) (hK.nw 2 rfl) (fun _ h9 => h9) rfl dX0_bitComes_4 ?_
  obtain ⟨y1, ey1, hf⟩ := ob hf
  refine x_asI ey1 ?_
  refine lv_istore_n (lv' := [(3, .int y1), (0, .ref (xa 0)), (1, .int p1), (2, .int p2)]) hx hb dX0_bitComes_7 rfl hl (by decide) rfl (fun ls hl => ?_)
  have hL8 : ∀ (nn : Nat) (rs_8 : RS) (x3_8 : Int32), ∀ (H : Heap) (locs : List Loc), va_P D vwCl (wN k xa ra xi rs_8) H → va_D A (wN k xa ra xi rs_8) → va_S A s.heap H locs → fX0_bitComes_L8 p1 p2 nn rs_8 x3_8 = some rs_o → ∀ ls : Array Slot, lv_has ls 4 [(0, .ref (xa 0)), (1, .int p1), (2, .int p2), (3, .int x3_8)] → gW p l e rmX0_bitComes s m [.ref (xa 0), .int p1, .int p2] below meth c (qcX0_bitComes D k xa ra xi rs_o A) A 0 0 H locs 8 ls [] := by
    intro nn8
    induction nn8 with
    | zero =>
      intro rs_8 x3_8 H locs hP hD hS hf
      rw [fX0_bitComes_L8] at hf; cases hf
    | succ nn8 ih8 =>
      intro rs_8 x3_8 H locs hP hD hS hf ls hl
      rw [fX0_bitComes_L8] at hf
      refine lv_iload_n hx hb dX0_bitComes_8 rfl (lv_at hl 3 rfl) ?_
      refine lv_iload_n hx hb dX0_bitComes_9 rfl (lv_at hl 1 rfl) ?_
      refine lv_icmp_le (tgt := 37) hx hb dX0_bitComes_10 (by decide) (fun c2 => ?_) (fun c2 => ?_)
      · have hf := oi_t c2 hf
        refine lv_aload_n hx hb dX0_bitComes_37 rfl (lv_at hl 0 rfl) ?_
        refine va_get (D := D) (cl := vwCl) (ci := 0) (v := .ref (ra 0 0)) (C := RX0) (T := TX0) (N := 15) hx hb hts in_X0 hown hK.1 hP 0 rfl rfl 0 (by decide) (hts _ q190) (fun _ h9 => h9) rfl dX0_bitComes_38 ?_
        refine lv_iload_n hx hb dX0_bitComes_41 rfl (lv_at hl 1 rfl) ?_
        refine lv_iload_n hx hb dX0_bitComes_42 rfl (lv_at hl 2 rfl) ?_
        obtain ⟨g3, et4, hf⟩ := ob hf
        refine wr_callVv (As := [.int p1, .int p2]) (rest := []) ⟨hx, hb, hml, hown, hts⟩ (mX1_becomes l D k (ra 0) rs_8 p1 p2 _ _ et4) (cwV 2 hts (lw_V q725 q397 q398 q91 q399) rfl rfl rfl ⟨rfl, hdX1_becomes⟩ ⟨Nat.le_of_ble_eq_true rfl, Nat.le_of_ble_eq_true rfl⟩) hK hP hD hS hA [1, 2, 3, 4, 5, 6] [0] (wN k xa ra xi g3) rfl rfl (fm_c (fm_e _ rfl rfl) fm_n) 7 rfl (by decide) (by decide) [(xa 0), (ra 0 0), (ra 0 1), (ra 0 2), (ra 0 3), (ra 0 4), (ra 0 5)] rfl rfl 1 1 rfl rfl rfl hl.1 rfl (Nat.le_of_ble_eq_true rfl) dX0_bitComes_43 ⟨Nat.le_of_ble_eq_true rfl, Nat.le_of_ble_eq_true rfl⟩ (fun H locs hP hD hS => ?_)
        refine lv_aload_n hx hb dX0_bitComes_46 rfl (lv_at hl 0 rfl) ?_
        refine va_get (D := D) (cl := vwCl) (ci := 0) (v := .ref (ra 0 0)) (C := RX0) (T := TX0) (N := 15) hx hb hts in_X0 hown hK.1 hP 0 rfl rfl 0 (by decide) (hts _ q190) (fun _ h9 => h9) rfl dX0_bitComes_47 ?_
        refine lv_dup hx hb dX0_bitComes_50 rfl ?_
        refine va_getN (D := D) (cl := vwCl) (ci := 1) (v := .int (rP g3)) (C := RX1) (T := TX1) (N := 6) hx hb hts in_X1 hown hK.1 hP 1 rfl rfl 1 (by decide) (hK.nw 2 rfl) (fun _ h9 => h9) rfl dX0_bitComes_51 ?_
        refine lv_iconst (v := 1) hx hb dX0_bitComes_54 (by decide) ?_
        refine lv_iadd hx hb dX0_bitComes_55 ?_
        refine va_putN (D := D) (cl := vwCl) (ci := 1) (v := .int ((rP g3) + (1 : Int32))) (ty := .int) (C := RX1) (T := TX1) (N := 6) hx hb hts in_X1 tyX1 tyX1_ok nmX1 hown hK.1 hP hD hS 1 rfl rfl 1 (by decide) (hK.nw 2 rfl) (fun _ h9 => h9) rfl (by decide +kernel) rfl rfl (Nat.le_of_ble_eq_true rfl) dX0_bitComes_56 (fun H locs hP hD hS => ?_)
        have hP : va_P D vwCl (wN k xa ra xi (rsP g3 ((rP g3) + (1 : Int32)))) H := hP
        have hD : va_D A (wN k xa ra xi (rsP g3 ((rP g3) + (1 : Int32)))) := hD
        have he1 := Option.some.inj hf
        rw [he1] at hP
        exact wr_vret hx hb hr hlk hP hS dX0_bitComes_59
      · have hf := oi_f c2 hf
        refine lv_aload_n hx hb dX0_bitComes_13 rfl (lv_at hl 0 rfl) ?_
        refine va_get (D := D) (cl := vwCl) (ci := 0) (v := .ref (ra 0 0)) (C := RX0) (T := TX0) (N := 15) hx hb hts in_X0 hown hK.1 hP 0 rfl rfl 0 (by decide) (hts _ q190) (fun _ h9 => h9) rfl dX0_bitComes_14 ?_
        refine lv_iload_n hx hb dX0_bitComes_17 rfl (lv_at hl 3 rfl) ?_
        refine lv_aload_n hx hb dX0_bitComes_18 rfl (lv_at hl 0 rfl) ?_
        refine va_get (D := D) (cl := vwCl) (ci := 0) (v := .ref (ra 0 0)) (C := RX0) (T := TX0) (N := 15) hx hb hts in_X0 hown hK.1 hP 0 rfl rfl 0 (by decide) (hts _ q190) (fun _ h9 => h9) rfl dX0_bitComes_19 ?_
        refine lv_iload_n hx hb dX0_bitComes_22 rfl (lv_at hl 3 rfl) ?_
        refine lv_iconst (v := 1) hx hb dX0_bitComes_23 (by decide) ?_
        refine lv_isub hx hb dX0_bitComes_24 ?_
        obtain ⟨v5, ev5, hf⟩ := ob hf
        refine rd_callVZ (As := [.int (x3_8 - (1 : Int32))]) (rest := [.int x3_8, .ref (ra 0 0)]) ⟨hx, hb, hml, hown, hts⟩ (mX1_isOpen l D k (ra 0) rs_8 (x3_8 - (1 : Int32)) _ ev5) (cwV 1 hts (lw_V q439 q184 q185 q91 q186) rfl rfl rfl ⟨rfl, hdX1_isOpen⟩ ⟨Nat.le_of_ble_eq_true rfl, Nat.le_of_ble_eq_true rfl⟩) hK hP [1, 2, 3, 4, 5, 6] rfl 1 1 rfl rfl rfl hl.1 rfl (Nat.le_of_ble_eq_true rfl) dX0_bitComes_25 ⟨Nat.le_of_ble_eq_true rfl, Nat.le_of_ble_eq_true rfl⟩ (fun zv5 => ?_)
        obtain ⟨g7, et8, hf⟩ := ob hf
        refine wr_callVv (As := [.int x3_8, .int v5]) (rest := []) ⟨hx, hb, hml, hown, hts⟩ (mX1_becomes l D k (ra 0) rs_8 x3_8 v5 _ _ et8) (cwV 2 hts (lw_V q725 q397 q398 q91 q399) rfl rfl rfl ⟨rfl, hdX1_becomes⟩ ⟨Nat.le_of_ble_eq_true rfl, Nat.le_of_ble_eq_true rfl⟩) hK hP hD hS hA [1, 2, 3, 4, 5, 6] [0] (wN k xa ra xi g7) rfl rfl (fm_c (fm_e _ rfl rfl) fm_n) 7 rfl (by decide) (by decide) [(xa 0), (ra 0 0), (ra 0 1), (ra 0 2), (ra 0 3), (ra 0 4), (ra 0 5)] rfl rfl 1 1 rfl rfl rfl hl.1 rfl (Nat.le_of_ble_eq_true rfl) dX0_bitComes_28 ⟨Nat.le_of_ble_eq_true rfl, Nat.le_of_ble_eq_true rfl⟩ (fun H locs hP hD hS => ?_)
        refine lv_iinc (v := (x3_8 + (-1))) (lv' := [(3, .int (x3_8 + (-1))), (0, .ref (xa 0)), (1, .int p1), (2, .int p2)]) hx hb dX0_bitComes_31 hl (k := 3) rfl rfl (by decide) rfl (fun ls hl => ?_)
        refine lv_goto (tgt := 8) hx hb dX0_bitComes_34 (by decide) ?_
        exact ih8 g7 (x3_8 + (-1)) H locs hP hD hS hf ls (lv_sub hl [1, 2, 3, 0] rfl)
  exact hL8 FU rs y1 H locs hP hD hS hf ls (lv_sub hl [1, 2, 3, 0] rfl)

abbrev rmX0_bitGoes : Room := { frames := 1, cells := 0, slots := 0, locals := 24 }
theorem hdX0_bitGoes : yX0_bitGoes.cls ≠ "java/lang/invoke/MethodHandle" ∧ yX0_bitGoes.cls ≠ "java/lang/invoke/VarHandle" ∧ (parseMethodDescriptor yX0_bitGoes.desc).map (fun d => d.parameters.length) = some 1 := by decide +kernel
abbrev qcX0_bitGoes (D : va_G) (k : Nat → ClassId) (xa : Nat → Nat) (ra : Nat → Nat → Nat) (xi : Nat → Int32) (rs : RS) (A : Nat → Prop) : Array Value → State → Outcome → State → Prop := va_Qv (fun (_ : Unit) => True) (fun _ t => va_P D vwCl (wN k xa ra xi rs) t.heap) A
set_option maxHeartbeats 4000000 in
theorem mX0_bitGoes (l : Launch) (D : va_G) (k : Nat → ClassId) (xa : Nat → Nat) (ra : Nat → Nat → Nat) (xi : Nat → Int32) (rs : RS) (p1 : Int32) (sz : Nat) (rs_o : RS) (hf : fX0_bitGoes rs p1 = some rs_o) : Met l yX0_bitGoes (ws_ yX0_bitGoes cX0_bitGoes 3 none) rmX0_bitGoes (wrP D k (wN k xa ra xi rs) sz [.ref (xa 0), .int p1]) (qcX0_bitGoes D k xa ra xi rs_o (va_A (wN k xa ra xi rs) sz)) 0 0 (va_A (wN k xa ra xi rs) sz) := by
  refine wr_start (Qc := fun A => qcX0_bitGoes D k xa ra xi rs_o A) (by decide +kernel) (Nat.le_of_ble_eq_true rfl) ?_
  intro p e s m below meth c ls A hA hx hb hr hlk hml hown hts hP hK hD hl
  have hl : lv_has ls 3 [(0, .ref (xa 0)), (1, .int p1)] := hl
  have hown : s.vm.findClass RX0 = some m.cls := hown
  have hS : va_S A s.heap s.heap [] := va_S.rf
  suffices hw : ∀ (H : Heap) (locs : List Loc), va_P D vwCl (wN k xa ra xi rs) H → va_S A s.heap H locs → gW p l e rmX0_bitGoes s m [.ref (xa 0), .int p1] below meth c (qcX0_bitGoes D k xa ra xi rs_o A) A 0 0 H locs 0 ls [] from hw s.heap [] hP hS
  clear hP hS
  intro H locs hP hS
  unfold fX0_bitGoes at hf
  refine lv_aload_n hx hb dX0_bitGoes_0 rfl (lv_at hl 0 rfl) ?_
  refine va_get (D := D) (cl := vwCl) (ci := 0) (v := .ref (ra 0 0)) (C := RX0) (T := TX0) (N := 15) hx hb hts in_X0 hown hK.1 hP 0 rfl rfl 0 (by decide) (hts _ q190) (fun _ h9 => h9) rfl dX0_bitGoes_1 ?_
  refine lv_dup hx hb dX0_bitGoes_4 rfl ?_
  refine va_getN (D := D) (cl := vwCl) (ci := 1) (v := .int (rP rs)) (C := RX1) (T := TX1) (N := 6) hx hb hts in_X1 hown hK.1 hP 1 rfl rfl 1 (by decide) (hK.nw 2 rfl) (fun _ h9 => h9) rfl dX0_bitGoes_5 ?_
  refine lv_iconst (v := 1) hx hb dX0_bitGoes_8 (by decide) ?_
  refine lv_isub hx hb dX0_bitGoes_9 ?_
  refine va_putN (D := D) (cl := vwCl) (ci := 1) (v := .int ((rP rs) - (1 : Int32))) (ty := .int) (C := RX1) (T := TX1) (N := 6) hx hb hts in_X1 tyX1 tyX1_ok nmX1 hown hK.1 hP hD hS 1 rfl rfl 1 (by decide) (hK.nw 2 rfl) (fun _ h9 => h9) rfl (by decide +kernel) rfl rfl (Nat.le_of_ble_eq_true rfl) dX0_bitGoes_10 (fun H locs hP hD hS => ?_)
  have hP : va_P D vwCl (wN k xa ra xi (rsP rs ((rP rs) - (1 : Int32)))) H := hP
  have hD : va_D A (wN k xa ra xi (rsP rs ((rP rs) - (1 : Int32)))) := hD
  refine lv_iload_n hx hb dX0_bitGoes_13 rfl (lv_at hl 1 rfl) ?_
  refine lv_istore_n (lv' := [(2, .int p1), (0, .ref (xa 0)), (1, .int p1)]) hx hb dX0_bitGoes_14 rfl hl (by decide) rfl (fun ls hl => ?_)
  have hL15 : ∀ (nn : Nat) (rs_15 : RS) (x2_15 : Int32), ∀ (H : Heap) (locs : List Loc), va_P D vwCl (wN k xa ra xi rs_15) H → va_D A (wN k xa ra xi rs_15) → va_S A s.heap H locs → fX0_bitGoes_L15 p1 nn rs_15 x2_15 = some rs_o → ∀ ls : Array Slot, lv_has ls 3 [(0, .ref (xa 0)), (2, .int x2_15)] → gW p l e rmX0_bitGoes s m [.ref (xa 0), .int p1] below meth c (qcX0_bitGoes D k xa ra xi rs_o A) A 0 0 H locs 15 ls [] := by
    intro nn15
    induction nn15 with
    | zero =>
      intro rs_15 x2_15 H locs hP hD hS hf
      rw [fX0_bitGoes_L15] at hf; cases hf
    | succ nn15 ih15 =>
      intro rs_15 x2_15 H locs hP hD hS hf ls hl
      rw [fX0_bitGoes_L15] at hf
      refine lv_iload_n hx hb dX0_bitGoes_15 rfl (lv_at hl 1 rfl) ?_
      refine lv_aload_n hx hb dX0_bitGoes_16 rfl (lv_at hl 0 rfl) ?_
      refine va_get (D := D) (cl := vwCl) (ci := 0) (v := .ref (ra 0 0)) (C := RX0) (T := TX0) (N := 15) hx hb hts in_X0 hown hK.1 hP 0 rfl rfl 0 (by decide) (hts _ q190) (fun _ h9 => h9) rfl dX0_bitGoes_17 ?_
      refine va_getN (D := D) (cl := vwCl) (ci := 1) (v := .int (rP rs_15)) (C := RX1) (T := TX1) (N := 6) hx hb hts in_X1 hown hK.1 hP 1 rfl rfl 1 (by decide) (hK.nw 2 rfl) (fun _ h9 => h9) rfl dX0_bitGoes_20 ?_
      refine lv_icmp_ge (tgt := 50) hx hb dX0_bitGoes_23 (by decide) (fun c1 => ?_) (fun c1 => ?_)
      · have hf := oi_t c1 hf
        refine lv_aload_n hx hb dX0_bitGoes_50 rfl (lv_at hl 0 rfl) ?_
        refine va_get (D := D) (cl := vwCl) (ci := 0) (v := .ref (ra 0 0)) (C := RX0) (T := TX0) (N := 15) hx hb hts in_X0 hown hK.1 hP 0 rfl rfl 0 (by decide) (hts _ q190) (fun _ h9 => h9) rfl dX0_bitGoes_51 ?_
        refine lv_aload_n hx hb dX0_bitGoes_54 rfl (lv_at hl 0 rfl) ?_
        refine va_get (D := D) (cl := vwCl) (ci := 0) (v := .ref (ra 0 0)) (C := RX0) (T := TX0) (N := 15) hx hb hts in_X0 hown hK.1 hP 0 rfl rfl 0 (by decide) (hts _ q190) (fun _ h9 => h9) rfl dX0_bitGoes_55 ?_
        refine va_getN (D := D) (cl := vwCl) (ci := 1) (v := .int (rP rs_15)) (C := RX1) (T := TX1) (N := 6) hx hb hts in_X1 hown hK.1 hP 1 rfl rfl 1 (by decide) (hK.nw 2 rfl) (fun _ h9 => h9) rfl dX0_bitGoes_58 ?_
        refine lv_iconst (v := 0) hx hb dX0_bitGoes_61 (by decide) ?_
        obtain ⟨g2, et3, hf⟩ := ob hf
        refine wr_callVv (As := [.int (rP rs_15), .int (0 : Int32)]) (rest := []) ⟨hx, hb, hml, hown, hts⟩ (mX1_becomes l D k (ra 0) rs_15 (rP rs_15) (0 : Int32) _ _ et3) (cwV 2 hts (lw_V q725 q397 q398 q91 q399) rfl rfl rfl ⟨rfl, hdX1_becomes⟩ ⟨Nat.le_of_ble_eq_true rfl, Nat.le_of_ble_eq_true rfl⟩) hK hP hD hS hA [1, 2, 3, 4, 5, 6] [0] (wN k xa ra xi g2) rfl rfl (fm_c (fm_e _ rfl rfl) fm_n) 7 rfl (by decide) (by decide) [(xa 0), (ra 0 0), (ra 0 1), (ra 0 2), (ra 0 3), (ra 0 4), (ra 0 5)] rfl rfl 1 1 rfl rfl rfl hl.1 rfl (Nat.le_of_ble_eq_true rfl) dX0_bitGoes_62 ⟨Nat.le_of_ble_eq_true rfl, Nat.le_of_ble_eq_true rfl⟩ (fun H locs hP hD hS => ?_)
        have he1 := Option.some.inj hf
        rw [he1] at hP
        exact wr_vret hx hb hr hlk hP hS dX0_bitGoes_65
      · have hf := oi_f c1 hf
        refine lv_aload_n hx hb dX0_bitGoes_26 rfl (lv_at hl 0 rfl) ?_
        refine va_get (D := D) (cl := vwCl) (ci := 0) (v := .ref (ra 0 0)) (C := RX0) (T := TX0) (N := 15) hx hb hts in_X0 hown hK.1 hP 0 rfl rfl 0 (by decide) (hts _ q190) (fun _ h9 => h9) rfl dX0_bitGoes_27 ?_
        refine lv_iload_n hx hb dX0_bitGoes_30 rfl (lv_at hl 1 rfl) ?_
        refine lv_aload_n hx hb dX0_bitGoes_31 rfl (lv_at hl 0 rfl) ?_
        refine va_get (D := D) (cl := vwCl) (ci := 0) (v := .ref (ra 0 0)) (C := RX0) (T := TX0) (N := 15) hx hb hts in_X0 hown hK.1 hP 0 rfl rfl 0 (by decide) (hts _ q190) (fun _ h9 => h9) rfl dX0_bitGoes_32 ?_
        refine lv_iload_n hx hb dX0_bitGoes_35 rfl (lv_at hl 1 rfl) ?_
        refine lv_iconst (v := 1) hx hb dX0_bitGoes_36 (by decide) ?_
        refine lv_iadd hx hb dX0_bitGoes_37 ?_
        obtain ⟨v4, ev4, hf⟩ := ob hf
        refine rd_callVZ (As := [.int (x2_15 + (1 : Int32))]) (rest := [.int x2_15, .ref (ra 0 0)]) ⟨hx, hb, hml, hown, hts⟩ (mX1_isOpen l D k (ra 0) rs_15 (x2_15 + (1 : Int32)) _ ev4) (cwV 1 hts (lw_V q439 q184 q185 q91 q186) rfl rfl rfl ⟨rfl, hdX1_isOpen⟩ ⟨Nat.le_of_ble_eq_true rfl, Nat.le_of_ble_eq_true rfl⟩) hK hP [1, 2, 3, 4, 5, 6] rfl 1 1 rfl rfl rfl hl.1 rfl (Nat.le_of_ble_eq_true rfl) dX0_bitGoes_38 ⟨Nat.le_of_ble_eq_true rfl, Nat.le_of_ble_eq_true rfl⟩ (fun zv4 => ?_)
        obtain ⟨g6, et7, hf⟩ := ob hf
        refine wr_callVv (As := [.int x2_15, .int v4]) (rest := []) ⟨hx, hb, hml, hown, hts⟩ (mX1_becomes l D k (ra 0) rs_15 x2_15 v4 _ _ et7) (cwV 2 hts (lw_V q725 q397 q398 q91 q399) rfl rfl rfl ⟨rfl, hdX1_becomes⟩ ⟨Nat.le_of_ble_eq_true rfl, Nat.le_of_ble_eq_true rfl⟩) hK hP hD hS hA [1, 2, 3, 4, 5, 6] [0] (wN k xa ra xi g6) rfl rfl (fm_c (fm_e _ rfl rfl) fm_n) 7 rfl (by decide) (by decide) [(xa 0), (ra 0 0), (ra 0 1), (ra 0 2), (ra 0 3), (ra 0 4), (ra 0 5)] rfl rfl 1 1 rfl rfl rfl hl.1 rfl (Nat.le_of_ble_eq_true rfl) dX0_bitGoes_41 ⟨Nat.le_of_ble_eq_true rfl, Nat.le_of_ble_eq_true rfl⟩ (fun H locs hP hD hS => ?_)
        refine lv_iinc (v := (x2_15 + 1)) (lv' := [(2, .int (x2_15 + 1)), (0, .ref (xa 0))]) hx hb dX0_bitGoes_44 hl (k := 1) rfl rfl (by decide) rfl (fun ls hl => ?_)
        refine lv_goto (tgt := 15) hx hb dX0_bitGoes_47 (by decide) ?_
        exact ih15 g6 (x2_15 + 1) H locs hP hD hS hf ls (lv_sub hl [1, 0] rfl)
  exact hL15 FU (rsP rs ((rP rs) - (1 : Int32))) p1 H locs hP hD hS hf ls (lv_sub hl [1, 0] rfl)

abbrev rmX0_plant : Room := { frames := 4, cells := 0, slots := 0, locals := 88 }
theorem hdX0_plant : yX0_plant.cls ≠ "java/lang/invoke/MethodHandle" ∧ yX0_plant.cls ≠ "java/lang/invoke/VarHandle" ∧ (parseMethodDescriptor yX0_plant.desc).map (fun d => d.parameters.length) = some 1 := by decide +kernel
abbrev qcX0_plant (D : va_G) (k : Nat → ClassId) (xa : Nat → Nat) (ra : Nat → Nat → Nat) (xi : Nat → Int32) (rs : RS) (r : Int32) (A : Nat → Prop) : Array Value → State → Outcome → State → Prop := va_Qi (fun x (_ : Unit) => x = r) (fun _ t => va_P D vwCl (wN k xa ra xi rs) t.heap) A
set_option maxHeartbeats 4000000 in
theorem mX0_plant (l : Launch) (D : va_G) (k : Nat → ClassId) (xa : Nat → Nat) (ra : Nat → Nat → Nat) (xi : Nat → Int32) (rs : RS) (p1 : Int32) (sz : Nat) (r : Int32) (rs_o : RS) (hf : fX0_plant rs p1 = some (r, rs_o)) : Met l yX0_plant (ws_ yX0_plant cX0_plant 2 (some .int)) rmX0_plant (wrP D k (wN k xa ra xi rs) sz [.ref (xa 0), .int p1]) (qcX0_plant D k xa ra xi rs_o r (va_A (wN k xa ra xi rs) sz)) 0 0 (va_A (wN k xa ra xi rs) sz) := by
  refine wr_start (Qc := fun A => qcX0_plant D k xa ra xi rs_o r A) (by decide +kernel) (Nat.le_of_ble_eq_true rfl) ?_
  intro p e s m below meth c ls A hA hx hb hr hlk hml hown hts hP hK hD hl
  have hl : lv_has ls 2 [(0, .ref (xa 0)), (1, .int p1)] := hl
  have hown : s.vm.findClass RX0 = some m.cls := hown
  have hS : va_S A s.heap s.heap [] := va_S.rf
  suffices hw : ∀ (H : Heap) (locs : List Loc), va_P D vwCl (wN k xa ra xi rs) H → va_S A s.heap H locs → gW p l e rmX0_plant s m [.ref (xa 0), .int p1] below meth c (qcX0_plant D k xa ra xi rs_o r A) A 0 0 H locs 0 ls [] from hw s.heap [] hP hS
  clear hP hS
  intro H locs hP hS
  unfold fX0_plant at hf
  refine lv_iload_n hx hb dX0_plant_0 rfl (lv_at hl 1 rfl) ?_
  refine lv_if_ge (tgt := 6) hx hb dX0_plant_1 (by decide) (fun c1 => ?_) (fun c1 => ?_)
  · have hf := oi_t c1 hf
    refine lv_aload_n hx hb dX0_plant_6 rfl (lv_at hl 0 rfl) ?_
    refine va_get (D := D) (cl := vwCl) (ci := 0) (v := .ref (ra 0 0)) (C := RX0) (T := TX0) (N := 15) hx hb hts in_X0 hown hK.1 hP 0 rfl rfl 0 (by decide) (hts _ q190) (fun _ h9 => h9) rfl dX0_plant_7 ?_
    refine va_getN (D := D) (cl := vwCl) (ci := 1) (v := .int (rP rs)) (C := RX1) (T := TX1) (N := 6) hx hb hts in_X1 hown hK.1 hP 1 rfl rfl 1 (by decide) (hK.nw 2 rfl) (fun _ h9 => h9) rfl dX0_plant_10 ?_
    refine lv_if_le (tgt := 19) hx hb dX0_plant_13 (by decide) (fun c2 => ?_) (fun c2 => ?_)
    · have hf := oi_t c2 hf
      refine lv_aload_n hx hb dX0_plant_19 rfl (lv_at hl 0 rfl) ?_
      refine lv_iconst (v := 0) hx hb dX0_plant_20 (by decide) ?_
      refine lv_iconst (v := 1) hx hb dX0_plant_21 (by decide) ?_
      obtain ⟨g3, et4, hf⟩ := ob hf
      refine wr_callVv (As := [.int (0 : Int32), .int (1 : Int32)]) (rest := []) ⟨hx, hb, hml, hown, hts⟩ (mX0_bitComes l D k xa ra xi rs (0 : Int32) (1 : Int32) _ _ et4) (cwV 2 hts (lw_V q721 q723 qs43 q90 q724) rfl rfl rfl ⟨rfl, hdX0_bitComes⟩ ⟨Nat.le_of_ble_eq_true rfl, Nat.le_of_ble_eq_true rfl⟩) hK hP hD hS hA [0, 1, 2, 3, 4, 5, 6] [] (wN k xa ra xi g3) rfl rfl fm_n 7 rfl (by decide) (by decide) [(xa 0), (ra 0 0), (ra 0 1), (ra 0 2), (ra 0 3), (ra 0 4), (ra 0 5)] rfl rfl 0 0 rfl rfl rfl hl.1 rfl (Nat.le_of_ble_eq_true rfl) dX0_plant_22 ⟨Nat.le_of_ble_eq_true rfl, Nat.le_of_ble_eq_true rfl⟩ (fun H locs hP hD hS => ?_)
      refine lv_aload_n hx hb dX0_plant_25 rfl (lv_at hl 0 rfl) ?_
      refine lv_iconst (v := 1) hx hb dX0_plant_26 (by decide) ?_
      refine lv_iconst (v := 0) hx hb dX0_plant_27 (by decide) ?_
      obtain ⟨g5, et6, hf⟩ := ob hf
      refine wr_callVv (As := [.int (1 : Int32), .int (0 : Int32)]) (rest := []) ⟨hx, hb, hml, hown, hts⟩ (mX0_bitComes l D k xa ra xi g3 (1 : Int32) (0 : Int32) _ _ et6) (cwV 2 hts (lw_V q721 q723 qs43 q90 q724) rfl rfl rfl ⟨rfl, hdX0_bitComes⟩ ⟨Nat.le_of_ble_eq_true rfl, Nat.le_of_ble_eq_true rfl⟩) hK hP hD hS hA [0, 1, 2, 3, 4, 5, 6] [] (wN k xa ra xi g5) rfl rfl fm_n 7 rfl (by decide) (by decide) [(xa 0), (ra 0 0), (ra 0 1), (ra 0 2), (ra 0 3), (ra 0 4), (ra 0 5)] rfl rfl 0 0 rfl rfl rfl hl.1 rfl (Nat.le_of_ble_eq_true rfl) dX0_plant_28 ⟨Nat.le_of_ble_eq_true rfl, Nat.le_of_ble_eq_true rfl⟩ (fun H locs hP hD hS => ?_)
      refine lv_aload_n hx hb dX0_plant_31 rfl (lv_at hl 0 rfl) ?_
      refine va_get (D := D) (cl := vwCl) (ci := 0) (v := .ref (ra 0 0)) (C := RX0) (T := TX0) (N := 15) hx hb hts in_X0 hown hK.1 hP 0 rfl rfl 0 (by decide) (hts _ q190) (fun _ h9 => h9) rfl dX0_plant_32 ?_
      refine va_getN (D := D) (cl := vwCl) (ci := 1) (v := .ref (ra 0 2)) (C := RX1) (T := TX1) (N := 6) hx hb hts in_X1 hown hK.1 hP 1 rfl rfl 2 (by decide) (hK.nw 3 rfl) (fun _ h9 => h9) rfl dX0_plant_35 ?_
      refine lv_iconst (v := 0) hx hb dX0_plant_38 (by decide) ?_
      refine lv_iload_n hx hb dX0_plant_39 rfl (lv_at hl 1 rfl) ?_
      obtain ⟨u7, eu7, hf⟩ := ob hf
      refine x_iast hx hb hK hP hD hS 3 1 eu7 rfl rfl (wN k xa ra xi (rsT g5 u7)) rfl dX0_plant_40 (fun H locs hP hD hS => ?_)
      refine lv_aload_n hx hb dX0_plant_41 rfl (lv_at hl 0 rfl) ?_
      refine va_get (D := D) (cl := vwCl) (ci := 0) (v := .ref (ra 0 0)) (C := RX0) (T := TX0) (N := 15) hx hb hts in_X0 hown hK.1 hP 0 rfl rfl 0 (by decide) (hts _ q190) (fun _ h9 => h9) rfl dX0_plant_42 ?_
      obtain ⟨g8, et9, hf⟩ := ob hf
      refine wr_callVv (As := []) (rest := []) ⟨hx, hb, hml, hown, hts⟩ (mX1_summariseAll l D k (ra 0) (rsT g5 u7)  _ _ et9) (cwV 0 hts (lw_V q168 q169 q170 q91 q171) rfl rfl rfl ⟨rfl, hdX1_summariseAll⟩ ⟨Nat.le_of_ble_eq_true rfl, Nat.le_of_ble_eq_true rfl⟩) hK hP hD hS hA [1, 2, 3, 4, 5, 6] [0] (wN k xa ra xi g8) rfl rfl (fm_c (fm_e _ rfl rfl) fm_n) 7 rfl (by decide) (by decide) [(xa 0), (ra 0 0), (ra 0 1), (ra 0 2), (ra 0 3), (ra 0 4), (ra 0 5)] rfl rfl 1 1 rfl rfl rfl hl.1 rfl (Nat.le_of_ble_eq_true rfl) dX0_plant_45 ⟨Nat.le_of_ble_eq_true rfl, Nat.le_of_ble_eq_true rfl⟩ (fun H locs hP hD hS => ?_)
      refine lv_iconst (v := 0) hx hb dX0_plant_48 (by decide) ?_
      obtain ⟨he1, he2⟩ := prod2 hf
      rw [he2] at hP
      exact wr_iret hx hb hr hlk he1 hP hS dX0_plant_49
    · have hf := oi_f c2 hf
      refine lv_bipush (v := (-2)) hx hb dX0_plant_16 (by decide) ?_
      obtain ⟨he1, he2⟩ := prod2 hf
      rw [he2] at hP
      exact wr_iret hx hb hr hlk he1 hP hS dX0_plant_18
  · have hf := oi_f c1 hf
    refine lv_iconst (v := (-1)) hx hb dX0_plant_4 (by decide) ?_
    obtain ⟨he1, he2⟩ := prod2 hf
    rw [he2] at hP
    exact wr_iret hx hb hr hlk he1 hP hS dX0_plant_5

abbrev rmX0_placeOfChild : Room := { frames := 8, cells := 0, slots := 0, locals := 183 }
theorem hdX0_placeOfChild : yX0_placeOfChild.cls ≠ "java/lang/invoke/MethodHandle" ∧ yX0_placeOfChild.cls ≠ "java/lang/invoke/VarHandle" ∧ (parseMethodDescriptor yX0_placeOfChild.desc).map (fun d => d.parameters.length) = some 2 := by decide +kernel
set_option maxHeartbeats 4000000 in
theorem mX0_placeOfChild (l : Launch) (D : va_G) (k : Nat → ClassId) (xa : Nat → Nat) (ra : Nat → Nat → Nat) (xi : Nat → Int32) (rs : RS) (p1 : Int32) (p2 : Int32) (r : Int32) (hf : fX0_placeOfChild rs p1 p2 = some r) : CtI l yX0_placeOfChild cX0_placeOfChild 4 rmX0_placeOfChild [.ref (xa 0), .int p1, .int p2] D k (wN k xa ra xi rs) r := by
  refine rd_start (by decide +kernel) (Nat.le_of_ble_eq_true rfl) ?_
  intro p e s m below meth c ls hx hb hr hlk hml hown hts hP hK hl
  have hl : lv_has ls 4 [(0, .ref (xa 0)), (1, .int p1), (2, .int p2)] := hl
  have hown : s.vm.findClass RX0 = some m.cls := hown
  unfold fX0_placeOfChild at hf
  refine lv_aload_n hx hb dX0_placeOfChild_0 rfl (lv_at hl 0 rfl) ?_
  refine lv_iload_n hx hb dX0_placeOfChild_1 rfl (lv_at hl 1 rfl) ?_
  refine lv_iload_n hx hb dX0_placeOfChild_2 rfl (lv_at hl 2 rfl) ?_
  obtain ⟨v1, ev1, hf⟩ := ob hf
  refine rd_callV (As := [.int p1, .int p2]) (rest := []) ⟨hx, hb, hml, hown, hts⟩ (mX0_childOf l D k xa ra xi rs p1 p2 _ ev1) (cwV 2 hts (lw_V q598 q600 qs34 q90 q601) rfl rfl rfl ⟨rfl, hdX0_childOf⟩ ⟨Nat.le_of_ble_eq_true rfl, Nat.le_of_ble_eq_true rfl⟩) hK hP [0, 1, 2, 3, 4, 5, 6] rfl 0 0 rfl rfl rfl hl.1 rfl (Nat.le_of_ble_eq_true rfl) dX0_placeOfChild_3 ⟨Nat.le_of_ble_eq_true rfl, Nat.le_of_ble_eq_true rfl⟩ ?_
  refine lv_istore_n (lv' := [(3, .int v1), (0, .ref (xa 0)), (1, .int p1), (2, .int p2)]) hx hb dX0_placeOfChild_6 rfl hl (by decide) rfl (fun ls hl => ?_)
  refine lv_iload_n hx hb dX0_placeOfChild_7 rfl (lv_at hl 0 rfl) ?_
  refine lv_bipush (v := (-4)) hx hb dX0_placeOfChild_8 (by decide) ?_
  refine lv_icmp_ne (tgt := 21) hx hb dX0_placeOfChild_10 (by decide) (fun c3 => ?_) (fun c3 => ?_)
  · have hf := oi_f c3 hf
    refine lv_aload_n hx hb dX0_placeOfChild_21 rfl (lv_at hl 1 rfl) ?_
    refine lv_iload_n hx hb dX0_placeOfChild_22 rfl (lv_at hl 0 rfl) ?_
    obtain ⟨v4, ev4, hf⟩ := ob hf
    refine rd_callV (As := [.int v1]) (rest := []) ⟨hx, hb, hml, hown, hts⟩ (mX0_openOf l D k xa ra xi rs v1 _ ev4) (cwV 1 hts (lw_V q538 q540 qs20 q90 q541) rfl rfl rfl ⟨rfl, hdX0_openOf⟩ ⟨Nat.le_of_ble_eq_true rfl, Nat.le_of_ble_eq_true rfl⟩) hK hP [0, 1, 2, 3, 4, 5, 6] rfl 0 0 rfl rfl rfl hl.1 rfl (Nat.le_of_ble_eq_true rfl) dX0_placeOfChild_23 ⟨Nat.le_of_ble_eq_true rfl, Nat.le_of_ble_eq_true rfl⟩ ?_
    exact rd_iret hx hb hr hlk (Option.some.inj hf) dX0_placeOfChild_26
  · have hf := oi_t c3 hf
    refine lv_aload_n hx hb dX0_placeOfChild_13 rfl (lv_at hl 1 rfl) ?_
    refine lv_iload_n hx hb dX0_placeOfChild_14 rfl (lv_at hl 2 rfl) ?_
    obtain ⟨v6, ev6, hf⟩ := ob hf
    refine rd_callV (As := [.int p1]) (rest := []) ⟨hx, hb, hml, hown, hts⟩ (mX0_closeOf l D k xa ra xi rs p1 _ ev6) (cwV 1 hts (lw_V q542 q544 qs21 q90 q545) rfl rfl rfl ⟨rfl, hdX0_closeOf⟩ ⟨Nat.le_of_ble_eq_true rfl, Nat.le_of_ble_eq_true rfl⟩) hK hP [0, 1, 2, 3, 4, 5, 6] rfl 0 0 rfl rfl rfl hl.1 rfl (Nat.le_of_ble_eq_true rfl) dX0_placeOfChild_15 ⟨Nat.le_of_ble_eq_true rfl, Nat.le_of_ble_eq_true rfl⟩ ?_
    refine lv_goto (tgt := 26) hx hb dX0_placeOfChild_18 (by decide) ?_
    exact rd_iret hx hb hr hlk (Option.some.inj hf) dX0_placeOfChild_26

abbrev rmX0_weightComes : Room := { frames := 1, cells := 0, slots := 0, locals := 26 }
theorem hdX0_weightComes : yX0_weightComes.cls ≠ "java/lang/invoke/MethodHandle" ∧ yX0_weightComes.cls ≠ "java/lang/invoke/VarHandle" ∧ (parseMethodDescriptor yX0_weightComes.desc).map (fun d => d.parameters.length) = some 2 := by decide +kernel
abbrev qcX0_weightComes (D : va_G) (k : Nat → ClassId) (xa : Nat → Nat) (ra : Nat → Nat → Nat) (xi : Nat → Int32) (rs : RS) (A : Nat → Prop) : Array Value → State → Outcome → State → Prop := va_Qv (fun (_ : Unit) => True) (fun _ t => va_P D vwCl (wN k xa ra xi rs) t.heap) A
set_option maxHeartbeats 4000000 in
theorem mX0_weightComes (l : Launch) (D : va_G) (k : Nat → ClassId) (xa : Nat → Nat) (ra : Nat → Nat → Nat) (xi : Nat → Int32) (rs : RS) (p1 : Int32) (p2 : Int32) (sz : Nat) (rs_o : RS) (hf : fX0_weightComes rs p1 p2 = some rs_o) : Met l yX0_weightComes (ws_ yX0_weightComes cX0_weightComes 4 none) rmX0_weightComes (wrP D k (wN k xa ra xi rs) sz [.ref (xa 0), .int p1, .int p2]) (qcX0_weightComes D k xa ra xi rs_o (va_A (wN k xa ra xi rs) sz)) 0 0 (va_A (wN k xa ra xi rs) sz) := by
  refine wr_start (Qc := fun A => qcX0_weightComes D k xa ra xi rs_o A) (by decide +kernel) (Nat.le_of_ble_eq_true rfl) ?_
  intro p e s m below meth c ls A hA hx hb hr hlk hml hown hts hP hK hD hl
  have hl : lv_has ls 4 [(0, .ref (xa 0)), (1, .int p1), (2, .int p2)] := hl
  have hown : s.vm.findClass RX0 = some m.cls := hown
  have hS : va_S A s.heap s.heap [] := va_S.rf
  suffices hw : ∀ (H : Heap) (locs : List Loc), va_P D vwCl (wN k xa ra xi rs) H → va_S A s.heap H locs → gW p l e rmX0_weightComes s m [.ref (xa 0), .int p1, .int p2] below meth c (qcX0_weightComes D k xa ra xi rs_o A) A 0 0 H locs 0 ls [] from hw s.heap [] hP hS
  clear hP hS
  intro H locs hP hS
  unfold fX0_weightComes at hf
  refine lv_bipush (v := 63) hx hb dX0_weightComes_0 (by decide) ?_
  refine lv_iload_n hx hb dX0_weightComes_2 rfl (lv_at hl 1 rfl) ?_
  refine lv_isub hx hb dX0_weightComes_3 ?_
  obtain ⟨y1, ey1, hf⟩ := ob hf
  refine x_asI ey1 ?_
  refine lv_istore_n (lv' := [(3, .int y1), (0, .ref (xa 0)), (1, .int p1), (2, .int p2)]) hx hb dX0_weightComes_4 rfl hl (by decide) rfl (fun ls hl => ?_)
  refine lv_aload_n hx hb dX0_weightComes_5 rfl (lv_at hl 1 rfl) ?_
  refine va_get (D := D) (cl := vwCl) (ci := 0) (v := .ref (ra 0 0)) (C := RX0) (T := TX0) (N := 15) hx hb hts in_X0 hown hK.1 hP 0 rfl rfl 0 (by decide) (hts _ q190) (fun _ h9 => h9) rfl dX0_weightComes_6 ?_
  refine va_getN (D := D) (cl := vwCl) (ci := 1) (v := .ref (ra 0 2)) (C := RX1) (T := TX1) (N := 6) hx hb hts in_X1 hown hK.1 hP 1 rfl rfl 2 (by decide) (hK.nw 3 rfl) (fun _ h9 => h9) rfl dX0_weightComes_9 ?_
  refine lv_iload_n hx hb dX0_weightComes_12 rfl (lv_at hl 2 rfl) ?_
  refine lv_aload_n hx hb dX0_weightComes_13 rfl (lv_at hl 1 rfl) ?_
  refine va_get (D := D) (cl := vwCl) (ci := 0) (v := .ref (ra 0 0)) (C := RX0) (T := TX0) (N := 15) hx hb hts in_X0 hown hK.1 hP 0 rfl rfl 0 (by decide) (hts _ q190) (fun _ h9 => h9) rfl dX0_weightComes_14 ?_
  refine va_getN (D := D) (cl := vwCl) (ci := 1) (v := .ref (ra 0 2)) (C := RX1) (T := TX1) (N := 6) hx hb hts in_X1 hown hK.1 hP 1 rfl rfl 2 (by decide) (hK.nw 3 rfl) (fun _ h9 => h9) rfl dX0_weightComes_17 ?_
  refine lv_iload_n hx hb dX0_weightComes_20 rfl (lv_at hl 2 rfl) ?_
  refine lv_iconst (v := 1) hx hb dX0_weightComes_21 (by decide) ?_
  refine lv_iadd hx hb dX0_weightComes_22 ?_
  refine lv_iload_n hx hb dX0_weightComes_23 rfl (lv_at hl 0 rfl) ?_
  obtain ⟨u2, eu2, hf⟩ := ob hf
  refine x_copyI hx hb (hml.trans hl.1.symm) hown (hts _ q742) (hts _ q412) (hts _ q411) (hts _ q99) hK hP hD hS 3 3 1 eu2 rfl rfl rfl (Nat.le_of_ble_eq_true rfl) (Nat.le_of_ble_eq_true rfl) (wN k xa ra xi (rsT rs u2)) rfl dX0_weightComes_24 (fun H locs hP hD hS => ?_)
  refine lv_aload_n hx hb dX0_weightComes_27 rfl (lv_at hl 1 rfl) ?_
  refine va_get (D := D) (cl := vwCl) (ci := 0) (v := .ref (ra 0 0)) (C := RX0) (T := TX0) (N := 15) hx hb hts in_X0 hown hK.1 hP 0 rfl rfl 0 (by decide) (hts _ q190) (fun _ h9 => h9) rfl dX0_weightComes_28 ?_
  refine va_getN (D := D) (cl := vwCl) (ci := 1) (v := .ref (ra 0 2)) (C := RX1) (T := TX1) (N := 6) hx hb hts in_X1 hown hK.1 hP 1 rfl rfl 2 (by decide) (hK.nw 3 rfl) (fun _ h9 => h9) rfl dX0_weightComes_31 ?_
  refine lv_iload_n hx hb dX0_weightComes_34 rfl (lv_at hl 2 rfl) ?_
  refine lv_iload_n hx hb dX0_weightComes_35 rfl (lv_at hl 3 rfl) ?_
  obtain ⟨u3, eu3, hf⟩ := ob hf
  refine x_iast hx hb hK hP hD hS 3 1 eu3 rfl rfl (wN k xa ra xi (rsT (rsT rs u2) u3)) rfl dX0_weightComes_36 (fun H locs hP hD hS => ?_)
  have he1 := Option.some.inj hf
  rw [he1] at hP
  exact wr_vret hx hb hr hlk hP hS dX0_weightComes_37

abbrev rmX0_weightsGo : Room := { frames := 1, cells := 0, slots := 0, locals := 26 }
theorem hdX0_weightsGo : yX0_weightsGo.cls ≠ "java/lang/invoke/MethodHandle" ∧ yX0_weightsGo.cls ≠ "java/lang/invoke/VarHandle" ∧ (parseMethodDescriptor yX0_weightsGo.desc).map (fun d => d.parameters.length) = some 2 := by decide +kernel
abbrev qcX0_weightsGo (D : va_G) (k : Nat → ClassId) (xa : Nat → Nat) (ra : Nat → Nat → Nat) (xi : Nat → Int32) (rs : RS) (A : Nat → Prop) : Array Value → State → Outcome → State → Prop := va_Qv (fun (_ : Unit) => True) (fun _ t => va_P D vwCl (wN k xa ra xi rs) t.heap) A
set_option maxHeartbeats 4000000 in
theorem mX0_weightsGo (l : Launch) (D : va_G) (k : Nat → ClassId) (xa : Nat → Nat) (ra : Nat → Nat → Nat) (xi : Nat → Int32) (rs : RS) (p1 : Int32) (p2 : Int32) (sz : Nat) (rs_o : RS) (hf : fX0_weightsGo rs p1 p2 = some rs_o) : Met l yX0_weightsGo (ws_ yX0_weightsGo cX0_weightsGo 4 none) rmX0_weightsGo (wrP D k (wN k xa ra xi rs) sz [.ref (xa 0), .int p1, .int p2]) (qcX0_weightsGo D k xa ra xi rs_o (va_A (wN k xa ra xi rs) sz)) 0 0 (va_A (wN k xa ra xi rs) sz) := by
  refine wr_start (Qc := fun A => qcX0_weightsGo D k xa ra xi rs_o A) (by decide +kernel) (Nat.le_of_ble_eq_true rfl) ?_
  intro p e s m below meth c ls A hA hx hb hr hlk hml hown hts hP hK hD hl
  have hl : lv_has ls 4 [(0, .ref (xa 0)), (1, .int p1), (2, .int p2)] := hl
  have hown : s.vm.findClass RX0 = some m.cls := hown
  have hS : va_S A s.heap s.heap [] := va_S.rf
  suffices hw : ∀ (H : Heap) (locs : List Loc), va_P D vwCl (wN k xa ra xi rs) H → va_S A s.heap H locs → gW p l e rmX0_weightsGo s m [.ref (xa 0), .int p1, .int p2] below meth c (qcX0_weightsGo D k xa ra xi rs_o A) A 0 0 H locs 0 ls [] from hw s.heap [] hP hS
  clear hP hS
  intro H locs hP hS
  unfold fX0_weightsGo at hf
  refine lv_aload_n hx hb dX0_weightsGo_0 rfl (lv_at hl 0 rfl) ?_
  refine va_get (D := D) (cl := vwCl) (ci := 0) (v := .ref (ra 0 0)) (C := RX0) (T := TX0) (N := 15) hx hb hts in_X0 hown hK.1 hP 0 rfl rfl 0 (by decide) (hts _ q190) (fun _ h9 => h9) rfl dX0_weightsGo_1 ?_
  refine va_getN (D := D) (cl := vwCl) (ci := 1) (v := .ref (ra 0 2)) (C := RX1) (T := TX1) (N := 6) hx hb hts in_X1 hown hK.1 hP 1 rfl rfl 2 (by decide) (hK.nw 3 rfl) (fun _ h9 => h9) rfl dX0_weightsGo_4 ?_
  refine lv_iload_n hx hb dX0_weightsGo_7 rfl (lv_at hl 1 rfl) ?_
  refine lv_iload_n hx hb dX0_weightsGo_8 rfl (lv_at hl 2 rfl) ?_
  refine lv_iadd hx hb dX0_weightsGo_9 ?_
  refine lv_aload_n hx hb dX0_weightsGo_10 rfl (lv_at hl 0 rfl) ?_
  refine va_get (D := D) (cl := vwCl) (ci := 0) (v := .ref (ra 0 0)) (C := RX0) (T := TX0) (N := 15) hx hb hts in_X0 hown hK.1 hP 0 rfl rfl 0 (by decide) (hts _ q190) (fun _ h9 => h9) rfl dX0_weightsGo_11 ?_
  refine va_getN (D := D) (cl := vwCl) (ci := 1) (v := .ref (ra 0 2)) (C := RX1) (T := TX1) (N := 6) hx hb hts in_X1 hown hK.1 hP 1 rfl rfl 2 (by decide) (hK.nw 3 rfl) (fun _ h9 => h9) rfl dX0_weightsGo_14 ?_
  refine lv_iload_n hx hb dX0_weightsGo_17 rfl (lv_at hl 1 rfl) ?_
  refine lv_bipush (v := 64) hx hb dX0_weightsGo_18 (by decide) ?_
  refine lv_iload_n hx hb dX0_weightsGo_20 rfl (lv_at hl 1 rfl) ?_
  refine lv_isub hx hb dX0_weightsGo_21 ?_
  refine lv_iload_n hx hb dX0_weightsGo_22 rfl (lv_at hl 2 rfl) ?_
  refine lv_isub hx hb dX0_weightsGo_23 ?_
  obtain ⟨u1, eu1, hf⟩ := ob hf
  refine x_copyI hx hb (hml.trans hl.1.symm) hown (hts _ q742) (hts _ q412) (hts _ q411) (hts _ q99) hK hP hD hS 3 3 1 eu1 rfl rfl rfl (Nat.le_of_ble_eq_true rfl) (Nat.le_of_ble_eq_true rfl) (wN k xa ra xi (rsT rs u1)) rfl dX0_weightsGo_24 (fun H locs hP hD hS => ?_)
  refine lv_bipush (v := 64) hx hb dX0_weightsGo_27 (by decide) ?_
  refine lv_iload_n hx hb dX0_weightsGo_29 rfl (lv_at hl 2 rfl) ?_
  refine lv_isub hx hb dX0_weightsGo_30 ?_
  obtain ⟨y2, ey2, hf⟩ := ob hf
  refine x_asI ey2 ?_
  refine lv_istore_n (lv' := [(3, .int y2), (0, .ref (xa 0)), (1, .int p1), (2, .int p2)]) hx hb dX0_weightsGo_31 rfl hl (by decide) rfl (fun ls hl => ?_)
  have hL32 : ∀ (nn : Nat) (rs_32 : RS) (x3_32 : Int32), ∀ (H : Heap) (locs : List Loc), va_P D vwCl (wN k xa ra xi rs_32) H → va_D A (wN k xa ra xi rs_32) → va_S A s.heap H locs → fX0_weightsGo_L32 p1 p2 nn rs_32 x3_32 = some rs_o → ∀ ls : Array Slot, lv_has ls 4 [(0, .ref (xa 0)), (3, .int x3_32)] → gW p l e rmX0_weightsGo s m [.ref (xa 0), .int p1, .int p2] below meth c (qcX0_weightsGo D k xa ra xi rs_o A) A 0 0 H locs 32 ls [] := by
    intro nn32
    induction nn32 with
    | zero =>
      intro rs_32 x3_32 H locs hP hD hS hf
      rw [fX0_weightsGo_L32] at hf; cases hf
    | succ nn32 ih32 =>
      intro rs_32 x3_32 H locs hP hD hS hf ls hl
      rw [fX0_weightsGo_L32] at hf
      refine lv_iload_n hx hb dX0_weightsGo_32 rfl (lv_at hl 1 rfl) ?_
      refine lv_bipush (v := 64) hx hb dX0_weightsGo_33 (by decide) ?_
      refine lv_icmp_ge (tgt := 54) hx hb dX0_weightsGo_35 (by decide) (fun c3 => ?_) (fun c3 => ?_)
      · have hf := oi_t c3 hf
        have he1 := Option.some.inj hf
        rw [he1] at hP
        exact wr_vret hx hb hr hlk hP hS dX0_weightsGo_54
      · have hf := oi_f c3 hf
        refine lv_aload_n hx hb dX0_weightsGo_38 rfl (lv_at hl 0 rfl) ?_
        refine va_get (D := D) (cl := vwCl) (ci := 0) (v := .ref (ra 0 0)) (C := RX0) (T := TX0) (N := 15) hx hb hts in_X0 hown hK.1 hP 0 rfl rfl 0 (by decide) (hts _ q190) (fun _ h9 => h9) rfl dX0_weightsGo_39 ?_
        refine va_getN (D := D) (cl := vwCl) (ci := 1) (v := .ref (ra 0 2)) (C := RX1) (T := TX1) (N := 6) hx hb hts in_X1 hown hK.1 hP 1 rfl rfl 2 (by decide) (hK.nw 3 rfl) (fun _ h9 => h9) rfl dX0_weightsGo_42 ?_
        refine lv_iload_n hx hb dX0_weightsGo_45 rfl (lv_at hl 1 rfl) ?_
        refine lv_iconst (v := 0) hx hb dX0_weightsGo_46 (by decide) ?_
        obtain ⟨u4, eu4, hf⟩ := ob hf
        refine x_iast hx hb hK hP hD hS 3 1 eu4 rfl rfl (wN k xa ra xi (rsT rs_32 u4)) rfl dX0_weightsGo_47 (fun H locs hP hD hS => ?_)
        refine lv_iinc (v := (x3_32 + 1)) (lv' := [(3, .int (x3_32 + 1)), (0, .ref (xa 0))]) hx hb dX0_weightsGo_48 hl (k := 1) rfl rfl (by decide) rfl (fun ls hl => ?_)
        refine lv_goto (tgt := 32) hx hb dX0_weightsGo_51 (by decide) ?_
        exact ih32 (rsT rs_32 u4) (x3_32 + 1) H locs hP hD hS hf ls (lv_sub hl [1, 0] rfl)
  exact hL32 FU (rsT rs u1) y2 H locs hP hD hS hf ls (lv_sub hl [1, 0] rfl)

abbrev rmX0_leafComes : Room := { frames := 9, cells := 0, slots := 0, locals := 206 }
theorem hdX0_leafComes : yX0_leafComes.cls ≠ "java/lang/invoke/MethodHandle" ∧ yX0_leafComes.cls ≠ "java/lang/invoke/VarHandle" ∧ (parseMethodDescriptor yX0_leafComes.desc).map (fun d => d.parameters.length) = some 3 := by decide +kernel
abbrev qcX0_leafComes (D : va_G) (k : Nat → ClassId) (xa : Nat → Nat) (ra : Nat → Nat → Nat) (xi : Nat → Int32) (rs : RS) (r : Int32) (A : Nat → Prop) : Array Value → State → Outcome → State → Prop := va_Qi (fun x (_ : Unit) => x = r) (fun _ t => va_P D vwCl (wN k xa ra xi rs) t.heap) A
set_option maxHeartbeats 4000000 in
theorem mX0_leafComes (l : Launch) (D : va_G) (k : Nat → ClassId) (xa : Nat → Nat) (ra : Nat → Nat → Nat) (xi : Nat → Int32) (rs : RS) (p1 : Int32) (p2 : Int32) (p3 : Int32) (sz : Nat) (r : Int32) (rs_o : RS) (hf : fX0_leafComes rs p1 p2 p3 = some (r, rs_o)) : Met l yX0_leafComes (ws_ yX0_leafComes cX0_leafComes 6 (some .int)) rmX0_leafComes (wrP D k (wN k xa ra xi rs) sz [.ref (xa 0), .int p1, .int p2, .int p3]) (qcX0_leafComes D k xa ra xi rs_o r (va_A (wN k xa ra xi rs) sz)) 0 0 (va_A (wN k xa ra xi rs) sz) := by
  refine wr_start (Qc := fun A => qcX0_leafComes D k xa ra xi rs_o r A) (by decide +kernel) (Nat.le_of_ble_eq_true rfl) ?_
  intro p e s m below meth c ls A hA hx hb hr hlk hml hown hts hP hK hD hl
  have hl : lv_has ls 6 [(0, .ref (xa 0)), (1, .int p1), (2, .int p2), (3, .int p3)] := hl
  have hown : s.vm.findClass RX0 = some m.cls := hown
  have hS : va_S A s.heap s.heap [] := va_S.rf
  suffices hw : ∀ (H : Heap) (locs : List Loc), va_P D vwCl (wN k xa ra xi rs) H → va_S A s.heap H locs → gW p l e rmX0_leafComes s m [.ref (xa 0), .int p1, .int p2, .int p3] below meth c (qcX0_leafComes D k xa ra xi rs_o r A) A 0 0 H locs 0 ls [] from hw s.heap [] hP hS
  clear hP hS
  intro H locs hP hS
  unfold fX0_leafComes at hf
  refine lv_aload_n hx hb dX0_leafComes_0 rfl (lv_at hl 0 rfl) ?_
  refine lv_iload_n hx hb dX0_leafComes_1 rfl (lv_at hl 1 rfl) ?_
  refine lv_iload_n hx hb dX0_leafComes_2 rfl (lv_at hl 2 rfl) ?_
  obtain ⟨v1, ev1, hf⟩ := ob hf
  refine rd_callV (As := [.int p1, .int p2]) (rest := []) ⟨hx, hb, hml, hown, hts⟩ (mX0_placeOfChild l D k xa ra xi rs p1 p2 _ ev1) (cwV 2 hts (lw_V q734 q736 qs45 q90 q737) rfl rfl rfl ⟨rfl, hdX0_placeOfChild⟩ ⟨Nat.le_of_ble_eq_true rfl, Nat.le_of_ble_eq_true rfl⟩) hK hP [0, 1, 2, 3, 4, 5, 6] rfl 0 0 rfl rfl rfl hl.1 rfl (Nat.le_of_ble_eq_true rfl) dX0_leafComes_3 ⟨Nat.le_of_ble_eq_true rfl, Nat.le_of_ble_eq_true rfl⟩ ?_
  refine lv_istore (lv' := [(4, .int v1), (0, .ref (xa 0)), (1, .int p1), (2, .int p2), (3, .int p3)]) hx hb dX0_leafComes_6 hl (by decide) rfl (fun ls hl => ?_)
  refine lv_aload_n hx hb dX0_leafComes_8 rfl (lv_at hl 1 rfl) ?_
  refine lv_iload hx hb dX0_leafComes_9 (lv_at hl 0 rfl) ?_
  obtain ⟨v3, ev3, hf⟩ := ob hf
  refine rd_callV (As := [.int v1]) (rest := []) ⟨hx, hb, hml, hown, hts⟩ (mX0_nodeAt l D k xa ra xi rs v1 _ ev3) (cwV 1 hts (lw_V q554 q556 qs24 q90 q557) rfl rfl rfl ⟨rfl, hdX0_nodeAt⟩ ⟨Nat.le_of_ble_eq_true rfl, Nat.le_of_ble_eq_true rfl⟩) hK hP [0, 1, 2, 3, 4, 5, 6] rfl 0 0 rfl rfl rfl hl.1 rfl (Nat.le_of_ble_eq_true rfl) dX0_leafComes_11 ⟨Nat.le_of_ble_eq_true rfl, Nat.le_of_ble_eq_true rfl⟩ ?_
  refine lv_istore (lv' := [(5, .int v3), (4, .int v1), (0, .ref (xa 0)), (1, .int p1), (2, .int p2), (3, .int p3)]) hx hb dX0_leafComes_14 hl (by decide) rfl (fun ls hl => ?_)
  refine lv_aload_n hx hb dX0_leafComes_16 rfl (lv_at hl 2 rfl) ?_
  refine lv_iload hx hb dX0_leafComes_17 (lv_at hl 1 rfl) ?_
  refine lv_iconst (v := 1) hx hb dX0_leafComes_19 (by decide) ?_
  obtain ⟨g5, et6, hf⟩ := ob hf
  refine wr_callVv (As := [.int v1, .int (1 : Int32)]) (rest := []) ⟨hx, hb, hml, hown, hts⟩ (mX0_bitComes l D k xa ra xi rs v1 (1 : Int32) _ _ et6) (cwV 2 hts (lw_V q721 q723 qs43 q90 q724) rfl rfl rfl ⟨rfl, hdX0_bitComes⟩ ⟨Nat.le_of_ble_eq_true rfl, Nat.le_of_ble_eq_true rfl⟩) hK hP hD hS hA [0, 1, 2, 3, 4, 5, 6] [] (wN k xa ra xi g5) rfl rfl fm_n 7 rfl (by decide) (by decide) [(xa 0), (ra 0 0), (ra 0 1), (ra 0 2), (ra 0 3), (ra 0 4), (ra 0 5)] rfl rfl 0 0 rfl rfl rfl hl.1 rfl (Nat.le_of_ble_eq_true rfl) dX0_leafComes_20 ⟨Nat.le_of_ble_eq_true rfl, Nat.le_of_ble_eq_true rfl⟩ (fun H locs hP hD hS => ?_)
  refine lv_aload_n hx hb dX0_leafComes_23 rfl (lv_at hl 2 rfl) ?_
  refine lv_iload hx hb dX0_leafComes_24 (lv_at hl 1 rfl) ?_
  refine lv_iconst (v := 1) hx hb dX0_leafComes_26 (by decide) ?_
  refine lv_iadd hx hb dX0_leafComes_27 ?_
  refine lv_iconst (v := 0) hx hb dX0_leafComes_28 (by decide) ?_
  obtain ⟨g7, et8, hf⟩ := ob hf
  refine wr_callVv (As := [.int (v1 + (1 : Int32)), .int (0 : Int32)]) (rest := []) ⟨hx, hb, hml, hown, hts⟩ (mX0_bitComes l D k xa ra xi g5 (v1 + (1 : Int32)) (0 : Int32) _ _ et8) (cwV 2 hts (lw_V q721 q723 qs43 q90 q724) rfl rfl rfl ⟨rfl, hdX0_bitComes⟩ ⟨Nat.le_of_ble_eq_true rfl, Nat.le_of_ble_eq_true rfl⟩) hK hP hD hS hA [0, 1, 2, 3, 4, 5, 6] [] (wN k xa ra xi g7) rfl rfl fm_n 7 rfl (by decide) (by decide) [(xa 0), (ra 0 0), (ra 0 1), (ra 0 2), (ra 0 3), (ra 0 4), (ra 0 5)] rfl rfl 0 0 rfl rfl rfl hl.1 rfl (Nat.le_of_ble_eq_true rfl) dX0_leafComes_29 ⟨Nat.le_of_ble_eq_true rfl, Nat.le_of_ble_eq_true rfl⟩ (fun H locs hP hD hS => ?_)
  refine lv_aload_n hx hb dX0_leafComes_32 rfl (lv_at hl 2 rfl) ?_
  refine lv_iload hx hb dX0_leafComes_33 (lv_at hl 0 rfl) ?_
  refine lv_iload_n hx hb dX0_leafComes_35 rfl (lv_at hl 5 rfl) ?_
  obtain ⟨g9, et10, hf⟩ := ob hf
  refine wr_callVv (As := [.int v3, .int p3]) (rest := []) ⟨hx, hb, hml, hown, hts⟩ (mX0_weightComes l D k xa ra xi g7 v3 p3 _ _ et10) (cwV 2 hts (lw_V q738 q740 qs46 q90 q741) rfl rfl rfl ⟨rfl, hdX0_weightComes⟩ ⟨Nat.le_of_ble_eq_true rfl, Nat.le_of_ble_eq_true rfl⟩) hK hP hD hS hA [0, 1, 2, 3, 4, 5, 6] [] (wN k xa ra xi g9) rfl rfl fm_n 7 rfl (by decide) (by decide) [(xa 0), (ra 0 0), (ra 0 1), (ra 0 2), (ra 0 3), (ra 0 4), (ra 0 5)] rfl rfl 0 0 rfl rfl rfl hl.1 rfl (Nat.le_of_ble_eq_true rfl) dX0_leafComes_36 ⟨Nat.le_of_ble_eq_true rfl, Nat.le_of_ble_eq_true rfl⟩ (fun H locs hP hD hS => ?_)
  refine lv_aload_n hx hb dX0_leafComes_39 rfl (lv_at hl 2 rfl) ?_
  refine va_get (D := D) (cl := vwCl) (ci := 0) (v := .ref (ra 0 0)) (C := RX0) (T := TX0) (N := 15) hx hb hts in_X0 hown hK.1 hP 0 rfl rfl 0 (by decide) (hts _ q190) (fun _ h9 => h9) rfl dX0_leafComes_40 ?_
  obtain ⟨g11, et12, hf⟩ := ob hf
  refine wr_callVv (As := []) (rest := []) ⟨hx, hb, hml, hown, hts⟩ (mX1_summariseAll l D k (ra 0) g9  _ _ et12) (cwV 0 hts (lw_V q168 q169 q170 q91 q171) rfl rfl rfl ⟨rfl, hdX1_summariseAll⟩ ⟨Nat.le_of_ble_eq_true rfl, Nat.le_of_ble_eq_true rfl⟩) hK hP hD hS hA [1, 2, 3, 4, 5, 6] [0] (wN k xa ra xi g11) rfl rfl (fm_c (fm_e _ rfl rfl) fm_n) 7 rfl (by decide) (by decide) [(xa 0), (ra 0 0), (ra 0 1), (ra 0 2), (ra 0 3), (ra 0 4), (ra 0 5)] rfl rfl 1 1 rfl rfl rfl hl.1 rfl (Nat.le_of_ble_eq_true rfl) dX0_leafComes_43 ⟨Nat.le_of_ble_eq_true rfl, Nat.le_of_ble_eq_true rfl⟩ (fun H locs hP hD hS => ?_)
  refine lv_iload hx hb dX0_leafComes_46 (lv_at hl 0 rfl) ?_
  obtain ⟨he1, he2⟩ := prod2 hf
  rw [he2] at hP
  exact wr_iret hx hb hr hlk he1 hP hS dX0_leafComes_48

abbrev rmX0_leaf : Room := { frames := 10, cells := 0, slots := 0, locals := 231 }
theorem hdX0_leaf : yX0_leaf.cls ≠ "java/lang/invoke/MethodHandle" ∧ yX0_leaf.cls ≠ "java/lang/invoke/VarHandle" ∧ (parseMethodDescriptor yX0_leaf.desc).map (fun d => d.parameters.length) = some 3 := by decide +kernel
abbrev qcX0_leaf (D : va_G) (k : Nat → ClassId) (xa : Nat → Nat) (ra : Nat → Nat → Nat) (xi : Nat → Int32) (rs : RS) (r : Int32) (A : Nat → Prop) : Array Value → State → Outcome → State → Prop := va_Qi (fun x (_ : Unit) => x = r) (fun _ t => va_P D vwCl (wN k xa ra xi rs) t.heap) A
set_option maxHeartbeats 4000000 in
theorem mX0_leaf (l : Launch) (D : va_G) (k : Nat → ClassId) (xa : Nat → Nat) (ra : Nat → Nat → Nat) (xi : Nat → Int32) (rs : RS) (p1 : Int32) (p2 : Int32) (p3 : Int32) (sz : Nat) (r : Int32) (rs_o : RS) (hf : fX0_leaf rs p1 p2 p3 = some (r, rs_o)) : Met l yX0_leaf (ws_ yX0_leaf cX0_leaf 4 (some .int)) rmX0_leaf (wrP D k (wN k xa ra xi rs) sz [.ref (xa 0), .int p1, .int p2, .int p3]) (qcX0_leaf D k xa ra xi rs_o r (va_A (wN k xa ra xi rs) sz)) 0 0 (va_A (wN k xa ra xi rs) sz) := by
  refine wr_start (Qc := fun A => qcX0_leaf D k xa ra xi rs_o r A) (by decide +kernel) (Nat.le_of_ble_eq_true rfl) ?_
  intro p e s m below meth c ls A hA hx hb hr hlk hml hown hts hP hK hD hl
  have hl : lv_has ls 4 [(0, .ref (xa 0)), (1, .int p1), (2, .int p2), (3, .int p3)] := hl
  have hown : s.vm.findClass RX0 = some m.cls := hown
  have hS : va_S A s.heap s.heap [] := va_S.rf
  suffices hw : ∀ (H : Heap) (locs : List Loc), va_P D vwCl (wN k xa ra xi rs) H → va_S A s.heap H locs → gW p l e rmX0_leaf s m [.ref (xa 0), .int p1, .int p2, .int p3] below meth c (qcX0_leaf D k xa ra xi rs_o r A) A 0 0 H locs 0 ls [] from hw s.heap [] hP hS
  clear hP hS
  intro H locs hP hS
  unfold fX0_leaf at hf
  refine lv_aload_n hx hb dX0_leaf_0 rfl (lv_at hl 0 rfl) ?_
  refine lv_iload_n hx hb dX0_leaf_1 rfl (lv_at hl 1 rfl) ?_
  obtain ⟨v1, ev1, hf⟩ := ob hf
  refine rd_callVZ (As := [.int p1]) (rest := []) ⟨hx, hb, hml, hown, hts⟩ (mX0_isNode l D k xa ra xi rs p1 _ ev1) (cwV 1 hts (lw_V q534 q536 qs19 q90 q537) rfl rfl rfl ⟨rfl, hdX0_isNode⟩ ⟨Nat.le_of_ble_eq_true rfl, Nat.le_of_ble_eq_true rfl⟩) hK hP [0, 1, 2, 3, 4, 5, 6] rfl 0 0 rfl rfl rfl hl.1 rfl (Nat.le_of_ble_eq_true rfl) dX0_leaf_2 ⟨Nat.le_of_ble_eq_true rfl, Nat.le_of_ble_eq_true rfl⟩ (fun zv1 => ?_)
  refine lv_if_eq (tgt := 27) hx hb dX0_leaf_5 (by decide) (fun c3 => ?_) (fun c3 => ?_)
  · have hf := oi_t c3 hf
    refine lv_iconst (v := (-1)) hx hb dX0_leaf_27 (by decide) ?_
    obtain ⟨he1, he2⟩ := prod2 hf
    rw [he2] at hP
    exact wr_iret hx hb hr hlk he1 hP hS dX0_leaf_28
  · have hf := oi_f c3 hf
    refine lv_iload_n hx hb dX0_leaf_8 rfl (lv_at hl 3 rfl) ?_
    refine lv_if_lt (tgt := 27) hx hb dX0_leaf_9 (by decide) (fun c4 => ?_) (fun c4 => ?_)
    · have hf := oi_t c4 hf
      refine lv_iconst (v := (-1)) hx hb dX0_leaf_27 (by decide) ?_
      obtain ⟨he1, he2⟩ := prod2 hf
      rw [he2] at hP
      exact wr_iret hx hb hr hlk he1 hP hS dX0_leaf_28
    · have hf := oi_f c4 hf
      refine lv_iload_n hx hb dX0_leaf_12 rfl (lv_at hl 2 rfl) ?_
      refine lv_i2l hx hb dX0_leaf_13 rfl ?_
      refine lv_lconst (v := 0) hx hb dX0_leaf_14 (by decide) ?_
      refine lv_aload_n hx hb dX0_leaf_15 rfl (lv_at hl 0 rfl) ?_
      refine lv_iload_n hx hb dX0_leaf_16 rfl (lv_at hl 1 rfl) ?_
      obtain ⟨v5, ev5, hf⟩ := ob hf
      refine rd_callV (As := [.int p1]) (rest := [.long (0 : Int64), .long ((p2).toInt64)]) ⟨hx, hb, hml, hown, hts⟩ (mX0_childrenOf l D k xa ra xi rs p1 _ ev5) (cwV 1 hts (lw_V q574 q576 qs29 q90 q577) rfl rfl rfl ⟨rfl, hdX0_childrenOf⟩ ⟨Nat.le_of_ble_eq_true rfl, Nat.le_of_ble_eq_true rfl⟩) hK hP [0, 1, 2, 3, 4, 5, 6] rfl 0 0 rfl rfl rfl hl.1 rfl (Nat.le_of_ble_eq_true rfl) dX0_leaf_17 ⟨Nat.le_of_ble_eq_true rfl, Nat.le_of_ble_eq_true rfl⟩ ?_
      refine lv_i2l hx hb dX0_leaf_20 rfl ?_
      obtain ⟨v7, ev7, hf⟩ := ob hf
      refine rd_callSZ (As := [.long ((p2).toInt64), .long (0 : Int64), .long ((v5).toInt64)]) (rest := []) ⟨hx, hb, hml, hown, hts⟩ (mX0_in l D k   ((p2).toInt64) (0 : Int64) ((v5).toInt64) _ ev7) (va_cwS 3 hts (lw_S q242 q243 q90 q244) rfl rfl rfl hdX0_in ⟨Nat.le_of_ble_eq_true rfl, Nat.le_of_ble_eq_true rfl⟩) hK rfl hl.1 rfl (Nat.le_of_ble_eq_true rfl) dX0_leaf_21 ⟨Nat.le_of_ble_eq_true rfl, Nat.le_of_ble_eq_true rfl⟩ (fun zv7 => ?_)
      refine lv_if_ne (tgt := 29) hx hb dX0_leaf_24 (by decide) (fun c9 => ?_) (fun c9 => ?_)
      · have hf := oi_f c9 hf
        refine lv_aload_n hx hb dX0_leaf_29 rfl (lv_at hl 0 rfl) ?_
        obtain ⟨v10, ev10, hf⟩ := ob hf
        refine rd_callV (As := []) (rest := []) ⟨hx, hb, hml, hown, hts⟩ (mX0_nodes l D k xa ra xi rs  _ ev10) (cwV 0 hts (lw_V q421 q423 qs7 q90 q424) rfl rfl rfl ⟨rfl, hdX0_nodes⟩ ⟨Nat.le_of_ble_eq_true rfl, Nat.le_of_ble_eq_true rfl⟩) hK hP [0, 1, 2, 3, 4, 5, 6] rfl 0 0 rfl rfl rfl hl.1 rfl (Nat.le_of_ble_eq_true rfl) dX0_leaf_30 ⟨Nat.le_of_ble_eq_true rfl, Nat.le_of_ble_eq_true rfl⟩ ?_
        refine lv_bipush (v := 64) hx hb dX0_leaf_33 (by decide) ?_
        refine lv_icmp_ne (tgt := 43) hx hb dX0_leaf_35 (by decide) (fun c12 => ?_) (fun c12 => ?_)
        · have hf := oi_f c12 hf
          refine lv_aload_n hx hb dX0_leaf_43 rfl (lv_at hl 0 rfl) ?_
          refine lv_iload_n hx hb dX0_leaf_44 rfl (lv_at hl 1 rfl) ?_
          refine lv_iload_n hx hb dX0_leaf_45 rfl (lv_at hl 2 rfl) ?_
          refine lv_iload_n hx hb dX0_leaf_46 rfl (lv_at hl 3 rfl) ?_
          obtain ⟨⟨v13, g14⟩, et15, hf⟩ := ob hf
          refine wr_callV (As := [.int p1, .int p2, .int p3]) (rest := []) ⟨hx, hb, hml, hown, hts⟩ (mX0_leafComes l D k xa ra xi rs p1 p2 p3 _ _ _ et15) (cwV 3 hts (lw_V q730 q732 qs44 q90 q733) rfl rfl rfl ⟨rfl, hdX0_leafComes⟩ ⟨Nat.le_of_ble_eq_true rfl, Nat.le_of_ble_eq_true rfl⟩) hK hP hD hS hA [0, 1, 2, 3, 4, 5, 6] [] (wN k xa ra xi g14) rfl rfl fm_n 7 rfl (by decide) (by decide) [(xa 0), (ra 0 0), (ra 0 1), (ra 0 2), (ra 0 3), (ra 0 4), (ra 0 5)] rfl rfl 0 0 rfl rfl rfl hl.1 rfl (Nat.le_of_ble_eq_true rfl) dX0_leaf_47 ⟨Nat.le_of_ble_eq_true rfl, Nat.le_of_ble_eq_true rfl⟩ (fun H locs hP hD hS => ?_)
          obtain ⟨he1, he2⟩ := prod2 hf
          rw [he2] at hP
          exact wr_iret hx hb hr hlk he1 hP hS dX0_leaf_50
        · have hf := oi_t c12 hf
          refine lv_bipush (v := (-3)) hx hb dX0_leaf_38 (by decide) ?_
          refine lv_goto (tgt := 50) hx hb dX0_leaf_40 (by decide) ?_
          obtain ⟨he1, he2⟩ := prod2 hf
          rw [he2] at hP
          exact wr_iret hx hb hr hlk he1 hP hS dX0_leaf_50
      · have hf := oi_t c9 hf
        refine lv_iconst (v := (-1)) hx hb dX0_leaf_27 (by decide) ?_
        obtain ⟨he1, he2⟩ := prod2 hf
        rw [he2] at hP
        exact wr_iret hx hb hr hlk he1 hP hS dX0_leaf_28

abbrev rmX0_falls : Room := { frames := 7, cells := 0, slots := 0, locals := 158 }
theorem hdX0_falls : yX0_falls.cls ≠ "java/lang/invoke/MethodHandle" ∧ yX0_falls.cls ≠ "java/lang/invoke/VarHandle" ∧ (parseMethodDescriptor yX0_falls.desc).map (fun d => d.parameters.length) = some 1 := by decide +kernel
abbrev qcX0_falls (D : va_G) (k : Nat → ClassId) (xa : Nat → Nat) (ra : Nat → Nat → Nat) (xi : Nat → Int32) (rs : RS) (A : Nat → Prop) : Array Value → State → Outcome → State → Prop := va_Qv (fun (_ : Unit) => True) (fun _ t => va_P D vwCl (wN k xa ra xi rs) t.heap) A
set_option maxHeartbeats 4000000 in
theorem mX0_falls (l : Launch) (D : va_G) (k : Nat → ClassId) (xa : Nat → Nat) (ra : Nat → Nat → Nat) (xi : Nat → Int32) (rs : RS) (p1 : Int32) (sz : Nat) (rs_o : RS) (hf : fX0_falls rs p1 = some rs_o) : Met l yX0_falls (ws_ yX0_falls cX0_falls 5 none) rmX0_falls (wrP D k (wN k xa ra xi rs) sz [.ref (xa 0), .int p1]) (qcX0_falls D k xa ra xi rs_o (va_A (wN k xa ra xi rs) sz)) 0 0 (va_A (wN k xa ra xi rs) sz) := by
  refine wr_start (Qc := fun A => qcX0_falls D k xa ra xi rs_o A) (by decide +kernel) (Nat.le_of_ble_eq_true rfl) ?_
  intro p e s m below meth c ls A hA hx hb hr hlk hml hown hts hP hK hD hl
  have hl : lv_has ls 5 [(0, .ref (xa 0)), (1, .int p1)] := hl
  have hown : s.vm.findClass RX0 = some m.cls := hown
  have hS : va_S A s.heap s.heap [] := va_S.rf
  suffices hw : ∀ (H : Heap) (locs : List Loc), va_P D vwCl (wN k xa ra xi rs) H → va_S A s.heap H locs → gW p l e rmX0_falls s m [.ref (xa 0), .int p1] below meth c (qcX0_falls D k xa ra xi rs_o A) A 0 0 H locs 0 ls [] from hw s.heap [] hP hS
  clear hP hS
  intro H locs hP hS
  unfold fX0_falls at hf
  refine lv_aload_n hx hb dX0_falls_0 rfl (lv_at hl 0 rfl) ?_
  refine lv_iload_n hx hb dX0_falls_1 rfl (lv_at hl 1 rfl) ?_
  obtain ⟨v1, ev1, hf⟩ := ob hf
  refine rd_callV (As := [.int p1]) (rest := []) ⟨hx, hb, hml, hown, hts⟩ (mX0_openOf l D k xa ra xi rs p1 _ ev1) (cwV 1 hts (lw_V q538 q540 qs20 q90 q541) rfl rfl rfl ⟨rfl, hdX0_openOf⟩ ⟨Nat.le_of_ble_eq_true rfl, Nat.le_of_ble_eq_true rfl⟩) hK hP [0, 1, 2, 3, 4, 5, 6] rfl 0 0 rfl rfl rfl hl.1 rfl (Nat.le_of_ble_eq_true rfl) dX0_falls_2 ⟨Nat.le_of_ble_eq_true rfl, Nat.le_of_ble_eq_true rfl⟩ ?_
  refine lv_istore_n (lv' := [(2, .int v1), (0, .ref (xa 0)), (1, .int p1)]) hx hb dX0_falls_5 rfl hl (by decide) rfl (fun ls hl => ?_)
  refine lv_iconst (v := 2) hx hb dX0_falls_6 (by decide) ?_
  refine lv_aload_n hx hb dX0_falls_7 rfl (lv_at hl 1 rfl) ?_
  refine lv_iload_n hx hb dX0_falls_8 rfl (lv_at hl 2 rfl) ?_
  obtain ⟨v3, ev3, hf⟩ := ob hf
  refine rd_callV (As := [.int p1]) (rest := [.int (2 : Int32)]) ⟨hx, hb, hml, hown, hts⟩ (mX0_sizeOf l D k xa ra xi rs p1 _ ev3) (cwV 1 hts (lw_V q578 q580 qs30 q90 q581) rfl rfl rfl ⟨rfl, hdX0_sizeOf⟩ ⟨Nat.le_of_ble_eq_true rfl, Nat.le_of_ble_eq_true rfl⟩) hK hP [0, 1, 2, 3, 4, 5, 6] rfl 0 0 rfl rfl rfl hl.1 rfl (Nat.le_of_ble_eq_true rfl) dX0_falls_9 ⟨Nat.le_of_ble_eq_true rfl, Nat.le_of_ble_eq_true rfl⟩ ?_
  refine lv_imul hx hb dX0_falls_12 ?_
  obtain ⟨y5, ey5, hf⟩ := ob hf
  refine x_asI ey5 ?_
  refine lv_istore_n (lv' := [(3, .int y5), (2, .int v1), (0, .ref (xa 0)), (1, .int p1)]) hx hb dX0_falls_13 rfl hl (by decide) rfl (fun ls hl => ?_)
  refine lv_iconst (v := 0) hx hb dX0_falls_14 (by decide) ?_
  refine lv_istore (lv' := [(4, .int (0 : Int32)), (3, .int y5), (2, .int v1), (0, .ref (xa 0)), (1, .int p1)]) hx hb dX0_falls_15 hl (by decide) rfl (fun ls hl => ?_)
  have hL17 : ∀ (nn : Nat) (rs_17 : RS) (x2_17 : Int32) (x3_17 : Int32) (x4_17 : Int32), ∀ (H : Heap) (locs : List Loc), va_P D vwCl (wN k xa ra xi rs_17) H → va_D A (wN k xa ra xi rs_17) → va_S A s.heap H locs → fX0_falls_L17 p1 nn rs_17 x2_17 x3_17 x4_17 = some rs_o → ∀ ls : Array Slot, lv_has ls 5 [(0, .ref (xa 0)), (1, .int p1), (2, .int x2_17), (3, .int x3_17), (4, .int x4_17)] → gW p l e rmX0_falls s m [.ref (xa 0), .int p1] below meth c (qcX0_falls D k xa ra xi rs_o A) A 0 0 H locs 17 ls [] := by
    intro nn17
    induction nn17 with
    | zero =>
      intro rs_17 x2_17 x3_17 x4_17 H locs hP hD hS hf
      rw [fX0_falls_L17] at hf; cases hf
    | succ nn17 ih17 =>
      intro rs_17 x2_17 x3_17 x4_17 H locs hP hD hS hf ls hl
      rw [fX0_falls_L17] at hf
      refine lv_iload hx hb dX0_falls_17 (lv_at hl 4 rfl) ?_
      refine lv_iload_n hx hb dX0_falls_19 rfl (lv_at hl 3 rfl) ?_
      refine lv_icmp_ge (tgt := 34) hx hb dX0_falls_20 (by decide) (fun c6 => ?_) (fun c6 => ?_)
      · have hf := oi_t c6 hf
        refine lv_aload_n hx hb dX0_falls_34 rfl (lv_at hl 0 rfl) ?_
        refine lv_iload_n hx hb dX0_falls_35 rfl (lv_at hl 1 rfl) ?_
        refine lv_iload_n hx hb dX0_falls_36 rfl (lv_at hl 3 rfl) ?_
        refine lv_iconst (v := 2) hx hb dX0_falls_37 (by decide) ?_
        refine lv_idiv hx hb dX0_falls_38 (by decide) ?_
        obtain ⟨g7, et8, hf⟩ := ob hf
        refine wr_callVv (As := [.int p1, .int (x3_17 / (2 : Int32))]) (rest := []) ⟨hx, hb, hml, hown, hts⟩ (mX0_weightsGo l D k xa ra xi rs_17 p1 (x3_17 / (2 : Int32)) _ _ et8) (cwV 2 hts (lw_V q755 q757 qs49 q90 q758) rfl rfl rfl ⟨rfl, hdX0_weightsGo⟩ ⟨Nat.le_of_ble_eq_true rfl, Nat.le_of_ble_eq_true rfl⟩) hK hP hD hS hA [0, 1, 2, 3, 4, 5, 6] [] (wN k xa ra xi g7) rfl rfl fm_n 7 rfl (by decide) (by decide) [(xa 0), (ra 0 0), (ra 0 1), (ra 0 2), (ra 0 3), (ra 0 4), (ra 0 5)] rfl rfl 0 0 rfl rfl rfl hl.1 rfl (Nat.le_of_ble_eq_true rfl) dX0_falls_39 ⟨Nat.le_of_ble_eq_true rfl, Nat.le_of_ble_eq_true rfl⟩ (fun H locs hP hD hS => ?_)
        refine lv_aload_n hx hb dX0_falls_42 rfl (lv_at hl 0 rfl) ?_
        refine va_get (D := D) (cl := vwCl) (ci := 0) (v := .ref (ra 0 0)) (C := RX0) (T := TX0) (N := 15) hx hb hts in_X0 hown hK.1 hP 0 rfl rfl 0 (by decide) (hts _ q190) (fun _ h9 => h9) rfl dX0_falls_43 ?_
        obtain ⟨g9, et10, hf⟩ := ob hf
        refine wr_callVv (As := []) (rest := []) ⟨hx, hb, hml, hown, hts⟩ (mX1_summariseAll l D k (ra 0) g7  _ _ et10) (cwV 0 hts (lw_V q168 q169 q170 q91 q171) rfl rfl rfl ⟨rfl, hdX1_summariseAll⟩ ⟨Nat.le_of_ble_eq_true rfl, Nat.le_of_ble_eq_true rfl⟩) hK hP hD hS hA [1, 2, 3, 4, 5, 6] [0] (wN k xa ra xi g9) rfl rfl (fm_c (fm_e _ rfl rfl) fm_n) 7 rfl (by decide) (by decide) [(xa 0), (ra 0 0), (ra 0 1), (ra 0 2), (ra 0 3), (ra 0 4), (ra 0 5)] rfl rfl 1 1 rfl rfl rfl hl.1 rfl (Nat.le_of_ble_eq_true rfl) dX0_falls_46 ⟨Nat.le_of_ble_eq_true rfl, Nat.le_of_ble_eq_true rfl⟩ (fun H locs hP hD hS => ?_)
        have he1 := Option.some.inj hf
        rw [he1] at hP
        exact wr_vret hx hb hr hlk hP hS dX0_falls_49
      · have hf := oi_f c6 hf
        refine lv_aload_n hx hb dX0_falls_23 rfl (lv_at hl 0 rfl) ?_
        refine lv_iload_n hx hb dX0_falls_24 rfl (lv_at hl 2 rfl) ?_
        obtain ⟨g11, et12, hf⟩ := ob hf
        refine wr_callVv (As := [.int x2_17]) (rest := []) ⟨hx, hb, hml, hown, hts⟩ (mX0_bitGoes l D k xa ra xi rs_17 x2_17 _ _ et12) (cwV 1 hts (lw_V q751 q753 qs48 q90 q754) rfl rfl rfl ⟨rfl, hdX0_bitGoes⟩ ⟨Nat.le_of_ble_eq_true rfl, Nat.le_of_ble_eq_true rfl⟩) hK hP hD hS hA [0, 1, 2, 3, 4, 5, 6] [] (wN k xa ra xi g11) rfl rfl fm_n 7 rfl (by decide) (by decide) [(xa 0), (ra 0 0), (ra 0 1), (ra 0 2), (ra 0 3), (ra 0 4), (ra 0 5)] rfl rfl 0 0 rfl rfl rfl hl.1 rfl (Nat.le_of_ble_eq_true rfl) dX0_falls_25 ⟨Nat.le_of_ble_eq_true rfl, Nat.le_of_ble_eq_true rfl⟩ (fun H locs hP hD hS => ?_)
        refine lv_iinc (v := (x4_17 + 1)) (lv' := [(4, .int (x4_17 + 1)), (0, .ref (xa 0)), (1, .int p1), (2, .int x2_17), (3, .int x3_17)]) hx hb dX0_falls_28 hl (k := 4) rfl rfl (by decide) rfl (fun ls hl => ?_)
        refine lv_goto (tgt := 17) hx hb dX0_falls_31 (by decide) ?_
        exact ih17 g11 x2_17 x3_17 (x4_17 + 1) H locs hP hD hS hf ls (lv_sub hl [1, 2, 3, 4, 0] rfl)
  exact hL17 FU rs v1 y5 (0 : Int32) H locs hP hD hS hf ls (lv_sub hl [3, 4, 2, 1, 0] rfl)

abbrev rmX0_prune : Room := { frames := 8, cells := 0, slots := 0, locals := 182 }
theorem hdX0_prune : yX0_prune.cls ≠ "java/lang/invoke/MethodHandle" ∧ yX0_prune.cls ≠ "java/lang/invoke/VarHandle" ∧ (parseMethodDescriptor yX0_prune.desc).map (fun d => d.parameters.length) = some 1 := by decide +kernel
abbrev qcX0_prune (D : va_G) (k : Nat → ClassId) (xa : Nat → Nat) (ra : Nat → Nat → Nat) (xi : Nat → Int32) (rs : RS) (r : Int32) (A : Nat → Prop) : Array Value → State → Outcome → State → Prop := va_Qi (fun x (_ : Unit) => x = r) (fun _ t => va_P D vwCl (wN k xa ra xi rs) t.heap) A
set_option maxHeartbeats 4000000 in
theorem mX0_prune (l : Launch) (D : va_G) (k : Nat → ClassId) (xa : Nat → Nat) (ra : Nat → Nat → Nat) (xi : Nat → Int32) (rs : RS) (p1 : Int32) (sz : Nat) (r : Int32) (rs_o : RS) (hf : fX0_prune rs p1 = some (r, rs_o)) : Met l yX0_prune (ws_ yX0_prune cX0_prune 2 (some .int)) rmX0_prune (wrP D k (wN k xa ra xi rs) sz [.ref (xa 0), .int p1]) (qcX0_prune D k xa ra xi rs_o r (va_A (wN k xa ra xi rs) sz)) 0 0 (va_A (wN k xa ra xi rs) sz) := by
  refine wr_start (Qc := fun A => qcX0_prune D k xa ra xi rs_o r A) (by decide +kernel) (Nat.le_of_ble_eq_true rfl) ?_
  intro p e s m below meth c ls A hA hx hb hr hlk hml hown hts hP hK hD hl
  have hl : lv_has ls 2 [(0, .ref (xa 0)), (1, .int p1)] := hl
  have hown : s.vm.findClass RX0 = some m.cls := hown
  have hS : va_S A s.heap s.heap [] := va_S.rf
  suffices hw : ∀ (H : Heap) (locs : List Loc), va_P D vwCl (wN k xa ra xi rs) H → va_S A s.heap H locs → gW p l e rmX0_prune s m [.ref (xa 0), .int p1] below meth c (qcX0_prune D k xa ra xi rs_o r A) A 0 0 H locs 0 ls [] from hw s.heap [] hP hS
  clear hP hS
  intro H locs hP hS
  unfold fX0_prune at hf
  refine lv_aload_n hx hb dX0_prune_0 rfl (lv_at hl 0 rfl) ?_
  refine lv_iload_n hx hb dX0_prune_1 rfl (lv_at hl 1 rfl) ?_
  obtain ⟨v1, ev1, hf⟩ := ob hf
  refine rd_callVZ (As := [.int p1]) (rest := []) ⟨hx, hb, hml, hown, hts⟩ (mX0_isNode l D k xa ra xi rs p1 _ ev1) (cwV 1 hts (lw_V q534 q536 qs19 q90 q537) rfl rfl rfl ⟨rfl, hdX0_isNode⟩ ⟨Nat.le_of_ble_eq_true rfl, Nat.le_of_ble_eq_true rfl⟩) hK hP [0, 1, 2, 3, 4, 5, 6] rfl 0 0 rfl rfl rfl hl.1 rfl (Nat.le_of_ble_eq_true rfl) dX0_prune_2 ⟨Nat.le_of_ble_eq_true rfl, Nat.le_of_ble_eq_true rfl⟩ (fun zv1 => ?_)
  refine lv_if_ne (tgt := 10) hx hb dX0_prune_5 (by decide) (fun c3 => ?_) (fun c3 => ?_)
  · have hf := oi_f c3 hf
    refine lv_aload_n hx hb dX0_prune_10 rfl (lv_at hl 0 rfl) ?_
    refine lv_iload_n hx hb dX0_prune_11 rfl (lv_at hl 1 rfl) ?_
    obtain ⟨v4, ev4, hf⟩ := ob hf
    refine rd_callV (As := [.int p1]) (rest := []) ⟨hx, hb, hml, hown, hts⟩ (mX0_firstOf l D k xa ra xi rs p1 _ ev4) (cwV 1 hts (lw_V q558 q560 qs25 q90 q561) rfl rfl rfl ⟨rfl, hdX0_firstOf⟩ ⟨Nat.le_of_ble_eq_true rfl, Nat.le_of_ble_eq_true rfl⟩) hK hP [0, 1, 2, 3, 4, 5, 6] rfl 0 0 rfl rfl rfl hl.1 rfl (Nat.le_of_ble_eq_true rfl) dX0_prune_12 ⟨Nat.le_of_ble_eq_true rfl, Nat.le_of_ble_eq_true rfl⟩ ?_
    refine lv_bipush (v := (-4)) hx hb dX0_prune_15 (by decide) ?_
    refine lv_icmp_eq (tgt := 23) hx hb dX0_prune_17 (by decide) (fun c6 => ?_) (fun c6 => ?_)
    · have hf := oi_t c6 hf
      refine lv_aload_n hx hb dX0_prune_23 rfl (lv_at hl 0 rfl) ?_
      refine lv_iload_n hx hb dX0_prune_24 rfl (lv_at hl 1 rfl) ?_
      obtain ⟨g7, et8, hf⟩ := ob hf
      refine wr_callVv (As := [.int p1]) (rest := []) ⟨hx, hb, hml, hown, hts⟩ (mX0_falls l D k xa ra xi rs p1 _ _ et8) (cwV 1 hts (lw_V q747 q749 qs47 q90 q750) rfl rfl rfl ⟨rfl, hdX0_falls⟩ ⟨Nat.le_of_ble_eq_true rfl, Nat.le_of_ble_eq_true rfl⟩) hK hP hD hS hA [0, 1, 2, 3, 4, 5, 6] [] (wN k xa ra xi g7) rfl rfl fm_n 7 rfl (by decide) (by decide) [(xa 0), (ra 0 0), (ra 0 1), (ra 0 2), (ra 0 3), (ra 0 4), (ra 0 5)] rfl rfl 0 0 rfl rfl rfl hl.1 rfl (Nat.le_of_ble_eq_true rfl) dX0_prune_25 ⟨Nat.le_of_ble_eq_true rfl, Nat.le_of_ble_eq_true rfl⟩ (fun H locs hP hD hS => ?_)
      refine lv_aload_n hx hb dX0_prune_28 rfl (lv_at hl 0 rfl) ?_
      obtain ⟨v9, ev9, hf⟩ := ob hf
      refine rd_callV (As := []) (rest := []) ⟨hx, hb, hml, hown, hts⟩ (mX0_nodes l D k xa ra xi g7  _ ev9) (cwV 0 hts (lw_V q421 q423 qs7 q90 q424) rfl rfl rfl ⟨rfl, hdX0_nodes⟩ ⟨Nat.le_of_ble_eq_true rfl, Nat.le_of_ble_eq_true rfl⟩) hK hP [0, 1, 2, 3, 4, 5, 6] rfl 0 0 rfl rfl rfl hl.1 rfl (Nat.le_of_ble_eq_true rfl) dX0_prune_29 ⟨Nat.le_of_ble_eq_true rfl, Nat.le_of_ble_eq_true rfl⟩ ?_
      obtain ⟨he1, he2⟩ := prod2 hf
      rw [he2] at hP
      exact wr_iret hx hb hr hlk he1 hP hS dX0_prune_32
    · have hf := oi_f c6 hf
      refine lv_bipush (v := (-2)) hx hb dX0_prune_20 (by decide) ?_
      obtain ⟨he1, he2⟩ := prod2 hf
      rw [he2] at hP
      exact wr_iret hx hb hr hlk he1 hP hS dX0_prune_22
  · have hf := oi_t c3 hf
    refine lv_iconst (v := (-1)) hx hb dX0_prune_8 (by decide) ?_
    obtain ⟨he1, he2⟩ := prod2 hf
    rw [he2] at hP
    exact wr_iret hx hb hr hlk he1 hP hS dX0_prune_9

abbrev rmX0_fell : Room := { frames := 8, cells := 0, slots := 0, locals := 182 }
theorem hdX0_fell : yX0_fell.cls ≠ "java/lang/invoke/MethodHandle" ∧ yX0_fell.cls ≠ "java/lang/invoke/VarHandle" ∧ (parseMethodDescriptor yX0_fell.desc).map (fun d => d.parameters.length) = some 1 := by decide +kernel
abbrev qcX0_fell (D : va_G) (k : Nat → ClassId) (xa : Nat → Nat) (ra : Nat → Nat → Nat) (xi : Nat → Int32) (rs : RS) (r : Int32) (A : Nat → Prop) : Array Value → State → Outcome → State → Prop := va_Qi (fun x (_ : Unit) => x = r) (fun _ t => va_P D vwCl (wN k xa ra xi rs) t.heap) A
set_option maxHeartbeats 4000000 in
theorem mX0_fell (l : Launch) (D : va_G) (k : Nat → ClassId) (xa : Nat → Nat) (ra : Nat → Nat → Nat) (xi : Nat → Int32) (rs : RS) (p1 : Int32) (sz : Nat) (r : Int32) (rs_o : RS) (hf : fX0_fell rs p1 = some (r, rs_o)) : Met l yX0_fell (ws_ yX0_fell cX0_fell 3 (some .int)) rmX0_fell (wrP D k (wN k xa ra xi rs) sz [.ref (xa 0), .int p1]) (qcX0_fell D k xa ra xi rs_o r (va_A (wN k xa ra xi rs) sz)) 0 0 (va_A (wN k xa ra xi rs) sz) := by
  refine wr_start (Qc := fun A => qcX0_fell D k xa ra xi rs_o r A) (by decide +kernel) (Nat.le_of_ble_eq_true rfl) ?_
  intro p e s m below meth c ls A hA hx hb hr hlk hml hown hts hP hK hD hl
  have hl : lv_has ls 3 [(0, .ref (xa 0)), (1, .int p1)] := hl
  have hown : s.vm.findClass RX0 = some m.cls := hown
  have hS : va_S A s.heap s.heap [] := va_S.rf
  suffices hw : ∀ (H : Heap) (locs : List Loc), va_P D vwCl (wN k xa ra xi rs) H → va_S A s.heap H locs → gW p l e rmX0_fell s m [.ref (xa 0), .int p1] below meth c (qcX0_fell D k xa ra xi rs_o r A) A 0 0 H locs 0 ls [] from hw s.heap [] hP hS
  clear hP hS
  intro H locs hP hS
  unfold fX0_fell at hf
  refine lv_aload_n hx hb dX0_fell_0 rfl (lv_at hl 0 rfl) ?_
  refine lv_iload_n hx hb dX0_fell_1 rfl (lv_at hl 1 rfl) ?_
  obtain ⟨v1, ev1, hf⟩ := ob hf
  refine rd_callVZ (As := [.int p1]) (rest := []) ⟨hx, hb, hml, hown, hts⟩ (mX0_isNode l D k xa ra xi rs p1 _ ev1) (cwV 1 hts (lw_V q534 q536 qs19 q90 q537) rfl rfl rfl ⟨rfl, hdX0_isNode⟩ ⟨Nat.le_of_ble_eq_true rfl, Nat.le_of_ble_eq_true rfl⟩) hK hP [0, 1, 2, 3, 4, 5, 6] rfl 0 0 rfl rfl rfl hl.1 rfl (Nat.le_of_ble_eq_true rfl) dX0_fell_2 ⟨Nat.le_of_ble_eq_true rfl, Nat.le_of_ble_eq_true rfl⟩ (fun zv1 => ?_)
  refine lv_if_ne (tgt := 10) hx hb dX0_fell_5 (by decide) (fun c3 => ?_) (fun c3 => ?_)
  · have hf := oi_f c3 hf
    refine lv_aload_n hx hb dX0_fell_10 rfl (lv_at hl 0 rfl) ?_
    refine lv_iload_n hx hb dX0_fell_11 rfl (lv_at hl 1 rfl) ?_
    obtain ⟨v4, ev4, hf⟩ := ob hf
    refine rd_callV (As := [.int p1]) (rest := []) ⟨hx, hb, hml, hown, hts⟩ (mX0_sizeOf l D k xa ra xi rs p1 _ ev4) (cwV 1 hts (lw_V q578 q580 qs30 q90 q581) rfl rfl rfl ⟨rfl, hdX0_sizeOf⟩ ⟨Nat.le_of_ble_eq_true rfl, Nat.le_of_ble_eq_true rfl⟩) hK hP [0, 1, 2, 3, 4, 5, 6] rfl 0 0 rfl rfl rfl hl.1 rfl (Nat.le_of_ble_eq_true rfl) dX0_fell_12 ⟨Nat.le_of_ble_eq_true rfl, Nat.le_of_ble_eq_true rfl⟩ ?_
    refine lv_istore_n (lv' := [(2, .int v4), (0, .ref (xa 0)), (1, .int p1)]) hx hb dX0_fell_15 rfl hl (by decide) rfl (fun ls hl => ?_)
    refine lv_aload_n hx hb dX0_fell_16 rfl (lv_at hl 1 rfl) ?_
    refine lv_iload_n hx hb dX0_fell_17 rfl (lv_at hl 2 rfl) ?_
    obtain ⟨g6, et7, hf⟩ := ob hf
    refine wr_callVv (As := [.int p1]) (rest := []) ⟨hx, hb, hml, hown, hts⟩ (mX0_falls l D k xa ra xi rs p1 _ _ et7) (cwV 1 hts (lw_V q747 q749 qs47 q90 q750) rfl rfl rfl ⟨rfl, hdX0_falls⟩ ⟨Nat.le_of_ble_eq_true rfl, Nat.le_of_ble_eq_true rfl⟩) hK hP hD hS hA [0, 1, 2, 3, 4, 5, 6] [] (wN k xa ra xi g6) rfl rfl fm_n 7 rfl (by decide) (by decide) [(xa 0), (ra 0 0), (ra 0 1), (ra 0 2), (ra 0 3), (ra 0 4), (ra 0 5)] rfl rfl 0 0 rfl rfl rfl hl.1 rfl (Nat.le_of_ble_eq_true rfl) dX0_fell_18 ⟨Nat.le_of_ble_eq_true rfl, Nat.le_of_ble_eq_true rfl⟩ (fun H locs hP hD hS => ?_)
    refine lv_iload_n hx hb dX0_fell_21 rfl (lv_at hl 0 rfl) ?_
    obtain ⟨he1, he2⟩ := prod2 hf
    rw [he2] at hP
    exact wr_iret hx hb hr hlk he1 hP hS dX0_fell_22
  · have hf := oi_t c3 hf
    refine lv_iconst (v := (-1)) hx hb dX0_fell_8 (by decide) ?_
    obtain ⟨he1, he2⟩ := prod2 hf
    rw [he2] at hP
    exact wr_iret hx hb hr hlk he1 hP hS dX0_fell_9

abbrev rmX0_wrap : Room := { frames := 9, cells := 0, slots := 0, locals := 206 }
theorem hdX0_wrap : yX0_wrap.cls ≠ "java/lang/invoke/MethodHandle" ∧ yX0_wrap.cls ≠ "java/lang/invoke/VarHandle" ∧ (parseMethodDescriptor yX0_wrap.desc).map (fun d => d.parameters.length) = some 4 := by decide +kernel
abbrev qcX0_wrap (D : va_G) (k : Nat → ClassId) (xa : Nat → Nat) (ra : Nat → Nat → Nat) (xi : Nat → Int32) (rs : RS) (r : Int32) (A : Nat → Prop) : Array Value → State → Outcome → State → Prop := va_Qi (fun x (_ : Unit) => x = r) (fun _ t => va_P D vwCl (wN k xa ra xi rs) t.heap) A
set_option maxHeartbeats 4000000 in
theorem mX0_wrap (l : Launch) (D : va_G) (k : Nat → ClassId) (xa : Nat → Nat) (ra : Nat → Nat → Nat) (xi : Nat → Int32) (rs : RS) (p1 : Int32) (p2 : Int32) (p3 : Int32) (p4 : Int32) (sz : Nat) (r : Int32) (rs_o : RS) (hf : fX0_wrap rs p1 p2 p3 p4 = some (r, rs_o)) : Met l yX0_wrap (ws_ yX0_wrap cX0_wrap 8 (some .int)) rmX0_wrap (wrP D k (wN k xa ra xi rs) sz [.ref (xa 0), .int p1, .int p2, .int p3, .int p4]) (qcX0_wrap D k xa ra xi rs_o r (va_A (wN k xa ra xi rs) sz)) 0 0 (va_A (wN k xa ra xi rs) sz) := by
  refine wr_start (Qc := fun A => qcX0_wrap D k xa ra xi rs_o r A) (by decide +kernel) (Nat.le_of_ble_eq_true rfl) ?_
  intro p e s m below meth c ls A hA hx hb hr hlk hml hown hts hP hK hD hl
  have hl : lv_has ls 8 [(0, .ref (xa 0)), (1, .int p1), (2, .int p2), (3, .int p3), (4, .int p4)] := hl
  have hown : s.vm.findClass RX0 = some m.cls := hown
  have hS : va_S A s.heap s.heap [] := va_S.rf
  suffices hw : ∀ (H : Heap) (locs : List Loc), va_P D vwCl (wN k xa ra xi rs) H → va_S A s.heap H locs → gW p l e rmX0_wrap s m [.ref (xa 0), .int p1, .int p2, .int p3, .int p4] below meth c (qcX0_wrap D k xa ra xi rs_o r A) A 0 0 H locs 0 ls [] from hw s.heap [] hP hS
  clear hP hS
  intro H locs hP hS
  unfold fX0_wrap at hf
  refine lv_aload_n hx hb dX0_wrap_0 rfl (lv_at hl 0 rfl) ?_
  refine lv_iload_n hx hb dX0_wrap_1 rfl (lv_at hl 1 rfl) ?_
  obtain ⟨v1, ev1, hf⟩ := ob hf
  refine rd_callVZ (As := [.int p1]) (rest := []) ⟨hx, hb, hml, hown, hts⟩ (mX0_isNode l D k xa ra xi rs p1 _ ev1) (cwV 1 hts (lw_V q534 q536 qs19 q90 q537) rfl rfl rfl ⟨rfl, hdX0_isNode⟩ ⟨Nat.le_of_ble_eq_true rfl, Nat.le_of_ble_eq_true rfl⟩) hK hP [0, 1, 2, 3, 4, 5, 6] rfl 0 0 rfl rfl rfl hl.1 rfl (Nat.le_of_ble_eq_true rfl) dX0_wrap_2 ⟨Nat.le_of_ble_eq_true rfl, Nat.le_of_ble_eq_true rfl⟩ (fun zv1 => ?_)
  refine lv_if_eq (tgt := 43) hx hb dX0_wrap_5 (by decide) (fun c3 => ?_) (fun c3 => ?_)
  · have hf := oi_t c3 hf
    refine lv_iconst (v := (-1)) hx hb dX0_wrap_43 (by decide) ?_
    obtain ⟨he1, he2⟩ := prod2 hf
    rw [he2] at hP
    exact wr_iret hx hb hr hlk he1 hP hS dX0_wrap_44
  · have hf := oi_f c3 hf
    refine lv_iload hx hb dX0_wrap_8 (lv_at hl 4 rfl) ?_
    refine lv_if_lt (tgt := 43) hx hb dX0_wrap_10 (by decide) (fun c4 => ?_) (fun c4 => ?_)
    · have hf := oi_t c4 hf
      refine lv_iconst (v := (-1)) hx hb dX0_wrap_43 (by decide) ?_
      obtain ⟨he1, he2⟩ := prod2 hf
      rw [he2] at hP
      exact wr_iret hx hb hr hlk he1 hP hS dX0_wrap_44
    · have hf := oi_f c4 hf
      refine lv_iload_n hx hb dX0_wrap_13 rfl (lv_at hl 3 rfl) ?_
      refine lv_if_lt (tgt := 43) hx hb dX0_wrap_14 (by decide) (fun c5 => ?_) (fun c5 => ?_)
      · have hf := oi_t c5 hf
        refine lv_iconst (v := (-1)) hx hb dX0_wrap_43 (by decide) ?_
        obtain ⟨he1, he2⟩ := prod2 hf
        rw [he2] at hP
        exact wr_iret hx hb hr hlk he1 hP hS dX0_wrap_44
      · have hf := oi_f c5 hf
        refine lv_iload_n hx hb dX0_wrap_17 rfl (lv_at hl 2 rfl) ?_
        refine lv_i2l hx hb dX0_wrap_18 rfl ?_
        refine lv_lconst (v := 0) hx hb dX0_wrap_19 (by decide) ?_
        refine lv_aload_n hx hb dX0_wrap_20 rfl (lv_at hl 0 rfl) ?_
        refine lv_iload_n hx hb dX0_wrap_21 rfl (lv_at hl 1 rfl) ?_
        obtain ⟨v6, ev6, hf⟩ := ob hf
        refine rd_callV (As := [.int p1]) (rest := [.long (0 : Int64), .long ((p2).toInt64)]) ⟨hx, hb, hml, hown, hts⟩ (mX0_childrenOf l D k xa ra xi rs p1 _ ev6) (cwV 1 hts (lw_V q574 q576 qs29 q90 q577) rfl rfl rfl ⟨rfl, hdX0_childrenOf⟩ ⟨Nat.le_of_ble_eq_true rfl, Nat.le_of_ble_eq_true rfl⟩) hK hP [0, 1, 2, 3, 4, 5, 6] rfl 0 0 rfl rfl rfl hl.1 rfl (Nat.le_of_ble_eq_true rfl) dX0_wrap_22 ⟨Nat.le_of_ble_eq_true rfl, Nat.le_of_ble_eq_true rfl⟩ ?_
        refine lv_i2l hx hb dX0_wrap_25 rfl ?_
        obtain ⟨v8, ev8, hf⟩ := ob hf
        refine rd_callSZ (As := [.long ((p2).toInt64), .long (0 : Int64), .long ((v6).toInt64)]) (rest := []) ⟨hx, hb, hml, hown, hts⟩ (mX0_in l D k   ((p2).toInt64) (0 : Int64) ((v6).toInt64) _ ev8) (va_cwS 3 hts (lw_S q242 q243 q90 q244) rfl rfl rfl hdX0_in ⟨Nat.le_of_ble_eq_true rfl, Nat.le_of_ble_eq_true rfl⟩) hK rfl hl.1 rfl (Nat.le_of_ble_eq_true rfl) dX0_wrap_26 ⟨Nat.le_of_ble_eq_true rfl, Nat.le_of_ble_eq_true rfl⟩ (fun zv8 => ?_)
        refine lv_if_eq (tgt := 43) hx hb dX0_wrap_29 (by decide) (fun c10 => ?_) (fun c10 => ?_)
        · have hf := oi_t c10 hf
          refine lv_iconst (v := (-1)) hx hb dX0_wrap_43 (by decide) ?_
          obtain ⟨he1, he2⟩ := prod2 hf
          rw [he2] at hP
          exact wr_iret hx hb hr hlk he1 hP hS dX0_wrap_44
        · have hf := oi_f c10 hf
          refine lv_iload_n hx hb dX0_wrap_32 rfl (lv_at hl 3 rfl) ?_
          refine lv_aload_n hx hb dX0_wrap_33 rfl (lv_at hl 0 rfl) ?_
          refine lv_iload_n hx hb dX0_wrap_34 rfl (lv_at hl 1 rfl) ?_
          obtain ⟨v11, ev11, hf⟩ := ob hf
          refine rd_callV (As := [.int p1]) (rest := [.int p3]) ⟨hx, hb, hml, hown, hts⟩ (mX0_childrenOf l D k xa ra xi rs p1 _ ev11) (cwV 1 hts (lw_V q574 q576 qs29 q90 q577) rfl rfl rfl ⟨rfl, hdX0_childrenOf⟩ ⟨Nat.le_of_ble_eq_true rfl, Nat.le_of_ble_eq_true rfl⟩) hK hP [0, 1, 2, 3, 4, 5, 6] rfl 0 0 rfl rfl rfl hl.1 rfl (Nat.le_of_ble_eq_true rfl) dX0_wrap_35 ⟨Nat.le_of_ble_eq_true rfl, Nat.le_of_ble_eq_true rfl⟩ ?_
          refine lv_iload_n hx hb dX0_wrap_38 rfl (lv_at hl 2 rfl) ?_
          refine lv_isub hx hb dX0_wrap_39 ?_
          refine lv_icmp_le (tgt := 45) hx hb dX0_wrap_40 (by decide) (fun c13 => ?_) (fun c13 => ?_)
          · have hf := oi_t c13 hf
            refine lv_aload_n hx hb dX0_wrap_45 rfl (lv_at hl 0 rfl) ?_
            obtain ⟨v14, ev14, hf⟩ := ob hf
            refine rd_callV (As := []) (rest := []) ⟨hx, hb, hml, hown, hts⟩ (mX0_nodes l D k xa ra xi rs  _ ev14) (cwV 0 hts (lw_V q421 q423 qs7 q90 q424) rfl rfl rfl ⟨rfl, hdX0_nodes⟩ ⟨Nat.le_of_ble_eq_true rfl, Nat.le_of_ble_eq_true rfl⟩) hK hP [0, 1, 2, 3, 4, 5, 6] rfl 0 0 rfl rfl rfl hl.1 rfl (Nat.le_of_ble_eq_true rfl) dX0_wrap_46 ⟨Nat.le_of_ble_eq_true rfl, Nat.le_of_ble_eq_true rfl⟩ ?_
            refine lv_bipush (v := 64) hx hb dX0_wrap_49 (by decide) ?_
            refine lv_icmp_ne (tgt := 57) hx hb dX0_wrap_51 (by decide) (fun c16 => ?_) (fun c16 => ?_)
            · have hf := oi_f c16 hf
              refine lv_aload_n hx hb dX0_wrap_57 rfl (lv_at hl 0 rfl) ?_
              refine lv_iload_n hx hb dX0_wrap_58 rfl (lv_at hl 1 rfl) ?_
              refine lv_iload_n hx hb dX0_wrap_59 rfl (lv_at hl 2 rfl) ?_
              obtain ⟨v17, ev17, hf⟩ := ob hf
              refine rd_callV (As := [.int p1, .int p2]) (rest := []) ⟨hx, hb, hml, hown, hts⟩ (mX0_placeOfChild l D k xa ra xi rs p1 p2 _ ev17) (cwV 2 hts (lw_V q734 q736 qs45 q90 q737) rfl rfl rfl ⟨rfl, hdX0_placeOfChild⟩ ⟨Nat.le_of_ble_eq_true rfl, Nat.le_of_ble_eq_true rfl⟩) hK hP [0, 1, 2, 3, 4, 5, 6] rfl 0 0 rfl rfl rfl hl.1 rfl (Nat.le_of_ble_eq_true rfl) dX0_wrap_60 ⟨Nat.le_of_ble_eq_true rfl, Nat.le_of_ble_eq_true rfl⟩ ?_
              refine lv_istore (lv' := [(5, .int v17), (0, .ref (xa 0)), (1, .int p1), (2, .int p2), (3, .int p3), (4, .int p4)]) hx hb dX0_wrap_63 hl (by decide) rfl (fun ls hl => ?_)
              refine lv_aload_n hx hb dX0_wrap_65 rfl (lv_at hl 1 rfl) ?_
              refine lv_iload_n hx hb dX0_wrap_66 rfl (lv_at hl 2 rfl) ?_
              refine lv_iload_n hx hb dX0_wrap_67 rfl (lv_at hl 3 rfl) ?_
              refine lv_iload_n hx hb dX0_wrap_68 rfl (lv_at hl 4 rfl) ?_
              refine lv_iadd hx hb dX0_wrap_69 ?_
              obtain ⟨v19, ev19, hf⟩ := ob hf
              refine rd_callV (As := [.int p1, .int (p2 + p3)]) (rest := []) ⟨hx, hb, hml, hown, hts⟩ (mX0_placeOfChild l D k xa ra xi rs p1 (p2 + p3) _ ev19) (cwV 2 hts (lw_V q734 q736 qs45 q90 q737) rfl rfl rfl ⟨rfl, hdX0_placeOfChild⟩ ⟨Nat.le_of_ble_eq_true rfl, Nat.le_of_ble_eq_true rfl⟩) hK hP [0, 1, 2, 3, 4, 5, 6] rfl 0 0 rfl rfl rfl hl.1 rfl (Nat.le_of_ble_eq_true rfl) dX0_wrap_70 ⟨Nat.le_of_ble_eq_true rfl, Nat.le_of_ble_eq_true rfl⟩ ?_
              refine lv_istore (lv' := [(6, .int v19), (5, .int v17), (0, .ref (xa 0)), (1, .int p1), (2, .int p2), (3, .int p3), (4, .int p4)]) hx hb dX0_wrap_73 hl (by decide) rfl (fun ls hl => ?_)
              refine lv_aload_n hx hb dX0_wrap_75 rfl (lv_at hl 2 rfl) ?_
              refine lv_iload hx hb dX0_wrap_76 (lv_at hl 1 rfl) ?_
              obtain ⟨v21, ev21, hf⟩ := ob hf
              refine rd_callV (As := [.int v17]) (rest := []) ⟨hx, hb, hml, hown, hts⟩ (mX0_nodeAt l D k xa ra xi rs v17 _ ev21) (cwV 1 hts (lw_V q554 q556 qs24 q90 q557) rfl rfl rfl ⟨rfl, hdX0_nodeAt⟩ ⟨Nat.le_of_ble_eq_true rfl, Nat.le_of_ble_eq_true rfl⟩) hK hP [0, 1, 2, 3, 4, 5, 6] rfl 0 0 rfl rfl rfl hl.1 rfl (Nat.le_of_ble_eq_true rfl) dX0_wrap_78 ⟨Nat.le_of_ble_eq_true rfl, Nat.le_of_ble_eq_true rfl⟩ ?_
              refine lv_istore (lv' := [(7, .int v21), (6, .int v19), (5, .int v17), (0, .ref (xa 0)), (1, .int p1), (2, .int p2), (3, .int p3), (4, .int p4)]) hx hb dX0_wrap_81 hl (by decide) rfl (fun ls hl => ?_)
              refine lv_aload_n hx hb dX0_wrap_83 rfl (lv_at hl 3 rfl) ?_
              refine lv_iload hx hb dX0_wrap_84 (lv_at hl 1 rfl) ?_
              refine lv_iconst (v := 0) hx hb dX0_wrap_86 (by decide) ?_
              obtain ⟨g23, et24, hf⟩ := ob hf
              refine wr_callVv (As := [.int v19, .int (0 : Int32)]) (rest := []) ⟨hx, hb, hml, hown, hts⟩ (mX0_bitComes l D k xa ra xi rs v19 (0 : Int32) _ _ et24) (cwV 2 hts (lw_V q721 q723 qs43 q90 q724) rfl rfl rfl ⟨rfl, hdX0_bitComes⟩ ⟨Nat.le_of_ble_eq_true rfl, Nat.le_of_ble_eq_true rfl⟩) hK hP hD hS hA [0, 1, 2, 3, 4, 5, 6] [] (wN k xa ra xi g23) rfl rfl fm_n 7 rfl (by decide) (by decide) [(xa 0), (ra 0 0), (ra 0 1), (ra 0 2), (ra 0 3), (ra 0 4), (ra 0 5)] rfl rfl 0 0 rfl rfl rfl hl.1 rfl (Nat.le_of_ble_eq_true rfl) dX0_wrap_87 ⟨Nat.le_of_ble_eq_true rfl, Nat.le_of_ble_eq_true rfl⟩ (fun H locs hP hD hS => ?_)
              refine lv_aload_n hx hb dX0_wrap_90 rfl (lv_at hl 3 rfl) ?_
              refine lv_iload hx hb dX0_wrap_91 (lv_at hl 2 rfl) ?_
              refine lv_iconst (v := 1) hx hb dX0_wrap_93 (by decide) ?_
              obtain ⟨g25, et26, hf⟩ := ob hf
              refine wr_callVv (As := [.int v17, .int (1 : Int32)]) (rest := []) ⟨hx, hb, hml, hown, hts⟩ (mX0_bitComes l D k xa ra xi g23 v17 (1 : Int32) _ _ et26) (cwV 2 hts (lw_V q721 q723 qs43 q90 q724) rfl rfl rfl ⟨rfl, hdX0_bitComes⟩ ⟨Nat.le_of_ble_eq_true rfl, Nat.le_of_ble_eq_true rfl⟩) hK hP hD hS hA [0, 1, 2, 3, 4, 5, 6] [] (wN k xa ra xi g25) rfl rfl fm_n 7 rfl (by decide) (by decide) [(xa 0), (ra 0 0), (ra 0 1), (ra 0 2), (ra 0 3), (ra 0 4), (ra 0 5)] rfl rfl 0 0 rfl rfl rfl hl.1 rfl (Nat.le_of_ble_eq_true rfl) dX0_wrap_94 ⟨Nat.le_of_ble_eq_true rfl, Nat.le_of_ble_eq_true rfl⟩ (fun H locs hP hD hS => ?_)
              refine lv_aload_n hx hb dX0_wrap_97 rfl (lv_at hl 3 rfl) ?_
              refine lv_iload hx hb dX0_wrap_98 (lv_at hl 0 rfl) ?_
              refine lv_iload hx hb dX0_wrap_100 (lv_at hl 7 rfl) ?_
              obtain ⟨g27, et28, hf⟩ := ob hf
              refine wr_callVv (As := [.int v21, .int p4]) (rest := []) ⟨hx, hb, hml, hown, hts⟩ (mX0_weightComes l D k xa ra xi g25 v21 p4 _ _ et28) (cwV 2 hts (lw_V q738 q740 qs46 q90 q741) rfl rfl rfl ⟨rfl, hdX0_weightComes⟩ ⟨Nat.le_of_ble_eq_true rfl, Nat.le_of_ble_eq_true rfl⟩) hK hP hD hS hA [0, 1, 2, 3, 4, 5, 6] [] (wN k xa ra xi g27) rfl rfl fm_n 7 rfl (by decide) (by decide) [(xa 0), (ra 0 0), (ra 0 1), (ra 0 2), (ra 0 3), (ra 0 4), (ra 0 5)] rfl rfl 0 0 rfl rfl rfl hl.1 rfl (Nat.le_of_ble_eq_true rfl) dX0_wrap_102 ⟨Nat.le_of_ble_eq_true rfl, Nat.le_of_ble_eq_true rfl⟩ (fun H locs hP hD hS => ?_)
              refine lv_aload_n hx hb dX0_wrap_105 rfl (lv_at hl 3 rfl) ?_
              refine va_get (D := D) (cl := vwCl) (ci := 0) (v := .ref (ra 0 0)) (C := RX0) (T := TX0) (N := 15) hx hb hts in_X0 hown hK.1 hP 0 rfl rfl 0 (by decide) (hts _ q190) (fun _ h9 => h9) rfl dX0_wrap_106 ?_
              obtain ⟨g29, et30, hf⟩ := ob hf
              refine wr_callVv (As := []) (rest := []) ⟨hx, hb, hml, hown, hts⟩ (mX1_summariseAll l D k (ra 0) g27  _ _ et30) (cwV 0 hts (lw_V q168 q169 q170 q91 q171) rfl rfl rfl ⟨rfl, hdX1_summariseAll⟩ ⟨Nat.le_of_ble_eq_true rfl, Nat.le_of_ble_eq_true rfl⟩) hK hP hD hS hA [1, 2, 3, 4, 5, 6] [0] (wN k xa ra xi g29) rfl rfl (fm_c (fm_e _ rfl rfl) fm_n) 7 rfl (by decide) (by decide) [(xa 0), (ra 0 0), (ra 0 1), (ra 0 2), (ra 0 3), (ra 0 4), (ra 0 5)] rfl rfl 1 1 rfl rfl rfl hl.1 rfl (Nat.le_of_ble_eq_true rfl) dX0_wrap_109 ⟨Nat.le_of_ble_eq_true rfl, Nat.le_of_ble_eq_true rfl⟩ (fun H locs hP hD hS => ?_)
              refine lv_iload hx hb dX0_wrap_112 (lv_at hl 0 rfl) ?_
              obtain ⟨he1, he2⟩ := prod2 hf
              rw [he2] at hP
              exact wr_iret hx hb hr hlk he1 hP hS dX0_wrap_114
            · have hf := oi_t c16 hf
              refine lv_bipush (v := (-3)) hx hb dX0_wrap_54 (by decide) ?_
              obtain ⟨he1, he2⟩ := prod2 hf
              rw [he2] at hP
              exact wr_iret hx hb hr hlk he1 hP hS dX0_wrap_56
          · have hf := oi_f c13 hf
            refine lv_iconst (v := (-1)) hx hb dX0_wrap_43 (by decide) ?_
            obtain ⟨he1, he2⟩ := prod2 hf
            rw [he2] at hP
            exact wr_iret hx hb hr hlk he1 hP hS dX0_wrap_44

abbrev rmX0_melt : Room := { frames := 8, cells := 0, slots := 0, locals := 182 }
theorem hdX0_melt : yX0_melt.cls ≠ "java/lang/invoke/MethodHandle" ∧ yX0_melt.cls ≠ "java/lang/invoke/VarHandle" ∧ (parseMethodDescriptor yX0_melt.desc).map (fun d => d.parameters.length) = some 1 := by decide +kernel
abbrev qcX0_melt (D : va_G) (k : Nat → ClassId) (xa : Nat → Nat) (ra : Nat → Nat → Nat) (xi : Nat → Int32) (rs : RS) (r : Int32) (A : Nat → Prop) : Array Value → State → Outcome → State → Prop := va_Qi (fun x (_ : Unit) => x = r) (fun _ t => va_P D vwCl (wN k xa ra xi rs) t.heap) A
set_option maxHeartbeats 4000000 in
theorem mX0_melt (l : Launch) (D : va_G) (k : Nat → ClassId) (xa : Nat → Nat) (ra : Nat → Nat → Nat) (xi : Nat → Int32) (rs : RS) (p1 : Int32) (sz : Nat) (r : Int32) (rs_o : RS) (hf : fX0_melt rs p1 = some (r, rs_o)) : Met l yX0_melt (ws_ yX0_melt cX0_melt 3 (some .int)) rmX0_melt (wrP D k (wN k xa ra xi rs) sz [.ref (xa 0), .int p1]) (qcX0_melt D k xa ra xi rs_o r (va_A (wN k xa ra xi rs) sz)) 0 0 (va_A (wN k xa ra xi rs) sz) := by
  refine wr_start (Qc := fun A => qcX0_melt D k xa ra xi rs_o r A) (by decide +kernel) (Nat.le_of_ble_eq_true rfl) ?_
  intro p e s m below meth c ls A hA hx hb hr hlk hml hown hts hP hK hD hl
  have hl : lv_has ls 3 [(0, .ref (xa 0)), (1, .int p1)] := hl
  have hown : s.vm.findClass RX0 = some m.cls := hown
  have hS : va_S A s.heap s.heap [] := va_S.rf
  suffices hw : ∀ (H : Heap) (locs : List Loc), va_P D vwCl (wN k xa ra xi rs) H → va_S A s.heap H locs → gW p l e rmX0_melt s m [.ref (xa 0), .int p1] below meth c (qcX0_melt D k xa ra xi rs_o r A) A 0 0 H locs 0 ls [] from hw s.heap [] hP hS
  clear hP hS
  intro H locs hP hS
  unfold fX0_melt at hf
  refine lv_aload_n hx hb dX0_melt_0 rfl (lv_at hl 0 rfl) ?_
  refine lv_iload_n hx hb dX0_melt_1 rfl (lv_at hl 1 rfl) ?_
  obtain ⟨v1, ev1, hf⟩ := ob hf
  refine rd_callVZ (As := [.int p1]) (rest := []) ⟨hx, hb, hml, hown, hts⟩ (mX0_isNode l D k xa ra xi rs p1 _ ev1) (cwV 1 hts (lw_V q534 q536 qs19 q90 q537) rfl rfl rfl ⟨rfl, hdX0_isNode⟩ ⟨Nat.le_of_ble_eq_true rfl, Nat.le_of_ble_eq_true rfl⟩) hK hP [0, 1, 2, 3, 4, 5, 6] rfl 0 0 rfl rfl rfl hl.1 rfl (Nat.le_of_ble_eq_true rfl) dX0_melt_2 ⟨Nat.le_of_ble_eq_true rfl, Nat.le_of_ble_eq_true rfl⟩ (fun zv1 => ?_)
  refine lv_if_ne (tgt := 10) hx hb dX0_melt_5 (by decide) (fun c3 => ?_) (fun c3 => ?_)
  · have hf := oi_f c3 hf
    refine lv_iload_n hx hb dX0_melt_10 rfl (lv_at hl 1 rfl) ?_
    have hB26 : ∀ (rs_26 : RS), ∀ (H : Heap) (locs : List Loc), va_P D vwCl (wN k xa ra xi rs_26) H → va_D A (wN k xa ra xi rs_26) → va_S A s.heap H locs → fX0_melt_B26 p1 rs_26 = some (r, rs_o) → ∀ ls : Array Slot, lv_has ls 3 [(0, .ref (xa 0)), (1, .int p1)] → gW p l e rmX0_melt s m [.ref (xa 0), .int p1] below meth c (qcX0_melt D k xa ra xi rs_o r A) A 0 0 H locs 26 ls [] := by
      intro rs_26 H locs hP hD hS hf ls hl
      unfold fX0_melt_B26 at hf
      refine lv_aload_n hx hb dX0_melt_26 rfl (lv_at hl 0 rfl) ?_
      refine lv_iload_n hx hb dX0_melt_27 rfl (lv_at hl 1 rfl) ?_
      obtain ⟨v5, ev5, hf⟩ := ob hf
      refine rd_callV (As := [.int p1]) (rest := []) ⟨hx, hb, hml, hown, hts⟩ (mX0_openOf l D k xa ra xi rs_26 p1 _ ev5) (cwV 1 hts (lw_V q538 q540 qs20 q90 q541) rfl rfl rfl ⟨rfl, hdX0_openOf⟩ ⟨Nat.le_of_ble_eq_true rfl, Nat.le_of_ble_eq_true rfl⟩) hK hP [0, 1, 2, 3, 4, 5, 6] rfl 0 0 rfl rfl rfl hl.1 rfl (Nat.le_of_ble_eq_true rfl) dX0_melt_28 ⟨Nat.le_of_ble_eq_true rfl, Nat.le_of_ble_eq_true rfl⟩ ?_
      refine lv_istore_n (lv' := [(2, .int v5), (0, .ref (xa 0)), (1, .int p1)]) hx hb dX0_melt_31 rfl hl (by decide) rfl (fun ls hl => ?_)
      refine lv_aload_n hx hb dX0_melt_32 rfl (lv_at hl 1 rfl) ?_
      refine lv_aload_n hx hb dX0_melt_33 rfl (lv_at hl 1 rfl) ?_
      refine lv_iload_n hx hb dX0_melt_34 rfl (lv_at hl 0 rfl) ?_
      obtain ⟨v7, ev7, hf⟩ := ob hf
      refine rd_callV (As := [.int v5]) (rest := [.ref (xa 0)]) ⟨hx, hb, hml, hown, hts⟩ (mX0_partner l D k xa ra xi rs_26 v5 _ ev7) (cwV 1 hts (lw_V q512 q514 qs17 q90 q515) rfl rfl rfl ⟨rfl, hdX0_partner⟩ ⟨Nat.le_of_ble_eq_true rfl, Nat.le_of_ble_eq_true rfl⟩) hK hP [0, 1, 2, 3, 4, 5, 6] rfl 0 0 rfl rfl rfl hl.1 rfl (Nat.le_of_ble_eq_true rfl) dX0_melt_35 ⟨Nat.le_of_ble_eq_true rfl, Nat.le_of_ble_eq_true rfl⟩ ?_
      obtain ⟨g9, et10, hf⟩ := ob hf
      refine wr_callVv (As := [.int v7]) (rest := []) ⟨hx, hb, hml, hown, hts⟩ (mX0_bitGoes l D k xa ra xi rs_26 v7 _ _ et10) (cwV 1 hts (lw_V q751 q753 qs48 q90 q754) rfl rfl rfl ⟨rfl, hdX0_bitGoes⟩ ⟨Nat.le_of_ble_eq_true rfl, Nat.le_of_ble_eq_true rfl⟩) hK hP hD hS hA [0, 1, 2, 3, 4, 5, 6] [] (wN k xa ra xi g9) rfl rfl fm_n 7 rfl (by decide) (by decide) [(xa 0), (ra 0 0), (ra 0 1), (ra 0 2), (ra 0 3), (ra 0 4), (ra 0 5)] rfl rfl 0 0 rfl rfl rfl hl.1 rfl (Nat.le_of_ble_eq_true rfl) dX0_melt_38 ⟨Nat.le_of_ble_eq_true rfl, Nat.le_of_ble_eq_true rfl⟩ (fun H locs hP hD hS => ?_)
      refine lv_aload_n hx hb dX0_melt_41 rfl (lv_at hl 1 rfl) ?_
      refine lv_iload_n hx hb dX0_melt_42 rfl (lv_at hl 0 rfl) ?_
      obtain ⟨g11, et12, hf⟩ := ob hf
      refine wr_callVv (As := [.int v5]) (rest := []) ⟨hx, hb, hml, hown, hts⟩ (mX0_bitGoes l D k xa ra xi g9 v5 _ _ et12) (cwV 1 hts (lw_V q751 q753 qs48 q90 q754) rfl rfl rfl ⟨rfl, hdX0_bitGoes⟩ ⟨Nat.le_of_ble_eq_true rfl, Nat.le_of_ble_eq_true rfl⟩) hK hP hD hS hA [0, 1, 2, 3, 4, 5, 6] [] (wN k xa ra xi g11) rfl rfl fm_n 7 rfl (by decide) (by decide) [(xa 0), (ra 0 0), (ra 0 1), (ra 0 2), (ra 0 3), (ra 0 4), (ra 0 5)] rfl rfl 0 0 rfl rfl rfl hl.1 rfl (Nat.le_of_ble_eq_true rfl) dX0_melt_43 ⟨Nat.le_of_ble_eq_true rfl, Nat.le_of_ble_eq_true rfl⟩ (fun H locs hP hD hS => ?_)
      refine lv_aload_n hx hb dX0_melt_46 rfl (lv_at hl 1 rfl) ?_
      refine lv_iload_n hx hb dX0_melt_47 rfl (lv_at hl 2 rfl) ?_
      refine lv_iconst (v := 1) hx hb dX0_melt_48 (by decide) ?_
      obtain ⟨g13, et14, hf⟩ := ob hf
      refine wr_callVv (As := [.int p1, .int (1 : Int32)]) (rest := []) ⟨hx, hb, hml, hown, hts⟩ (mX0_weightsGo l D k xa ra xi g11 p1 (1 : Int32) _ _ et14) (cwV 2 hts (lw_V q755 q757 qs49 q90 q758) rfl rfl rfl ⟨rfl, hdX0_weightsGo⟩ ⟨Nat.le_of_ble_eq_true rfl, Nat.le_of_ble_eq_true rfl⟩) hK hP hD hS hA [0, 1, 2, 3, 4, 5, 6] [] (wN k xa ra xi g13) rfl rfl fm_n 7 rfl (by decide) (by decide) [(xa 0), (ra 0 0), (ra 0 1), (ra 0 2), (ra 0 3), (ra 0 4), (ra 0 5)] rfl rfl 0 0 rfl rfl rfl hl.1 rfl (Nat.le_of_ble_eq_true rfl) dX0_melt_49 ⟨Nat.le_of_ble_eq_true rfl, Nat.le_of_ble_eq_true rfl⟩ (fun H locs hP hD hS => ?_)
      refine lv_aload_n hx hb dX0_melt_52 rfl (lv_at hl 1 rfl) ?_
      refine va_get (D := D) (cl := vwCl) (ci := 0) (v := .ref (ra 0 0)) (C := RX0) (T := TX0) (N := 15) hx hb hts in_X0 hown hK.1 hP 0 rfl rfl 0 (by decide) (hts _ q190) (fun _ h9 => h9) rfl dX0_melt_53 ?_
      obtain ⟨g15, et16, hf⟩ := ob hf
      refine wr_callVv (As := []) (rest := []) ⟨hx, hb, hml, hown, hts⟩ (mX1_summariseAll l D k (ra 0) g13  _ _ et16) (cwV 0 hts (lw_V q168 q169 q170 q91 q171) rfl rfl rfl ⟨rfl, hdX1_summariseAll⟩ ⟨Nat.le_of_ble_eq_true rfl, Nat.le_of_ble_eq_true rfl⟩) hK hP hD hS hA [1, 2, 3, 4, 5, 6] [0] (wN k xa ra xi g15) rfl rfl (fm_c (fm_e _ rfl rfl) fm_n) 7 rfl (by decide) (by decide) [(xa 0), (ra 0 0), (ra 0 1), (ra 0 2), (ra 0 3), (ra 0 4), (ra 0 5)] rfl rfl 1 1 rfl rfl rfl hl.1 rfl (Nat.le_of_ble_eq_true rfl) dX0_melt_56 ⟨Nat.le_of_ble_eq_true rfl, Nat.le_of_ble_eq_true rfl⟩ (fun H locs hP hD hS => ?_)
      refine lv_aload_n hx hb dX0_melt_59 rfl (lv_at hl 1 rfl) ?_
      obtain ⟨v17, ev17, hf⟩ := ob hf
      refine rd_callV (As := []) (rest := []) ⟨hx, hb, hml, hown, hts⟩ (mX0_nodes l D k xa ra xi g15  _ ev17) (cwV 0 hts (lw_V q421 q423 qs7 q90 q424) rfl rfl rfl ⟨rfl, hdX0_nodes⟩ ⟨Nat.le_of_ble_eq_true rfl, Nat.le_of_ble_eq_true rfl⟩) hK hP [0, 1, 2, 3, 4, 5, 6] rfl 0 0 rfl rfl rfl hl.1 rfl (Nat.le_of_ble_eq_true rfl) dX0_melt_60 ⟨Nat.le_of_ble_eq_true rfl, Nat.le_of_ble_eq_true rfl⟩ ?_
      obtain ⟨he1, he2⟩ := prod2 hf
      rw [he2] at hP
      exact wr_iret hx hb hr hlk he1 hP hS dX0_melt_63
    refine lv_if_ne (tgt := 26) hx hb dX0_melt_11 (by decide) (fun c4 => ?_) (fun c4 => ?_)
    · have hf := oi_f c4 hf
      exact hB26 rs H locs hP hD hS hf ls (lv_sub hl [0, 1] rfl)
    · have hf := oi_t c4 hf
      refine lv_aload_n hx hb dX0_melt_14 rfl (lv_at hl 0 rfl) ?_
      refine lv_iconst (v := 0) hx hb dX0_melt_15 (by decide) ?_
      obtain ⟨v19, ev19, hf⟩ := ob hf
      refine rd_callV (As := [.int (0 : Int32)]) (rest := []) ⟨hx, hb, hml, hown, hts⟩ (mX0_childrenOf l D k xa ra xi rs (0 : Int32) _ ev19) (cwV 1 hts (lw_V q574 q576 qs29 q90 q577) rfl rfl rfl ⟨rfl, hdX0_childrenOf⟩ ⟨Nat.le_of_ble_eq_true rfl, Nat.le_of_ble_eq_true rfl⟩) hK hP [0, 1, 2, 3, 4, 5, 6] rfl 0 0 rfl rfl rfl hl.1 rfl (Nat.le_of_ble_eq_true rfl) dX0_melt_16 ⟨Nat.le_of_ble_eq_true rfl, Nat.le_of_ble_eq_true rfl⟩ ?_
      refine lv_iconst (v := 1) hx hb dX0_melt_19 (by decide) ?_
      refine lv_icmp_eq (tgt := 26) hx hb dX0_melt_20 (by decide) (fun c21 => ?_) (fun c21 => ?_)
      · have hf := oi_t c21 hf
        exact hB26 rs H locs hP hD hS hf ls (lv_sub hl [0, 1] rfl)
      · have hf := oi_f c21 hf
        refine lv_bipush (v := (-2)) hx hb dX0_melt_23 (by decide) ?_
        obtain ⟨he1, he2⟩ := prod2 hf
        rw [he2] at hP
        exact wr_iret hx hb hr hlk he1 hP hS dX0_melt_25
  · have hf := oi_t c3 hf
    refine lv_iconst (v := (-1)) hx hb dX0_melt_8 (by decide) ?_
    obtain ⟨he1, he2⟩ := prod2 hf
    rw [he2] at hP
    exact wr_iret hx hb hr hlk he1 hP hS dX0_melt_9

abbrev rmX0_clears : Room := { frames := 4, cells := 0, slots := 0, locals := 88 }
theorem hdX0_clears : yX0_clears.cls ≠ "java/lang/invoke/MethodHandle" ∧ yX0_clears.cls ≠ "java/lang/invoke/VarHandle" ∧ (parseMethodDescriptor yX0_clears.desc).map (fun d => d.parameters.length) = some 0 := by decide +kernel
abbrev qcX0_clears (D : va_G) (k : Nat → ClassId) (xa : Nat → Nat) (ra : Nat → Nat → Nat) (xi : Nat → Int32) (rs : RS) (A : Nat → Prop) : Array Value → State → Outcome → State → Prop := va_Qv (fun (_ : Unit) => True) (fun _ t => va_P D vwCl (wN k xa ra xi rs) t.heap) A
set_option maxHeartbeats 4000000 in
theorem mX0_clears (l : Launch) (D : va_G) (k : Nat → ClassId) (xa : Nat → Nat) (ra : Nat → Nat → Nat) (xi : Nat → Int32) (rs : RS) (sz : Nat) (rs_o : RS) (hf : fX0_clears rs = some rs_o) : Met l yX0_clears (ws_ yX0_clears cX0_clears 1 none) rmX0_clears (wrP D k (wN k xa ra xi rs) sz [.ref (xa 0)]) (qcX0_clears D k xa ra xi rs_o (va_A (wN k xa ra xi rs) sz)) 0 0 (va_A (wN k xa ra xi rs) sz) := by
  refine wr_start (Qc := fun A => qcX0_clears D k xa ra xi rs_o A) (by decide +kernel) (Nat.le_of_ble_eq_true rfl) ?_
  intro p e s m below meth c ls A hA hx hb hr hlk hml hown hts hP hK hD hl
  have hl : lv_has ls 1 [(0, .ref (xa 0))] := hl
  have hown : s.vm.findClass RX0 = some m.cls := hown
  have hS : va_S A s.heap s.heap [] := va_S.rf
  suffices hw : ∀ (H : Heap) (locs : List Loc), va_P D vwCl (wN k xa ra xi rs) H → va_S A s.heap H locs → gW p l e rmX0_clears s m [.ref (xa 0)] below meth c (qcX0_clears D k xa ra xi rs_o A) A 0 0 H locs 0 ls [] from hw s.heap [] hP hS
  clear hP hS
  intro H locs hP hS
  unfold fX0_clears at hf
  refine lv_aload_n hx hb dX0_clears_0 rfl (lv_at hl 0 rfl) ?_
  refine va_get (D := D) (cl := vwCl) (ci := 0) (v := .ref (ra 0 0)) (C := RX0) (T := TX0) (N := 15) hx hb hts in_X0 hown hK.1 hP 0 rfl rfl 0 (by decide) (hts _ q190) (fun _ h9 => h9) rfl dX0_clears_1 ?_
  refine va_getN (D := D) (cl := vwCl) (ci := 1) (v := .ref (ra 0 1)) (C := RX1) (T := TX1) (N := 6) hx hb hts in_X1 hown hK.1 hP 1 rfl rfl 0 (by decide) (hK.nw 1 rfl) (fun _ h9 => h9) rfl dX0_clears_4 ?_
  refine lv_lconst (v := 0) hx hb dX0_clears_7 (by decide) ?_
  obtain ⟨g1, et2, hf⟩ := ob hf
  refine wr_callSv (As := [.ref (ra 0 1), .long (0 : Int64)]) (rest := []) ⟨hx, hb, hml, hown, hts⟩ (mJ7_fill l D k (ra 0 1) (rW rs) (0 : Int64) _ _ et2) (va_cwS 2 hts (lw_S q784 q785 q104 q786) rfl rfl rfl hdJ7_fill ⟨Nat.le_of_ble_eq_true rfl, Nat.le_of_ble_eq_true rfl⟩) hK hP hD hS hA [2] [0, 1, 3, 4, 5, 6] (wN k xa ra xi (rsW rs g1)) rfl rfl (fm_c (fm_e _ rfl rfl) (fm_c (fm_e _ rfl rfl) (fm_c (fm_e _ rfl rfl) (fm_c (fm_e _ rfl rfl) (fm_c (fm_e _ rfl rfl) (fm_c (fm_e _ rfl rfl) fm_n)))))) 7 rfl (by decide) (by decide) [(xa 0), (ra 0 0), (ra 0 1), (ra 0 2), (ra 0 3), (ra 0 4), (ra 0 5)] rfl rfl rfl hl.1 rfl (Nat.le_of_ble_eq_true rfl) dX0_clears_8 ⟨Nat.le_of_ble_eq_true rfl, Nat.le_of_ble_eq_true rfl⟩ (fun H locs hP hD hS => ?_)
  refine lv_aload_n hx hb dX0_clears_11 rfl (lv_at hl 0 rfl) ?_
  refine va_get (D := D) (cl := vwCl) (ci := 0) (v := .ref (ra 0 0)) (C := RX0) (T := TX0) (N := 15) hx hb hts in_X0 hown hK.1 hP 0 rfl rfl 0 (by decide) (hts _ q190) (fun _ h9 => h9) rfl dX0_clears_12 ?_
  refine va_getN (D := D) (cl := vwCl) (ci := 1) (v := .ref (ra 0 2)) (C := RX1) (T := TX1) (N := 6) hx hb hts in_X1 hown hK.1 hP 1 rfl rfl 2 (by decide) (hK.nw 3 rfl) (fun _ h9 => h9) rfl dX0_clears_15 ?_
  refine lv_iconst (v := 0) hx hb dX0_clears_18 (by decide) ?_
  obtain ⟨g3, et4, hf⟩ := ob hf
  refine wr_callSv (As := [.ref (ra 0 2), .int (0 : Int32)]) (rest := []) ⟨hx, hb, hml, hown, hts⟩ (mJ7_fill_2 l D k (ra 0 2) (rT (rsW rs g1)) (0 : Int32) _ _ et4) (va_cwS 2 hts (lw_S q787 q788 q104 q789) rfl rfl rfl hdJ7_fill_2 ⟨Nat.le_of_ble_eq_true rfl, Nat.le_of_ble_eq_true rfl⟩) hK hP hD hS hA [3] [0, 1, 2, 4, 5, 6] (wN k xa ra xi (rsT (rsW rs g1) g3)) rfl rfl (fm_c (fm_e _ rfl rfl) (fm_c (fm_e _ rfl rfl) (fm_c (fm_e _ rfl rfl) (fm_c (fm_e _ rfl rfl) (fm_c (fm_e _ rfl rfl) (fm_c (fm_e _ rfl rfl) fm_n)))))) 7 rfl (by decide) (by decide) [(xa 0), (ra 0 0), (ra 0 1), (ra 0 2), (ra 0 3), (ra 0 4), (ra 0 5)] rfl rfl rfl hl.1 rfl (Nat.le_of_ble_eq_true rfl) dX0_clears_19 ⟨Nat.le_of_ble_eq_true rfl, Nat.le_of_ble_eq_true rfl⟩ (fun H locs hP hD hS => ?_)
  refine lv_aload_n hx hb dX0_clears_22 rfl (lv_at hl 0 rfl) ?_
  refine va_get (D := D) (cl := vwCl) (ci := 0) (v := .ref (ra 0 0)) (C := RX0) (T := TX0) (N := 15) hx hb hts in_X0 hown hK.1 hP 0 rfl rfl 0 (by decide) (hts _ q190) (fun _ h9 => h9) rfl dX0_clears_23 ?_
  refine lv_iconst (v := 0) hx hb dX0_clears_26 (by decide) ?_
  refine va_putN (D := D) (cl := vwCl) (ci := 1) (v := .int (0 : Int32)) (ty := .int) (C := RX1) (T := TX1) (N := 6) hx hb hts in_X1 tyX1 tyX1_ok nmX1 hown hK.1 hP hD hS 1 rfl rfl 1 (by decide) (hK.nw 2 rfl) (fun _ h9 => h9) rfl (by decide +kernel) rfl rfl (Nat.le_of_ble_eq_true rfl) dX0_clears_27 (fun H locs hP hD hS => ?_)
  have hP : va_P D vwCl (wN k xa ra xi (rsP (rsT (rsW rs g1) g3) (0 : Int32))) H := hP
  have hD : va_D A (wN k xa ra xi (rsP (rsT (rsW rs g1) g3) (0 : Int32))) := hD
  refine lv_aload_n hx hb dX0_clears_30 rfl (lv_at hl 0 rfl) ?_
  refine va_get (D := D) (cl := vwCl) (ci := 0) (v := .ref (ra 0 0)) (C := RX0) (T := TX0) (N := 15) hx hb hts in_X0 hown hK.1 hP 0 rfl rfl 0 (by decide) (hts _ q190) (fun _ h9 => h9) rfl dX0_clears_31 ?_
  obtain ⟨g5, et6, hf⟩ := ob hf
  refine wr_callVv (As := []) (rest := []) ⟨hx, hb, hml, hown, hts⟩ (mX1_summariseAll l D k (ra 0) (rsP (rsT (rsW rs g1) g3) (0 : Int32))  _ _ et6) (cwV 0 hts (lw_V q168 q169 q170 q91 q171) rfl rfl rfl ⟨rfl, hdX1_summariseAll⟩ ⟨Nat.le_of_ble_eq_true rfl, Nat.le_of_ble_eq_true rfl⟩) hK hP hD hS hA [1, 2, 3, 4, 5, 6] [0] (wN k xa ra xi g5) rfl rfl (fm_c (fm_e _ rfl rfl) fm_n) 7 rfl (by decide) (by decide) [(xa 0), (ra 0 0), (ra 0 1), (ra 0 2), (ra 0 3), (ra 0 4), (ra 0 5)] rfl rfl 1 1 rfl rfl rfl hl.1 rfl (Nat.le_of_ble_eq_true rfl) dX0_clears_34 ⟨Nat.le_of_ble_eq_true rfl, Nat.le_of_ble_eq_true rfl⟩ (fun H locs hP hD hS => ?_)
  have he1 := Option.some.inj hf
  rw [he1] at hP
  exact wr_vret hx hb hr hlk hP hS dX0_clears_37

abbrev rmX0_grow : Room := { frames := 10, cells := 0, slots := 0, locals := 231 }
theorem hdX0_grow : yX0_grow.cls ≠ "java/lang/invoke/MethodHandle" ∧ yX0_grow.cls ≠ "java/lang/invoke/VarHandle" ∧ (parseMethodDescriptor yX0_grow.desc).map (fun d => d.parameters.length) = some 2 := by decide +kernel
abbrev qcX0_grow (D : va_G) (k : Nat → ClassId) (xa : Nat → Nat) (ra : Nat → Nat → Nat) (xi : Nat → Int32) (rs : RS) (r : Int32) (A : Nat → Prop) : Array Value → State → Outcome → State → Prop := va_Qi (fun x (_ : Unit) => x = r) (fun _ t => va_P D vwCl (wN k xa ra xi rs) t.heap) A
set_option maxHeartbeats 4000000 in
theorem mX0_grow (l : Launch) (D : va_G) (k : Nat → ClassId) (xa : Nat → Nat) (ra : Nat → Nat → Nat) (xi : Nat → Int32) (rs : RS) (p1 : Int32) (p2 : Int32) (sz : Nat) (r : Int32) (rs_o : RS) (hf : fX0_grow rs p1 p2 = some (r, rs_o)) : Met l yX0_grow (ws_ yX0_grow cX0_grow 6 (some .int)) rmX0_grow (wrP D k (wN k xa ra xi rs) sz [.ref (xa 0), .int p1, .int p2]) (qcX0_grow D k xa ra xi rs_o r (va_A (wN k xa ra xi rs) sz)) 0 0 (va_A (wN k xa ra xi rs) sz) := by
  refine wr_start (Qc := fun A => qcX0_grow D k xa ra xi rs_o r A) (by decide +kernel) (Nat.le_of_ble_eq_true rfl) ?_
  intro p e s m below meth c ls A hA hx hb hr hlk hml hown hts hP hK hD hl
  have hl : lv_has ls 6 [(0, .ref (xa 0)), (1, .int p1), (2, .int p2)] := hl
  have hown : s.vm.findClass RX0 = some m.cls := hown
  have hS : va_S A s.heap s.heap [] := va_S.rf
  suffices hw : ∀ (H : Heap) (locs : List Loc), va_P D vwCl (wN k xa ra xi rs) H → va_S A s.heap H locs → gW p l e rmX0_grow s m [.ref (xa 0), .int p1, .int p2] below meth c (qcX0_grow D k xa ra xi rs_o r A) A 0 0 H locs 0 ls [] from hw s.heap [] hP hS
  clear hP hS
  intro H locs hP hS
  unfold fX0_grow at hf
  refine lv_iload_n hx hb dX0_grow_0 rfl (lv_at hl 2 rfl) ?_
  refine lv_i2l hx hb dX0_grow_1 rfl ?_
  refine lv_lconst (v := 1) hx hb dX0_grow_2 (by decide) ?_
  refine lv_ldc2 hx hb hown (hts _ q779) dX0_grow_3 ?_
  obtain ⟨v1, ev1, hf⟩ := ob hf
  refine rd_callSZ (As := [.long ((p2).toInt64), .long (1 : Int64), .long (64 : Int64)]) (rest := []) ⟨hx, hb, hml, hown, hts⟩ (mX0_in l D k   ((p2).toInt64) (1 : Int64) (64 : Int64) _ ev1) (va_cwS 3 hts (lw_S q242 q243 q90 q244) rfl rfl rfl hdX0_in ⟨Nat.le_of_ble_eq_true rfl, Nat.le_of_ble_eq_true rfl⟩) hK rfl hl.1 rfl (Nat.le_of_ble_eq_true rfl) dX0_grow_6 ⟨Nat.le_of_ble_eq_true rfl, Nat.le_of_ble_eq_true rfl⟩ (fun zv1 => ?_)
  refine lv_if_ne (tgt := 14) hx hb dX0_grow_9 (by decide) (fun c3 => ?_) (fun c3 => ?_)
  · have hf := oi_f c3 hf
    refine lv_aload_n hx hb dX0_grow_14 rfl (lv_at hl 0 rfl) ?_
    obtain ⟨g4, et5, hf⟩ := ob hf
    refine wr_callVv (As := []) (rest := []) ⟨hx, hb, hml, hown, hts⟩ (mX0_clears l D k xa ra xi rs  _ _ et5) (cwV 0 hts (lw_V q780 q782 qs50 q90 q783) rfl rfl rfl ⟨rfl, hdX0_clears⟩ ⟨Nat.le_of_ble_eq_true rfl, Nat.le_of_ble_eq_true rfl⟩) hK hP hD hS hA [0, 1, 2, 3, 4, 5, 6] [] (wN k xa ra xi g4) rfl rfl fm_n 7 rfl (by decide) (by decide) [(xa 0), (ra 0 0), (ra 0 1), (ra 0 2), (ra 0 3), (ra 0 4), (ra 0 5)] rfl rfl 0 0 rfl rfl rfl hl.1 rfl (Nat.le_of_ble_eq_true rfl) dX0_grow_15 ⟨Nat.le_of_ble_eq_true rfl, Nat.le_of_ble_eq_true rfl⟩ (fun H locs hP hD hS => ?_)
    refine lv_aload_n hx hb dX0_grow_18 rfl (lv_at hl 0 rfl) ?_
    refine lv_iconst (v := 0) hx hb dX0_grow_19 (by decide) ?_
    obtain ⟨⟨v6, g7⟩, et8, hf⟩ := ob hf
    refine wr_callV (As := [.int (0 : Int32)]) (rest := []) ⟨hx, hb, hml, hown, hts⟩ (mX0_plant l D k xa ra xi g4 (0 : Int32) _ _ _ et8) (cwV 1 hts (lw_V q790 q718 q719 q90 q720) rfl rfl rfl ⟨rfl, hdX0_plant⟩ ⟨Nat.le_of_ble_eq_true rfl, Nat.le_of_ble_eq_true rfl⟩) hK hP hD hS hA [0, 1, 2, 3, 4, 5, 6] [] (wN k xa ra xi g7) rfl rfl fm_n 7 rfl (by decide) (by decide) [(xa 0), (ra 0 0), (ra 0 1), (ra 0 2), (ra 0 3), (ra 0 4), (ra 0 5)] rfl rfl 0 0 rfl rfl rfl hl.1 rfl (Nat.le_of_ble_eq_true rfl) dX0_grow_20 ⟨Nat.le_of_ble_eq_true rfl, Nat.le_of_ble_eq_true rfl⟩ (fun H locs hP hD hS => ?_)
    refine lv_pop hx hb dX0_grow_23 rfl ?_
    refine lv_iload_n hx hb dX0_grow_24 rfl (lv_at hl 1 rfl) ?_
    refine lv_istore_n (lv' := [(3, .int p1), (0, .ref (xa 0)), (1, .int p1), (2, .int p2)]) hx hb dX0_grow_25 rfl hl (by decide) rfl (fun ls hl => ?_)
    refine lv_iconst (v := 1) hx hb dX0_grow_26 (by decide) ?_
    refine lv_istore (lv' := [(4, .int (1 : Int32)), (3, .int p1), (0, .ref (xa 0)), (1, .int p1), (2, .int p2)]) hx hb dX0_grow_27 hl (by decide) rfl (fun ls hl => ?_)
    have hL29 : ∀ (nn : Nat) (rs_29 : RS) (x3_29 : Int32) (x4_29 : Int32), ∀ (H : Heap) (locs : List Loc), va_P D vwCl (wN k xa ra xi rs_29) H → va_D A (wN k xa ra xi rs_29) → va_S A s.heap H locs → fX0_grow_L29 p1 p2 nn rs_29 x3_29 x4_29 = some (r, rs_o) → ∀ ls : Array Slot, lv_has ls 6 [(0, .ref (xa 0)), (2, .int p2), (3, .int x3_29), (4, .int x4_29)] → gW p l e rmX0_grow s m [.ref (xa 0), .int p1, .int p2] below meth c (qcX0_grow D k xa ra xi rs_o r A) A 0 0 H locs 29 ls [] := by
      intro nn29
      induction nn29 with
      | zero =>
        intro rs_29 x3_29 x4_29 H locs hP hD hS hf
        rw [fX0_grow_L29] at hf; cases hf
      | succ nn29 ih29 =>
        intro rs_29 x3_29 x4_29 H locs hP hD hS hf ls hl
        rw [fX0_grow_L29] at hf
        refine lv_iload hx hb dX0_grow_29 (lv_at hl 3 rfl) ?_
        refine lv_iload_n hx hb dX0_grow_31 rfl (lv_at hl 1 rfl) ?_
        refine lv_icmp_ge (tgt := 80) hx hb dX0_grow_32 (by decide) (fun c9 => ?_) (fun c9 => ?_)
        · have hf := oi_t c9 hf
          refine lv_aload_n hx hb dX0_grow_80 rfl (lv_at hl 0 rfl) ?_
          obtain ⟨v10, ev10, hf⟩ := ob hf
          refine rd_callV (As := []) (rest := []) ⟨hx, hb, hml, hown, hts⟩ (mX0_deepestOfAll l D k xa ra xi rs_29  _ ev10) (cwV 0 hts (lw_V q440 q442 qs9 q90 q443) rfl rfl rfl ⟨rfl, hdX0_deepestOfAll⟩ ⟨Nat.le_of_ble_eq_true rfl, Nat.le_of_ble_eq_true rfl⟩) hK hP [0, 1, 2, 3, 4, 5, 6] rfl 0 0 rfl rfl rfl hl.1 rfl (Nat.le_of_ble_eq_true rfl) dX0_grow_81 ⟨Nat.le_of_ble_eq_true rfl, Nat.le_of_ble_eq_true rfl⟩ ?_
          obtain ⟨he1, he2⟩ := prod2 hf
          rw [he2] at hP
          exact wr_iret hx hb hr hlk he1 hP hS dX0_grow_84
        · have hf := oi_f c9 hf
          refine lv_iload_n hx hb dX0_grow_35 rfl (lv_at hl 2 rfl) ?_
          refine lv_ldcw hx hb hown (hts _ q791) dX0_grow_36 ?_
          refine lv_imul hx hb dX0_grow_39 ?_
          refine lv_sipush (v := 12345) hx hb dX0_grow_40 (by decide) ?_
          refine lv_iadd hx hb dX0_grow_43 ?_
          obtain ⟨y12, ey12, hf⟩ := ob hf
          refine x_asI ey12 ?_
          refine lv_istore_n (lv' := [(3, .int y12), (0, .ref (xa 0)), (2, .int p2), (4, .int x4_29)]) hx hb dX0_grow_44 rfl hl (by decide) rfl (fun ls hl => ?_)
          refine lv_iload_n hx hb dX0_grow_45 rfl (lv_at hl 0 rfl) ?_
          refine lv_bipush (v := 16) hx hb dX0_grow_46 (by decide) ?_
          refine lv_iushr hx hb dX0_grow_48 rfl ?_
          refine lv_sipush (v := 32767) hx hb dX0_grow_49 (by decide) ?_
          refine lv_iand hx hb dX0_grow_52 ?_
          refine lv_aload_n hx hb dX0_grow_53 rfl (lv_at hl 1 rfl) ?_
          obtain ⟨v13, ev13, hf⟩ := ob hf
          refine rd_callV (As := []) (rest := [.int ((((y12).toUInt32 >>> (((16 : Int32)).toUInt32 &&& Int32.toUInt32 31)).toInt32) &&& (32767 : Int32))]) ⟨hx, hb, hml, hown, hts⟩ (mX0_nodes l D k xa ra xi rs_29  _ ev13) (cwV 0 hts (lw_V q421 q423 qs7 q90 q424) rfl rfl rfl ⟨rfl, hdX0_nodes⟩ ⟨Nat.le_of_ble_eq_true rfl, Nat.le_of_ble_eq_true rfl⟩) hK hP [0, 1, 2, 3, 4, 5, 6] rfl 0 0 rfl rfl rfl hl.1 rfl (Nat.le_of_ble_eq_true rfl) dX0_grow_54 ⟨Nat.le_of_ble_eq_true rfl, Nat.le_of_ble_eq_true rfl⟩ ?_
          have c15 := on_z hf
          have hf := oi_f c15 hf
          refine lv_irem hx hb dX0_grow_57 c15 ?_
          obtain ⟨y16, ey16, hf⟩ := ob hf
          refine x_asI ey16 ?_
          refine lv_istore (lv' := [(5, .int y16), (3, .int y12), (0, .ref (xa 0)), (2, .int p2), (4, .int x4_29)]) hx hb dX0_grow_58 hl (by decide) rfl (fun ls hl => ?_)
          refine lv_aload_n hx hb dX0_grow_60 rfl (lv_at hl 2 rfl) ?_
          refine lv_iload hx hb dX0_grow_61 (lv_at hl 0 rfl) ?_
          refine lv_aload_n hx hb dX0_grow_63 rfl (lv_at hl 2 rfl) ?_
          refine lv_iload hx hb dX0_grow_64 (lv_at hl 0 rfl) ?_
          obtain ⟨v17, ev17, hf⟩ := ob hf
          refine rd_callV (As := [.int y16]) (rest := [.int y16, .ref (xa 0)]) ⟨hx, hb, hml, hown, hts⟩ (mX0_childrenOf l D k xa ra xi rs_29 y16 _ ev17) (cwV 1 hts (lw_V q574 q576 qs29 q90 q577) rfl rfl rfl ⟨rfl, hdX0_childrenOf⟩ ⟨Nat.le_of_ble_eq_true rfl, Nat.le_of_ble_eq_true rfl⟩) hK hP [0, 1, 2, 3, 4, 5, 6] rfl 0 0 rfl rfl rfl hl.1 rfl (Nat.le_of_ble_eq_true rfl) dX0_grow_66 ⟨Nat.le_of_ble_eq_true rfl, Nat.le_of_ble_eq_true rfl⟩ ?_
          refine lv_iconst (v := 0) hx hb dX0_grow_69 (by decide) ?_
          obtain ⟨⟨v19, g20⟩, et21, hf⟩ := ob hf
          refine wr_callV (As := [.int y16, .int v17, .int (0 : Int32)]) (rest := []) ⟨hx, hb, hml, hown, hts⟩ (mX0_leafComes l D k xa ra xi rs_29 y16 v17 (0 : Int32) _ _ _ et21) (cwV 3 hts (lw_V q730 q732 qs44 q90 q733) rfl rfl rfl ⟨rfl, hdX0_leafComes⟩ ⟨Nat.le_of_ble_eq_true rfl, Nat.le_of_ble_eq_true rfl⟩) hK hP hD hS hA [0, 1, 2, 3, 4, 5, 6] [] (wN k xa ra xi g20) rfl rfl fm_n 7 rfl (by decide) (by decide) [(xa 0), (ra 0 0), (ra 0 1), (ra 0 2), (ra 0 3), (ra 0 4), (ra 0 5)] rfl rfl 0 0 rfl rfl rfl hl.1 rfl (Nat.le_of_ble_eq_true rfl) dX0_grow_70 ⟨Nat.le_of_ble_eq_true rfl, Nat.le_of_ble_eq_true rfl⟩ (fun H locs hP hD hS => ?_)
          refine lv_pop hx hb dX0_grow_73 rfl ?_
          refine lv_iinc (v := (x4_29 + 1)) (lv' := [(4, .int (x4_29 + 1)), (5, .int y16), (3, .int y12), (0, .ref (xa 0)), (2, .int p2)]) hx hb dX0_grow_74 hl (k := 4) rfl rfl (by decide) rfl (fun ls hl => ?_)
          refine lv_goto (tgt := 29) hx hb dX0_grow_77 (by decide) ?_
          exact ih29 g20 y12 (x4_29 + 1) H locs hP hD hS hf ls (lv_sub hl [3, 4, 2, 0] rfl)
    exact hL29 FU g7 p1 (1 : Int32) H locs hP hD hS hf ls (lv_sub hl [2, 4, 1, 0] rfl)
  · have hf := oi_t c3 hf
    refine lv_iconst (v := (-1)) hx hb dX0_grow_12 (by decide) ?_
    obtain ⟨he1, he2⟩ := prod2 hf
    rw [he2] at hP
    exact wr_iret hx hb hr hlk he1 hP hS dX0_grow_13

abbrev rmX0_isSheet : Room := { frames := 1, cells := 0, slots := 0, locals := 25 }
theorem hdX0_isSheet : yX0_isSheet.cls ≠ "java/lang/invoke/MethodHandle" ∧ yX0_isSheet.cls ≠ "java/lang/invoke/VarHandle" ∧ (parseMethodDescriptor yX0_isSheet.desc).map (fun d => d.parameters.length) = some 2 := by decide +kernel
set_option maxHeartbeats 4000000 in
theorem mX0_isSheet (l : Launch) (D : va_G) (k : Nat → ClassId) (p1 : Int32) (p2 : Int32) (r : Int32) (hf : fX0_isSheet p1 p2 = some r) : CtZ l yX0_isSheet cX0_isSheet 2 rmX0_isSheet [.int p1, .int p2] D k [] r := by
  refine rd_start (by decide +kernel) (Nat.le_of_ble_eq_true rfl) ?_
  intro p e s m below meth c ls hx hb hr hlk hml hown hts hP hK hl
  have hl : lv_has ls 2 [(0, .int p1), (1, .int p2)] := hl
  have hown : s.vm.findClass RX0 = some m.cls := hown
  unfold fX0_isSheet at hf
  refine lv_iload_n hx hb dX0_isSheet_0 rfl (lv_at hl 0 rfl) ?_
  refine lv_i2l hx hb dX0_isSheet_1 rfl ?_
  refine lv_lconst (v := 0) hx hb dX0_isSheet_2 (by decide) ?_
  refine lv_ldc2 hx hb hown (hts _ q520) dX0_isSheet_3 ?_
  obtain ⟨v1, ev1, hf⟩ := ob hf
  refine rd_callSZ (As := [.long ((p1).toInt64), .long (0 : Int64), .long (3 : Int64)]) (rest := []) ⟨hx, hb, hml, hown, hts⟩ (mX0_in l D k   ((p1).toInt64) (0 : Int64) (3 : Int64) _ ev1) (va_cwS 3 hts (lw_S q242 q243 q90 q244) rfl rfl rfl hdX0_in ⟨Nat.le_of_ble_eq_true rfl, Nat.le_of_ble_eq_true rfl⟩) hK rfl hl.1 rfl (Nat.le_of_ble_eq_true rfl) dX0_isSheet_6 ⟨Nat.le_of_ble_eq_true rfl, Nat.le_of_ble_eq_true rfl⟩ (fun zv1 => ?_)
  refine lv_if_eq (tgt := 28) hx hb dX0_isSheet_9 (by decide) (fun c3 => ?_) (fun c3 => ?_)
  · have hf := oi_t c3 hf
    refine lv_iconst (v := 0) hx hb dX0_isSheet_28 (by decide) ?_
    exact rd_zret hx hb hr hlk (Or.inl rfl) (Option.some.inj hf) dX0_isSheet_29
  · have hf := oi_f c3 hf
    refine lv_iload_n hx hb dX0_isSheet_12 rfl (lv_at hl 1 rfl) ?_
    refine lv_i2l hx hb dX0_isSheet_13 rfl ?_
    refine lv_lconst (v := 0) hx hb dX0_isSheet_14 (by decide) ?_
    refine lv_ldc2 hx hb hown (hts _ q469) dX0_isSheet_15 ?_
    obtain ⟨v4, ev4, hf⟩ := ob hf
    refine rd_callSZ (As := [.long ((p2).toInt64), .long (0 : Int64), .long (2 : Int64)]) (rest := []) ⟨hx, hb, hml, hown, hts⟩ (mX0_in l D k   ((p2).toInt64) (0 : Int64) (2 : Int64) _ ev4) (va_cwS 3 hts (lw_S q242 q243 q90 q244) rfl rfl rfl hdX0_in ⟨Nat.le_of_ble_eq_true rfl, Nat.le_of_ble_eq_true rfl⟩) hK rfl hl.1 rfl (Nat.le_of_ble_eq_true rfl) dX0_isSheet_18 ⟨Nat.le_of_ble_eq_true rfl, Nat.le_of_ble_eq_true rfl⟩ (fun zv4 => ?_)
    refine lv_if_eq (tgt := 28) hx hb dX0_isSheet_21 (by decide) (fun c6 => ?_) (fun c6 => ?_)
    · have hf := oi_t c6 hf
      refine lv_iconst (v := 0) hx hb dX0_isSheet_28 (by decide) ?_
      exact rd_zret hx hb hr hlk (Or.inl rfl) (Option.some.inj hf) dX0_isSheet_29
    · have hf := oi_f c6 hf
      refine lv_iconst (v := 1) hx hb dX0_isSheet_24 (by decide) ?_
      refine lv_goto (tgt := 29) hx hb dX0_isSheet_25 (by decide) ?_
      exact rd_zret hx hb hr hlk (Or.inr rfl) (Option.some.inj hf) dX0_isSheet_29

abbrev rmX0_torn : Room := { frames := 0, cells := 0, slots := 0, locals := 0 }
theorem hdX0_torn : yX0_torn.cls ≠ "java/lang/invoke/MethodHandle" ∧ yX0_torn.cls ≠ "java/lang/invoke/VarHandle" ∧ (parseMethodDescriptor yX0_torn.desc).map (fun d => d.parameters.length) = some 0 := by decide +kernel
set_option maxHeartbeats 4000000 in
theorem mX0_torn (l : Launch) (D : va_G) (k : Nat → ClassId) (xa : Nat → Nat) (ra : Nat → Nat → Nat) (xi : Nat → Int32) (rs : RS) (r : Int32) (hf : fX0_torn xi = some r) : CtI l yX0_torn cX0_torn 1 rmX0_torn [.ref (xa 0)] D k (wN k xa ra xi rs) r := by
  refine rd_start (by decide +kernel) (Nat.le_of_ble_eq_true rfl) ?_
  intro p e s m below meth c ls hx hb hr hlk hml hown hts hP hK hl
  have hl : lv_has ls 1 [(0, .ref (xa 0))] := hl
  have hown : s.vm.findClass RX0 = some m.cls := hown
  unfold fX0_torn at hf
  refine lv_aload_n hx hb dX0_torn_0 rfl (lv_at hl 0 rfl) ?_
  refine va_get (D := D) (cl := vwCl) (ci := 0) (v := .int (xi 8)) (C := RX0) (T := TX0) (N := 15) hx hb hts in_X0 hown hK.1 hP 0 rfl rfl 14 (by decide) (hts _ q205) (fun _ h9 => h9) rfl dX0_torn_1 ?_
  exact rd_iret hx hb hr hlk (Option.some.inj hf) dX0_torn_4

abbrev rmX0_feed : Room := { frames := 1, cells := 0, slots := 0, locals := 25 }
theorem hdX0_feed : yX0_feed.cls ≠ "java/lang/invoke/MethodHandle" ∧ yX0_feed.cls ≠ "java/lang/invoke/VarHandle" ∧ (parseMethodDescriptor yX0_feed.desc).map (fun d => d.parameters.length) = some 1 := by decide +kernel
abbrev qcX0_feed (D : va_G) (k : Nat → ClassId) (xa : Nat → Nat) (ra : Nat → Nat → Nat) (xi : Nat → Int32) (tp : Nat → Int32) (r : Int32) (A : Nat → Prop) : Array Value → State → Outcome → State → Prop := va_Qi (fun x (_ : Unit) => x = r) (fun _ t => va_P D vwCl [oX xa ra xi, (xa 2, .inl (k 3, 160, .inl tp))] t.heap) A
set_option maxHeartbeats 4000000 in
theorem mX0_feed (l : Launch) (D : va_G) (k : Nat → ClassId) (xa : Nat → Nat) (ra : Nat → Nat → Nat) (xi : Nat → Int32) (tp : Nat → Int32) (p1 : Int32) (sz : Nat) (r : Int32) (xi_o : Nat → Int32) (tp_o : Nat → Int32) (hf : fX0_feed xi tp p1 = some (r, xi_o, tp_o)) : Met l yX0_feed (ws_ yX0_feed cX0_feed 2 (some .int)) rmX0_feed (wrP D k [oX xa ra xi, (xa 2, .inl (k 3, 160, .inl tp))] sz [.ref (xa 0), .int p1]) (qcX0_feed D k xa ra xi_o tp_o r (va_A [oX xa ra xi, (xa 2, .inl (k 3, 160, .inl tp))] sz)) 0 0 (va_A [oX xa ra xi, (xa 2, .inl (k 3, 160, .inl tp))] sz) := by
  refine wr_start (Qc := fun A => qcX0_feed D k xa ra xi_o tp_o r A) (by decide +kernel) (Nat.le_of_ble_eq_true rfl) ?_
  intro p e s m below meth c ls A hA hx hb hr hlk hml hown hts hP hK hD hl
  have hl : lv_has ls 2 [(0, .ref (xa 0)), (1, .int p1)] := hl
  have hown : s.vm.findClass RX0 = some m.cls := hown
  have hS : va_S A s.heap s.heap [] := va_S.rf
  suffices hw : ∀ (H : Heap) (locs : List Loc), va_P D vwCl [oX xa ra xi, (xa 2, .inl (k 3, 160, .inl tp))] H → va_S A s.heap H locs → gW p l e rmX0_feed s m [.ref (xa 0), .int p1] below meth c (qcX0_feed D k xa ra xi_o tp_o r A) A 0 0 H locs 0 ls [] from hw s.heap [] hP hS
  clear hP hS
  intro H locs hP hS
  unfold fX0_feed at hf
  refine lv_iload_n hx hb dX0_feed_0 rfl (lv_at hl 1 rfl) ?_
  refine lv_i2l hx hb dX0_feed_1 rfl ?_
  refine lv_lconst (v := 0) hx hb dX0_feed_2 (by decide) ?_
  refine lv_ldc2 hx hb hown (hts _ q241) dX0_feed_3 ?_
  obtain ⟨v1, ev1, hf⟩ := ob hf
  refine rd_callSZ (As := [.long ((p1).toInt64), .long (0 : Int64), .long (127 : Int64)]) (rest := []) ⟨hx, hb, hml, hown, hts⟩ (mX0_in l D k   ((p1).toInt64) (0 : Int64) (127 : Int64) _ ev1) (va_cwS 3 hts (lw_S q242 q243 q90 q244) rfl rfl rfl hdX0_in ⟨Nat.le_of_ble_eq_true rfl, Nat.le_of_ble_eq_true rfl⟩) hK rfl hl.1 rfl (Nat.le_of_ble_eq_true rfl) dX0_feed_6 ⟨Nat.le_of_ble_eq_true rfl, Nat.le_of_ble_eq_true rfl⟩ (fun zv1 => ?_)
  refine lv_if_ne (tgt := 14) hx hb dX0_feed_9 (by decide) (fun c3 => ?_) (fun c3 => ?_)
  · have hf := oi_f c3 hf
    refine lv_aload_n hx hb dX0_feed_14 rfl (lv_at hl 0 rfl) ?_
    refine va_get (D := D) (cl := vwCl) (ci := 0) (v := .int (xi 6)) (C := RX0) (T := TX0) (N := 15) hx hb hts in_X0 hown hK.1 hP 0 rfl rfl 9 (by decide) (hts _ q200) (fun _ h9 => h9) rfl dX0_feed_15 ?_
    refine lv_sipush (v := 160) hx hb dX0_feed_18 (by decide) ?_
    refine lv_icmp_ne (tgt := 27) hx hb dX0_feed_21 (by decide) (fun c4 => ?_) (fun c4 => ?_)
    · have hf := oi_f c4 hf
      refine lv_aload_n hx hb dX0_feed_27 rfl (lv_at hl 0 rfl) ?_
      refine va_get (D := D) (cl := vwCl) (ci := 0) (v := .ref (xa 2)) (C := RX0) (T := TX0) (N := 15) hx hb hts in_X0 hown hK.1 hP 0 rfl rfl 8 (by decide) (hts _ q199) (fun _ h9 => h9) rfl dX0_feed_28 ?_
      refine lv_aload_n hx hb dX0_feed_31 rfl (lv_at hl 0 rfl) ?_
      refine va_get (D := D) (cl := vwCl) (ci := 0) (v := .int (xi 6)) (C := RX0) (T := TX0) (N := 15) hx hb hts in_X0 hown hK.1 hP 0 rfl rfl 9 (by decide) (hts _ q200) (fun _ h9 => h9) rfl dX0_feed_32 ?_
      refine lv_iload_n hx hb dX0_feed_35 rfl (lv_at hl 1 rfl) ?_
      refine lv_i2b hx hb dX0_feed_36 rfl ?_
      obtain ⟨u5, eu5, hf⟩ := ob hf
      refine x_bast hx hb hK hP hD hS 1 3 eu5 rfl rfl [oX xa ra xi, (xa 2, .inl (k 3, 160, .inl u5))] rfl dX0_feed_37 (fun H locs hP hD hS => ?_)
      refine lv_aload_n hx hb dX0_feed_38 rfl (lv_at hl 0 rfl) ?_
      refine lv_dup hx hb dX0_feed_39 rfl ?_
      refine va_get (D := D) (cl := vwCl) (ci := 0) (v := .int (xi 6)) (C := RX0) (T := TX0) (N := 15) hx hb hts in_X0 hown hK.1 hP 0 rfl rfl 9 (by decide) (hts _ q200) (fun _ h9 => h9) rfl dX0_feed_40 ?_
      refine lv_iconst (v := 1) hx hb dX0_feed_43 (by decide) ?_
      refine lv_iadd hx hb dX0_feed_44 ?_
      refine va_put (D := D) (cl := vwCl) (ci := 0) (v := .int ((xi 6) + (1 : Int32))) (ty := .int) (C := RX0) (T := TX0) (N := 15) hx hb hts in_X0 tyX0 tyX0_ok nmX0 hown hK.1 hP hD hS 0 rfl rfl 9 (by decide) (hts _ q200) (fun _ h9 => h9) rfl (by decide +kernel) rfl rfl (Nat.le_of_ble_eq_true rfl) dX0_feed_45 (fun H locs hP hD hS => ?_)
      have hP : va_P D vwCl [oX xa ra (upd xi 6 ((xi 6) + (1 : Int32))), (xa 2, .inl (k 3, 160, .inl u5))] H := hP
      have hD : va_D A [oX xa ra (upd xi 6 ((xi 6) + (1 : Int32))), (xa 2, .inl (k 3, 160, .inl u5))] := hD
      refine lv_aload_n hx hb dX0_feed_48 rfl (lv_at hl 0 rfl) ?_
      refine va_get (D := D) (cl := vwCl) (ci := 0) (v := .int ((upd xi 6 ((xi 6) + (1 : Int32))) 6)) (C := RX0) (T := TX0) (N := 15) hx hb hts in_X0 hown hK.1 hP 0 rfl rfl 9 (by decide) (hts _ q200) (fun _ h9 => h9) rfl dX0_feed_49 ?_
      obtain ⟨he1, he2, he3⟩ := prod3 hf
      rw [he2] at hP
      rw [he3] at hP
      exact wr_iret hx hb hr hlk he1 hP hS dX0_feed_52
    · have hf := oi_t c4 hf
      refine lv_bipush (v := (-3)) hx hb dX0_feed_24 (by decide) ?_
      obtain ⟨he1, he2, he3⟩ := prod3 hf
      rw [he2] at hP
      rw [he3] at hP
      exact wr_iret hx hb hr hlk he1 hP hS dX0_feed_26
  · have hf := oi_t c3 hf
    refine lv_iconst (v := (-1)) hx hb dX0_feed_12 (by decide) ?_
    obtain ⟨he1, he2, he3⟩ := prod3 hf
    rw [he2] at hP
    rw [he3] at hP
    exact wr_iret hx hb hr hlk he1 hP hS dX0_feed_13

abbrev rmX0_end : Room := { frames := 1, cells := 0, slots := 0, locals := 25 }
theorem hdX0_end : yX0_end.cls ≠ "java/lang/invoke/MethodHandle" ∧ yX0_end.cls ≠ "java/lang/invoke/VarHandle" ∧ (parseMethodDescriptor yX0_end.desc).map (fun d => d.parameters.length) = some 1 := by decide +kernel
abbrev qcX0_end (D : va_G) (k : Nat → ClassId) (xa : Nat → Nat) (ra : Nat → Nat → Nat) (xi : Nat → Int32) (tp : Nat → Int32) (r : Int32) (A : Nat → Prop) : Array Value → State → Outcome → State → Prop := va_Qi (fun x (_ : Unit) => x = r) (fun _ t => va_P D vwCl [oX xa ra xi, (xa 2, .inl (k 3, 160, .inl tp))] t.heap) A
set_option maxHeartbeats 4000000 in
theorem mX0_end (l : Launch) (D : va_G) (k : Nat → ClassId) (xa : Nat → Nat) (ra : Nat → Nat → Nat) (xi : Nat → Int32) (tp : Nat → Int32) (p1 : Int32) (sz : Nat) (r : Int32) (xi_o : Nat → Int32) (hf : fX0_end xi p1 = some (r, xi_o)) : Met l yX0_end (ws_ yX0_end cX0_end 3 (some .int)) rmX0_end (wrP D k [oX xa ra xi, (xa 2, .inl (k 3, 160, .inl tp))] sz [.ref (xa 0), .int p1]) (qcX0_end D k xa ra xi_o tp r (va_A [oX xa ra xi, (xa 2, .inl (k 3, 160, .inl tp))] sz)) 0 0 (va_A [oX xa ra xi, (xa 2, .inl (k 3, 160, .inl tp))] sz) := by
  refine wr_start (Qc := fun A => qcX0_end D k xa ra xi_o tp r A) (by decide +kernel) (Nat.le_of_ble_eq_true rfl) ?_
  intro p e s m below meth c ls A hA hx hb hr hlk hml hown hts hP hK hD hl
  have hl : lv_has ls 3 [(0, .ref (xa 0)), (1, .int p1)] := hl
  have hown : s.vm.findClass RX0 = some m.cls := hown
  have hS : va_S A s.heap s.heap [] := va_S.rf
  suffices hw : ∀ (H : Heap) (locs : List Loc), va_P D vwCl [oX xa ra xi, (xa 2, .inl (k 3, 160, .inl tp))] H → va_S A s.heap H locs → gW p l e rmX0_end s m [.ref (xa 0), .int p1] below meth c (qcX0_end D k xa ra xi_o tp r A) A 0 0 H locs 0 ls [] from hw s.heap [] hP hS
  clear hP hS
  intro H locs hP hS
  unfold fX0_end at hf
  refine lv_iload_n hx hb dX0_end_0 rfl (lv_at hl 1 rfl) ?_
  refine lv_i2l hx hb dX0_end_1 rfl ?_
  refine lv_lconst (v := 0) hx hb dX0_end_2 (by decide) ?_
  refine lv_aload_n hx hb dX0_end_3 rfl (lv_at hl 0 rfl) ?_
  refine va_get (D := D) (cl := vwCl) (ci := 0) (v := .int (xi 6)) (C := RX0) (T := TX0) (N := 15) hx hb hts in_X0 hown hK.1 hP 0 rfl rfl 9 (by decide) (hts _ q200) (fun _ h9 => h9) rfl dX0_end_4 ?_
  refine lv_i2l hx hb dX0_end_7 rfl ?_
  obtain ⟨v1, ev1, hf⟩ := ob hf
  refine rd_callSZ (As := [.long ((p1).toInt64), .long (0 : Int64), .long (((xi 6)).toInt64)]) (rest := []) ⟨hx, hb, hml, hown, hts⟩ (mX0_in l D k   ((p1).toInt64) (0 : Int64) (((xi 6)).toInt64) _ ev1) (va_cwS 3 hts (lw_S q242 q243 q90 q244) rfl rfl rfl hdX0_in ⟨Nat.le_of_ble_eq_true rfl, Nat.le_of_ble_eq_true rfl⟩) hK rfl hl.1 rfl (Nat.le_of_ble_eq_true rfl) dX0_end_8 ⟨Nat.le_of_ble_eq_true rfl, Nat.le_of_ble_eq_true rfl⟩ (fun zv1 => ?_)
  refine lv_if_ne (tgt := 16) hx hb dX0_end_11 (by decide) (fun c3 => ?_) (fun c3 => ?_)
  · have hf := oi_f c3 hf
    refine lv_aload_n hx hb dX0_end_16 rfl (lv_at hl 0 rfl) ?_
    refine va_get (D := D) (cl := vwCl) (ci := 0) (v := .int (xi 6)) (C := RX0) (T := TX0) (N := 15) hx hb hts in_X0 hown hK.1 hP 0 rfl rfl 9 (by decide) (hts _ q200) (fun _ h9 => h9) rfl dX0_end_17 ?_
    obtain ⟨y4, ey4, hf⟩ := ob hf
    refine x_asI ey4 ?_
    refine lv_istore_n (lv' := [(2, .int y4), (0, .ref (xa 0)), (1, .int p1)]) hx hb dX0_end_20 rfl hl (by decide) rfl (fun ls hl => ?_)
    refine lv_aload_n hx hb dX0_end_21 rfl (lv_at hl 1 rfl) ?_
    refine lv_iload_n hx hb dX0_end_22 rfl (lv_at hl 2 rfl) ?_
    refine va_put (D := D) (cl := vwCl) (ci := 0) (v := .int p1) (ty := .int) (C := RX0) (T := TX0) (N := 15) hx hb hts in_X0 tyX0 tyX0_ok nmX0 hown hK.1 hP hD hS 0 rfl rfl 9 (by decide) (hts _ q200) (fun _ h9 => h9) rfl (by decide +kernel) rfl rfl (Nat.le_of_ble_eq_true rfl) dX0_end_23 (fun H locs hP hD hS => ?_)
    have hP : va_P D vwCl [oX xa ra (upd xi 6 p1), (xa 2, .inl (k 3, 160, .inl tp))] H := hP
    have hD : va_D A [oX xa ra (upd xi 6 p1), (xa 2, .inl (k 3, 160, .inl tp))] := hD
    refine lv_iload_n hx hb dX0_end_26 rfl (lv_at hl 0 rfl) ?_
    obtain ⟨he1, he2⟩ := prod2 hf
    rw [he2] at hP
    exact wr_iret hx hb hr hlk he1 hP hS dX0_end_27
  · have hf := oi_t c3 hf
    refine lv_iconst (v := (-1)) hx hb dX0_end_14 (by decide) ?_
    obtain ⟨he1, he2⟩ := prod2 hf
    rw [he2] at hP
    exact wr_iret hx hb hr hlk he1 hP hS dX0_end_15

abbrev rmX0_keep : Room := { frames := 2, cells := 0, slots := 0, locals := 47 }
theorem hdX0_keep : yX0_keep.cls ≠ "java/lang/invoke/MethodHandle" ∧ yX0_keep.cls ≠ "java/lang/invoke/VarHandle" ∧ (parseMethodDescriptor yX0_keep.desc).map (fun d => d.parameters.length) = some 1 := by decide +kernel
abbrev qcX0_keep (D : va_G) (k : Nat → ClassId) (xa : Nat → Nat) (ra : Nat → Nat → Nat) (xi : Nat → Int32) (rs : RS) (r0 : RS) (r1 : RS) (r : Int32) (A : Nat → Prop) : Array Value → State → Outcome → State → Prop := va_Qi (fun x (_ : Unit) => x = r) (fun _ t => va_P D vwCl (wN k xa ra xi rs ++ imA k xa ra :: (wR k (ra 1) r0 ++ wR k (ra 2) r1)) t.heap) A
set_option maxHeartbeats 4000000 in
theorem mX0_keep (l : Launch) (D : va_G) (k : Nat → ClassId) (xa : Nat → Nat) (ra : Nat → Nat → Nat) (xi : Nat → Int32) (rs : RS) (r0 : RS) (r1 : RS) (p1 : Int32) (sz : Nat) (r : Int32) (xi_o : Nat → Int32) (r0_o : RS) (r1_o : RS) (hf : fX0_keep xi rs r0 r1 p1 = some (r, xi_o, r0_o, r1_o)) : Met l yX0_keep (ws_ yX0_keep cX0_keep 3 (some .int)) rmX0_keep (wrP D k (wN k xa ra xi rs ++ imA k xa ra :: (wR k (ra 1) r0 ++ wR k (ra 2) r1)) sz [.ref (xa 0), .int p1]) (qcX0_keep D k xa ra xi_o rs r0_o r1_o r (va_A (wN k xa ra xi rs ++ imA k xa ra :: (wR k (ra 1) r0 ++ wR k (ra 2) r1)) sz)) 0 0 (va_A (wN k xa ra xi rs ++ imA k xa ra :: (wR k (ra 1) r0 ++ wR k (ra 2) r1)) sz) := by
  refine wr_start (Qc := fun A => qcX0_keep D k xa ra xi_o rs r0_o r1_o r A) (by decide +kernel) (Nat.le_of_ble_eq_true rfl) ?_
  intro p e s m below meth c ls A hA hx hb hr hlk hml hown hts hP hK hD hl
  have hl : lv_has ls 3 [(0, .ref (xa 0)), (1, .int p1)] := hl
  have hown : s.vm.findClass RX0 = some m.cls := hown
  have hS : va_S A s.heap s.heap [] := va_S.rf
  suffices hw : ∀ (H : Heap) (locs : List Loc), va_P D vwCl (wN k xa ra xi rs ++ imA k xa ra :: (wR k (ra 1) r0 ++ wR k (ra 2) r1)) H → va_S A s.heap H locs → gW p l e rmX0_keep s m [.ref (xa 0), .int p1] below meth c (qcX0_keep D k xa ra xi_o rs r0_o r1_o r A) A 0 0 H locs 0 ls [] from hw s.heap [] hP hS
  clear hP hS
  intro H locs hP hS
  unfold fX0_keep at hf
  refine lv_iload_n hx hb dX0_keep_0 rfl (lv_at hl 1 rfl) ?_
  refine lv_i2l hx hb dX0_keep_1 rfl ?_
  refine lv_lconst (v := 0) hx hb dX0_keep_2 (by decide) ?_
  refine lv_lconst (v := 1) hx hb dX0_keep_3 (by decide) ?_
  obtain ⟨v1, ev1, hf⟩ := ob hf
  refine rd_callSZ (As := [.long ((p1).toInt64), .long (0 : Int64), .long (1 : Int64)]) (rest := []) ⟨hx, hb, hml, hown, hts⟩ (mX0_in l D k   ((p1).toInt64) (0 : Int64) (1 : Int64) _ ev1) (va_cwS 3 hts (lw_S q242 q243 q90 q244) rfl rfl rfl hdX0_in ⟨Nat.le_of_ble_eq_true rfl, Nat.le_of_ble_eq_true rfl⟩) hK rfl hl.1 rfl (Nat.le_of_ble_eq_true rfl) dX0_keep_4 ⟨Nat.le_of_ble_eq_true rfl, Nat.le_of_ble_eq_true rfl⟩ (fun zv1 => ?_)
  refine lv_if_ne (tgt := 12) hx hb dX0_keep_7 (by decide) (fun c3 => ?_) (fun c3 => ?_)
  · have hf := oi_f c3 hf
    refine lv_aload_n hx hb dX0_keep_12 rfl (lv_at hl 0 rfl) ?_
    refine va_get (D := D) (cl := vwCl) (ci := 0) (v := .int (xi 0)) (C := RX0) (T := TX0) (N := 15) hx hb hts in_X0 hown hK.1 hP 0 rfl rfl 2 (by decide) (hts _ q192) (fun _ h9 => h9) rfl dX0_keep_13 ?_
    refine lv_iload_n hx hb dX0_keep_16 rfl (lv_at hl 1 rfl) ?_
    refine lv_ishr hx hb dX0_keep_17 ?_
    refine lv_iconst (v := 1) hx hb dX0_keep_18 (by decide) ?_
    refine lv_iand hx hb dX0_keep_19 ?_
    obtain ⟨y4, ey4, hf⟩ := ob hf
    refine x_asI ey4 ?_
    refine lv_istore_n (lv' := [(2, .int y4), (0, .ref (xa 0)), (1, .int p1)]) hx hb dX0_keep_20 rfl hl (by decide) rfl (fun ls hl => ?_)
    refine lv_aload_n hx hb dX0_keep_21 rfl (lv_at hl 1 rfl) ?_
    refine va_get (D := D) (cl := vwCl) (ci := 0) (v := .ref (xa 1)) (C := RX0) (T := TX0) (N := 15) hx hb hts in_X0 hown hK.1 hP 0 rfl rfl 1 (by decide) (hts _ q191) (fun _ h9 => h9) rfl dX0_keep_22 ?_
    refine lv_iload_n hx hb dX0_keep_25 rfl (lv_at hl 2 rfl) ?_
    by_cases c5 : p1 = 0
    · have hf := oi_t c5 hf
      refine x_aald hx hb hK hP 7 5 (j := 0) (n := 2) c5 (by decide) (by decide) rfl rfl rfl dX0_keep_26 ?_
      refine lv_aload_n hx hb dX0_keep_27 rfl (lv_at hl 1 rfl) ?_
      refine va_get (D := D) (cl := vwCl) (ci := 0) (v := .ref (ra 0 0)) (C := RX0) (T := TX0) (N := 15) hx hb hts in_X0 hown hK.1 hP 0 rfl rfl 0 (by decide) (hts _ q190) (fun _ h9 => h9) rfl dX0_keep_28 ?_
      obtain ⟨g6, et7, hf⟩ := ob hf
      refine wr_callVv (As := [.ref (ra 0 0)]) (rest := []) ⟨hx, hb, hml, hown, hts⟩ (mX1_as l D k (ra 1) (ra 0) r0 rs  _ _ et7) (cwV 1 hts (lw_V q406 q407 q408 q91 q409) rfl rfl rfl ⟨rfl, hdX1_as⟩ ⟨Nat.le_of_ble_eq_true rfl, Nat.le_of_ble_eq_true rfl⟩) hK hP hD hS hA [8, 9, 10, 11, 12, 13, 1, 2, 3, 4, 5, 6] [0, 7, 14, 15, 16, 17, 18, 19] (wN k xa ra xi rs ++ imA k xa ra :: (wR k (ra 1) g6 ++ wR k (ra 2) r1)) rfl rfl (fm_c (fm_e _ rfl rfl) (fm_c (fm_e _ rfl rfl) (fm_c (fm_e _ rfl rfl) (fm_c (fm_e _ rfl rfl) (fm_c (fm_e _ rfl rfl) (fm_c (fm_e _ rfl rfl) (fm_c (fm_e _ rfl rfl) (fm_c (fm_e _ rfl rfl) fm_n)))))))) 20 rfl (by decide) (by decide) [(xa 0), (ra 0 0), (ra 0 1), (ra 0 2), (ra 0 3), (ra 0 4), (ra 0 5), (xa 1), (ra 1 0), (ra 1 1), (ra 1 2), (ra 1 3), (ra 1 4), (ra 1 5), (ra 2 0), (ra 2 1), (ra 2 2), (ra 2 3), (ra 2 4), (ra 2 5)] rfl rfl 8 1 rfl rfl rfl hl.1 rfl (Nat.le_of_ble_eq_true rfl) dX0_keep_31 ⟨Nat.le_of_ble_eq_true rfl, Nat.le_of_ble_eq_true rfl⟩ (fun H locs hP hD hS => ?_)
      refine lv_aload_n hx hb dX0_keep_34 rfl (lv_at hl 1 rfl) ?_
      refine lv_dup hx hb dX0_keep_35 rfl ?_
      refine va_get (D := D) (cl := vwCl) (ci := 0) (v := .int (xi 0)) (C := RX0) (T := TX0) (N := 15) hx hb hts in_X0 hown hK.1 hP 0 rfl rfl 2 (by decide) (hts _ q192) (fun _ h9 => h9) rfl dX0_keep_36 ?_
      refine lv_iconst (v := 1) hx hb dX0_keep_39 (by decide) ?_
      refine lv_iload_n hx hb dX0_keep_40 rfl (lv_at hl 2 rfl) ?_
      refine lv_ishl hx hb dX0_keep_41 ?_
      refine lv_ior hx hb dX0_keep_42 ?_
      refine va_put (D := D) (cl := vwCl) (ci := 0) (v := .int ((xi 0) ||| ((1 : Int32) <<< (p1 &&& 31)))) (ty := .int) (C := RX0) (T := TX0) (N := 15) hx hb hts in_X0 tyX0 tyX0_ok nmX0 hown hK.1 hP hD hS 0 rfl rfl 2 (by decide) (hts _ q192) (fun _ h9 => h9) rfl (by decide +kernel) rfl rfl (Nat.le_of_ble_eq_true rfl) dX0_keep_43 (fun H locs hP hD hS => ?_)
      have hP : va_P D vwCl (wN k xa ra (upd xi 0 ((xi 0) ||| ((1 : Int32) <<< (p1 &&& 31)))) rs ++ imA k xa ra :: (wR k (ra 1) g6 ++ wR k (ra 2) r1)) H := hP
      have hD : va_D A (wN k xa ra (upd xi 0 ((xi 0) ||| ((1 : Int32) <<< (p1 &&& 31)))) rs ++ imA k xa ra :: (wR k (ra 1) g6 ++ wR k (ra 2) r1)) := hD
      refine lv_iload_n hx hb dX0_keep_46 rfl (lv_at hl 0 rfl) ?_
      obtain ⟨he1, he2, he3, he4⟩ := prod4 hf
      rw [he2] at hP
      rw [he3] at hP
      rw [he4] at hP
      exact wr_iret hx hb hr hlk he1 hP hS dX0_keep_47
    have hf := oi_f c5 hf
    by_cases c8 : p1 = 1
    · have hf := oi_t c8 hf
      refine x_aald hx hb hK hP 7 5 (j := 1) (n := 2) c8 (by decide) (by decide) rfl rfl rfl dX0_keep_26 ?_
      refine lv_aload_n hx hb dX0_keep_27 rfl (lv_at hl 1 rfl) ?_
      refine va_get (D := D) (cl := vwCl) (ci := 0) (v := .ref (ra 0 0)) (C := RX0) (T := TX0) (N := 15) hx hb hts in_X0 hown hK.1 hP 0 rfl rfl 0 (by decide) (hts _ q190) (fun _ h9 => h9) rfl dX0_keep_28 ?_
      obtain ⟨g9, et10, hf⟩ := ob hf
      refine wr_callVv (As := [.ref (ra 0 0)]) (rest := []) ⟨hx, hb, hml, hown, hts⟩ (mX1_as l D k (ra 2) (ra 0) r1 rs  _ _ et10) (cwV 1 hts (lw_V q406 q407 q408 q91 q409) rfl rfl rfl ⟨rfl, hdX1_as⟩ ⟨Nat.le_of_ble_eq_true rfl, Nat.le_of_ble_eq_true rfl⟩) hK hP hD hS hA [14, 15, 16, 17, 18, 19, 1, 2, 3, 4, 5, 6] [0, 7, 8, 9, 10, 11, 12, 13] (wN k xa ra xi rs ++ imA k xa ra :: (wR k (ra 1) r0 ++ wR k (ra 2) g9)) rfl rfl (fm_c (fm_e _ rfl rfl) (fm_c (fm_e _ rfl rfl) (fm_c (fm_e _ rfl rfl) (fm_c (fm_e _ rfl rfl) (fm_c (fm_e _ rfl rfl) (fm_c (fm_e _ rfl rfl) (fm_c (fm_e _ rfl rfl) (fm_c (fm_e _ rfl rfl) fm_n)))))))) 20 rfl (by decide) (by decide) [(xa 0), (ra 0 0), (ra 0 1), (ra 0 2), (ra 0 3), (ra 0 4), (ra 0 5), (xa 1), (ra 1 0), (ra 1 1), (ra 1 2), (ra 1 3), (ra 1 4), (ra 1 5), (ra 2 0), (ra 2 1), (ra 2 2), (ra 2 3), (ra 2 4), (ra 2 5)] rfl rfl 14 1 rfl rfl rfl hl.1 rfl (Nat.le_of_ble_eq_true rfl) dX0_keep_31 ⟨Nat.le_of_ble_eq_true rfl, Nat.le_of_ble_eq_true rfl⟩ (fun H locs hP hD hS => ?_)
      refine lv_aload_n hx hb dX0_keep_34 rfl (lv_at hl 1 rfl) ?_
      refine lv_dup hx hb dX0_keep_35 rfl ?_
      refine va_get (D := D) (cl := vwCl) (ci := 0) (v := .int (xi 0)) (C := RX0) (T := TX0) (N := 15) hx hb hts in_X0 hown hK.1 hP 0 rfl rfl 2 (by decide) (hts _ q192) (fun _ h9 => h9) rfl dX0_keep_36 ?_
      refine lv_iconst (v := 1) hx hb dX0_keep_39 (by decide) ?_
      refine lv_iload_n hx hb dX0_keep_40 rfl (lv_at hl 2 rfl) ?_
      refine lv_ishl hx hb dX0_keep_41 ?_
      refine lv_ior hx hb dX0_keep_42 ?_
      refine va_put (D := D) (cl := vwCl) (ci := 0) (v := .int ((xi 0) ||| ((1 : Int32) <<< (p1 &&& 31)))) (ty := .int) (C := RX0) (T := TX0) (N := 15) hx hb hts in_X0 tyX0 tyX0_ok nmX0 hown hK.1 hP hD hS 0 rfl rfl 2 (by decide) (hts _ q192) (fun _ h9 => h9) rfl (by decide +kernel) rfl rfl (Nat.le_of_ble_eq_true rfl) dX0_keep_43 (fun H locs hP hD hS => ?_)
      have hP : va_P D vwCl (wN k xa ra (upd xi 0 ((xi 0) ||| ((1 : Int32) <<< (p1 &&& 31)))) rs ++ imA k xa ra :: (wR k (ra 1) r0 ++ wR k (ra 2) g9)) H := hP
      have hD : va_D A (wN k xa ra (upd xi 0 ((xi 0) ||| ((1 : Int32) <<< (p1 &&& 31)))) rs ++ imA k xa ra :: (wR k (ra 1) r0 ++ wR k (ra 2) g9)) := hD
      refine lv_iload_n hx hb dX0_keep_46 rfl (lv_at hl 0 rfl) ?_
      obtain ⟨he1, he2, he3, he4⟩ := prod4 hf
      rw [he2] at hP
      rw [he3] at hP
      rw [he4] at hP
      exact wr_iret hx hb hr hlk he1 hP hS dX0_keep_47
    have hf := oi_f c8 hf
    cases hf
  · have hf := oi_t c3 hf
    refine lv_iconst (v := (-1)) hx hb dX0_keep_10 (by decide) ?_
    obtain ⟨he1, he2, he3, he4⟩ := prod4 hf
    rw [he2] at hP
    rw [he3] at hP
    rw [he4] at hP
    exact wr_iret hx hb hr hlk he1 hP hS dX0_keep_11

abbrev rmX0_back : Room := { frames := 2, cells := 0, slots := 0, locals := 47 }
theorem hdX0_back : yX0_back.cls ≠ "java/lang/invoke/MethodHandle" ∧ yX0_back.cls ≠ "java/lang/invoke/VarHandle" ∧ (parseMethodDescriptor yX0_back.desc).map (fun d => d.parameters.length) = some 1 := by decide +kernel
abbrev qcX0_back (D : va_G) (k : Nat → ClassId) (xa : Nat → Nat) (ra : Nat → Nat → Nat) (xi : Nat → Int32) (rs : RS) (r0 : RS) (r1 : RS) (r : Int32) (A : Nat → Prop) : Array Value → State → Outcome → State → Prop := va_Qi (fun x (_ : Unit) => x = r) (fun _ t => va_P D vwCl (wN k xa ra xi rs ++ imA k xa ra :: (wR k (ra 1) r0 ++ wR k (ra 2) r1)) t.heap) A
set_option maxHeartbeats 4000000 in
theorem mX0_back (l : Launch) (D : va_G) (k : Nat → ClassId) (xa : Nat → Nat) (ra : Nat → Nat → Nat) (xi : Nat → Int32) (rs : RS) (r0 : RS) (r1 : RS) (p1 : Int32) (sz : Nat) (r : Int32) (rs_o : RS) (hf : fX0_back xi rs r0 r1 p1 = some (r, rs_o)) : Met l yX0_back (ws_ yX0_back cX0_back 2 (some .int)) rmX0_back (wrP D k (wN k xa ra xi rs ++ imA k xa ra :: (wR k (ra 1) r0 ++ wR k (ra 2) r1)) sz [.ref (xa 0), .int p1]) (qcX0_back D k xa ra xi rs_o r0 r1 r (va_A (wN k xa ra xi rs ++ imA k xa ra :: (wR k (ra 1) r0 ++ wR k (ra 2) r1)) sz)) 0 0 (va_A (wN k xa ra xi rs ++ imA k xa ra :: (wR k (ra 1) r0 ++ wR k (ra 2) r1)) sz) := by
  refine wr_start (Qc := fun A => qcX0_back D k xa ra xi rs_o r0 r1 r A) (by decide +kernel) (Nat.le_of_ble_eq_true rfl) ?_
  intro p e s m below meth c ls A hA hx hb hr hlk hml hown hts hP hK hD hl
  have hl : lv_has ls 2 [(0, .ref (xa 0)), (1, .int p1)] := hl
  have hown : s.vm.findClass RX0 = some m.cls := hown
  have hS : va_S A s.heap s.heap [] := va_S.rf
  suffices hw : ∀ (H : Heap) (locs : List Loc), va_P D vwCl (wN k xa ra xi rs ++ imA k xa ra :: (wR k (ra 1) r0 ++ wR k (ra 2) r1)) H → va_S A s.heap H locs → gW p l e rmX0_back s m [.ref (xa 0), .int p1] below meth c (qcX0_back D k xa ra xi rs_o r0 r1 r A) A 0 0 H locs 0 ls [] from hw s.heap [] hP hS
  clear hP hS
  intro H locs hP hS
  unfold fX0_back at hf
  refine lv_iload_n hx hb dX0_back_0 rfl (lv_at hl 1 rfl) ?_
  refine lv_i2l hx hb dX0_back_1 rfl ?_
  refine lv_lconst (v := 0) hx hb dX0_back_2 (by decide) ?_
  refine lv_lconst (v := 1) hx hb dX0_back_3 (by decide) ?_
  obtain ⟨v1, ev1, hf⟩ := ob hf
  refine rd_callSZ (As := [.long ((p1).toInt64), .long (0 : Int64), .long (1 : Int64)]) (rest := []) ⟨hx, hb, hml, hown, hts⟩ (mX0_in l D k   ((p1).toInt64) (0 : Int64) (1 : Int64) _ ev1) (va_cwS 3 hts (lw_S q242 q243 q90 q244) rfl rfl rfl hdX0_in ⟨Nat.le_of_ble_eq_true rfl, Nat.le_of_ble_eq_true rfl⟩) hK rfl hl.1 rfl (Nat.le_of_ble_eq_true rfl) dX0_back_4 ⟨Nat.le_of_ble_eq_true rfl, Nat.le_of_ble_eq_true rfl⟩ (fun zv1 => ?_)
  refine lv_if_ne (tgt := 12) hx hb dX0_back_7 (by decide) (fun c3 => ?_) (fun c3 => ?_)
  · have hf := oi_f c3 hf
    refine lv_aload_n hx hb dX0_back_12 rfl (lv_at hl 0 rfl) ?_
    refine va_get (D := D) (cl := vwCl) (ci := 0) (v := .int (xi 0)) (C := RX0) (T := TX0) (N := 15) hx hb hts in_X0 hown hK.1 hP 0 rfl rfl 2 (by decide) (hts _ q192) (fun _ h9 => h9) rfl dX0_back_13 ?_
    refine lv_iload_n hx hb dX0_back_16 rfl (lv_at hl 1 rfl) ?_
    refine lv_ishr hx hb dX0_back_17 ?_
    refine lv_iconst (v := 1) hx hb dX0_back_18 (by decide) ?_
    refine lv_iand hx hb dX0_back_19 ?_
    refine lv_if_ne (tgt := 26) hx hb dX0_back_20 (by decide) (fun c4 => ?_) (fun c4 => ?_)
    · have hf := oi_f c4 hf
      refine lv_aload_n hx hb dX0_back_26 rfl (lv_at hl 0 rfl) ?_
      refine va_get (D := D) (cl := vwCl) (ci := 0) (v := .ref (ra 0 0)) (C := RX0) (T := TX0) (N := 15) hx hb hts in_X0 hown hK.1 hP 0 rfl rfl 0 (by decide) (hts _ q190) (fun _ h9 => h9) rfl dX0_back_27 ?_
      refine lv_aload_n hx hb dX0_back_30 rfl (lv_at hl 0 rfl) ?_
      refine va_get (D := D) (cl := vwCl) (ci := 0) (v := .ref (xa 1)) (C := RX0) (T := TX0) (N := 15) hx hb hts in_X0 hown hK.1 hP 0 rfl rfl 1 (by decide) (hts _ q191) (fun _ h9 => h9) rfl dX0_back_31 ?_
      refine lv_iload_n hx hb dX0_back_34 rfl (lv_at hl 1 rfl) ?_
      by_cases c5 : p1 = 0
      · have hf := oi_t c5 hf
        refine x_aald hx hb hK hP 7 5 (j := 0) (n := 2) c5 (by decide) (by decide) rfl rfl rfl dX0_back_35 ?_
        obtain ⟨g6, et7, hf⟩ := ob hf
        refine wr_callVv (As := [.ref (ra 1 0)]) (rest := []) ⟨hx, hb, hml, hown, hts⟩ (mX1_as l D k (ra 0) (ra 1) rs r0  _ _ et7) (cwV 1 hts (lw_V q406 q407 q408 q91 q409) rfl rfl rfl ⟨rfl, hdX1_as⟩ ⟨Nat.le_of_ble_eq_true rfl, Nat.le_of_ble_eq_true rfl⟩) hK hP hD hS hA [1, 2, 3, 4, 5, 6, 8, 9, 10, 11, 12, 13] [0, 7, 14, 15, 16, 17, 18, 19] (wN k xa ra xi g6 ++ imA k xa ra :: (wR k (ra 1) r0 ++ wR k (ra 2) r1)) rfl rfl (fm_c (fm_e _ rfl rfl) (fm_c (fm_e _ rfl rfl) (fm_c (fm_e _ rfl rfl) (fm_c (fm_e _ rfl rfl) (fm_c (fm_e _ rfl rfl) (fm_c (fm_e _ rfl rfl) (fm_c (fm_e _ rfl rfl) (fm_c (fm_e _ rfl rfl) fm_n)))))))) 20 rfl (by decide) (by decide) [(xa 0), (ra 0 0), (ra 0 1), (ra 0 2), (ra 0 3), (ra 0 4), (ra 0 5), (xa 1), (ra 1 0), (ra 1 1), (ra 1 2), (ra 1 3), (ra 1 4), (ra 1 5), (ra 2 0), (ra 2 1), (ra 2 2), (ra 2 3), (ra 2 4), (ra 2 5)] rfl rfl 1 1 rfl rfl rfl hl.1 rfl (Nat.le_of_ble_eq_true rfl) dX0_back_36 ⟨Nat.le_of_ble_eq_true rfl, Nat.le_of_ble_eq_true rfl⟩ (fun H locs hP hD hS => ?_)
        refine lv_aload_n hx hb dX0_back_39 rfl (lv_at hl 0 rfl) ?_
        obtain ⟨v8, ev8, hf⟩ := ob hf
        refine rd_callV (As := []) (rest := []) ⟨hx, hb, hml, hown, hts⟩ (mX0_nodes l D k xa ra xi g6  _ ev8) (cwV 0 hts (lw_V q421 q423 qs7 q90 q424) rfl rfl rfl ⟨rfl, hdX0_nodes⟩ ⟨Nat.le_of_ble_eq_true rfl, Nat.le_of_ble_eq_true rfl⟩) hK hP [0, 1, 2, 3, 4, 5, 6] rfl 0 0 rfl rfl rfl hl.1 rfl (Nat.le_of_ble_eq_true rfl) dX0_back_40 ⟨Nat.le_of_ble_eq_true rfl, Nat.le_of_ble_eq_true rfl⟩ ?_
        obtain ⟨he1, he2⟩ := prod2 hf
        rw [he2] at hP
        exact wr_iret hx hb hr hlk he1 hP hS dX0_back_43
      have hf := oi_f c5 hf
      by_cases c10 : p1 = 1
      · have hf := oi_t c10 hf
        refine x_aald hx hb hK hP 7 5 (j := 1) (n := 2) c10 (by decide) (by decide) rfl rfl rfl dX0_back_35 ?_
        obtain ⟨g11, et12, hf⟩ := ob hf
        refine wr_callVv (As := [.ref (ra 2 0)]) (rest := []) ⟨hx, hb, hml, hown, hts⟩ (mX1_as l D k (ra 0) (ra 2) rs r1  _ _ et12) (cwV 1 hts (lw_V q406 q407 q408 q91 q409) rfl rfl rfl ⟨rfl, hdX1_as⟩ ⟨Nat.le_of_ble_eq_true rfl, Nat.le_of_ble_eq_true rfl⟩) hK hP hD hS hA [1, 2, 3, 4, 5, 6, 14, 15, 16, 17, 18, 19] [0, 7, 8, 9, 10, 11, 12, 13] (wN k xa ra xi g11 ++ imA k xa ra :: (wR k (ra 1) r0 ++ wR k (ra 2) r1)) rfl rfl (fm_c (fm_e _ rfl rfl) (fm_c (fm_e _ rfl rfl) (fm_c (fm_e _ rfl rfl) (fm_c (fm_e _ rfl rfl) (fm_c (fm_e _ rfl rfl) (fm_c (fm_e _ rfl rfl) (fm_c (fm_e _ rfl rfl) (fm_c (fm_e _ rfl rfl) fm_n)))))))) 20 rfl (by decide) (by decide) [(xa 0), (ra 0 0), (ra 0 1), (ra 0 2), (ra 0 3), (ra 0 4), (ra 0 5), (xa 1), (ra 1 0), (ra 1 1), (ra 1 2), (ra 1 3), (ra 1 4), (ra 1 5), (ra 2 0), (ra 2 1), (ra 2 2), (ra 2 3), (ra 2 4), (ra 2 5)] rfl rfl 1 1 rfl rfl rfl hl.1 rfl (Nat.le_of_ble_eq_true rfl) dX0_back_36 ⟨Nat.le_of_ble_eq_true rfl, Nat.le_of_ble_eq_true rfl⟩ (fun H locs hP hD hS => ?_)
        refine lv_aload_n hx hb dX0_back_39 rfl (lv_at hl 0 rfl) ?_
        obtain ⟨v13, ev13, hf⟩ := ob hf
        refine rd_callV (As := []) (rest := []) ⟨hx, hb, hml, hown, hts⟩ (mX0_nodes l D k xa ra xi g11  _ ev13) (cwV 0 hts (lw_V q421 q423 qs7 q90 q424) rfl rfl rfl ⟨rfl, hdX0_nodes⟩ ⟨Nat.le_of_ble_eq_true rfl, Nat.le_of_ble_eq_true rfl⟩) hK hP [0, 1, 2, 3, 4, 5, 6] rfl 0 0 rfl rfl rfl hl.1 rfl (Nat.le_of_ble_eq_true rfl) dX0_back_40 ⟨Nat.le_of_ble_eq_true rfl, Nat.le_of_ble_eq_true rfl⟩ ?_
        obtain ⟨he1, he2⟩ := prod2 hf
        rw [he2] at hP
        exact wr_iret hx hb hr hlk he1 hP hS dX0_back_43
      have hf := oi_f c10 hf
      cases hf
    · have hf := oi_t c4 hf
      refine lv_bipush (v := (-2)) hx hb dX0_back_23 (by decide) ?_
      obtain ⟨he1, he2⟩ := prod2 hf
      rw [he2] at hP
      exact wr_iret hx hb hr hlk he1 hP hS dX0_back_25
  · have hf := oi_t c3 hf
    refine lv_iconst (v := (-1)) hx hb dX0_back_10 (by decide) ?_
    obtain ⟨he1, he2⟩ := prod2 hf
    rw [he2] at hP
    exact wr_iret hx hb hr hlk he1 hP hS dX0_back_11

abbrev rmX0_graft : Room := { frames := 9, cells := 0, slots := 0, locals := 206 }
theorem hdX0_graft : yX0_graft.cls ≠ "java/lang/invoke/MethodHandle" ∧ yX0_graft.cls ≠ "java/lang/invoke/VarHandle" ∧ (parseMethodDescriptor yX0_graft.desc).map (fun d => d.parameters.length) = some 3 := by decide +kernel
abbrev qcX0_graft (D : va_G) (k : Nat → ClassId) (xa : Nat → Nat) (ra : Nat → Nat → Nat) (xi : Nat → Int32) (rs : RS) (rc : RS) (r : Int32) (A : Nat → Prop) : Array Value → State → Outcome → State → Prop := va_Qi (fun x (_ : Unit) => x = r) (fun _ t => va_P D vwCl (wN k xa ra xi rs ++ wR k (ra 3) rc) t.heap) A
set_option maxHeartbeats 4000000 in
theorem mX0_graft (l : Launch) (D : va_G) (k : Nat → ClassId) (xa : Nat → Nat) (ra : Nat → Nat → Nat) (xi : Nat → Int32) (rs : RS) (rc : RS) (p1 : Int32) (p2 : Int32) (p3 : Int32) (sz : Nat) (r : Int32) (rs_o : RS) (rc_o : RS) (hf : fX0_graft rs rc p1 p2 p3 = some (r, rs_o, rc_o)) : Met l yX0_graft (ws_ yX0_graft cX0_graft 11 (some .int)) rmX0_graft (wrP D k (wN k xa ra xi rs ++ wR k (ra 3) rc) sz [.ref (xa 0), .int p1, .int p2, .int p3]) (qcX0_graft D k xa ra xi rs_o rc_o r (va_A (wN k xa ra xi rs ++ wR k (ra 3) rc) sz)) 0 0 (va_A (wN k xa ra xi rs ++ wR k (ra 3) rc) sz) := by
  refine wr_start (Qc := fun A => qcX0_graft D k xa ra xi rs_o rc_o r A) (by decide +kernel) (Nat.le_of_ble_eq_true rfl) ?_
  intro p e s m below meth c ls A hA hx hb hr hlk hml hown hts hP hK hD hl
  have hl : lv_has ls 11 [(0, .ref (xa 0)), (1, .int p1), (2, .int p2), (3, .int p3)] := hl
  have hown : s.vm.findClass RX0 = some m.cls := hown
  have hS : va_S A s.heap s.heap [] := va_S.rf
  suffices hw : ∀ (H : Heap) (locs : List Loc), va_P D vwCl (wN k xa ra xi rs ++ wR k (ra 3) rc) H → va_S A s.heap H locs → gW p l e rmX0_graft s m [.ref (xa 0), .int p1, .int p2, .int p3] below meth c (qcX0_graft D k xa ra xi rs_o rc_o r A) A 0 0 H locs 0 ls [] from hw s.heap [] hP hS
  clear hP hS
  intro H locs hP hS
  unfold fX0_graft at hf
  refine lv_aload_n hx hb dX0_graft_0 rfl (lv_at hl 0 rfl) ?_
  refine lv_iload_n hx hb dX0_graft_1 rfl (lv_at hl 1 rfl) ?_
  obtain ⟨v1, ev1, hf⟩ := ob hf
  refine rd_callVZ (As := [.int p1]) (rest := []) ⟨hx, hb, hml, hown, hts⟩ (mX0_isNode l D k xa ra xi rs p1 _ ev1) (cwV 1 hts (lw_V q534 q536 qs19 q90 q537) rfl rfl rfl ⟨rfl, hdX0_isNode⟩ ⟨Nat.le_of_ble_eq_true rfl, Nat.le_of_ble_eq_true rfl⟩) hK hP [0, 1, 2, 3, 4, 5, 6] rfl 0 0 rfl rfl rfl hl.1 rfl (Nat.le_of_ble_eq_true rfl) dX0_graft_2 ⟨Nat.le_of_ble_eq_true rfl, Nat.le_of_ble_eq_true rfl⟩ (fun zv1 => ?_)
  refine lv_if_eq (tgt := 16) hx hb dX0_graft_5 (by decide) (fun c3 => ?_) (fun c3 => ?_)
  · have hf := oi_t c3 hf
    refine lv_iconst (v := (-1)) hx hb dX0_graft_16 (by decide) ?_
    obtain ⟨he1, he2, he3⟩ := prod3 hf
    rw [he2] at hP
    rw [he3] at hP
    exact wr_iret hx hb hr hlk he1 hP hS dX0_graft_17
  · have hf := oi_f c3 hf
    refine lv_aload_n hx hb dX0_graft_8 rfl (lv_at hl 0 rfl) ?_
    refine lv_iload_n hx hb dX0_graft_9 rfl (lv_at hl 2 rfl) ?_
    obtain ⟨v4, ev4, hf⟩ := ob hf
    refine rd_callVZ (As := [.int p2]) (rest := []) ⟨hx, hb, hml, hown, hts⟩ (mX0_isNode l D k xa ra xi rs p2 _ ev4) (cwV 1 hts (lw_V q534 q536 qs19 q90 q537) rfl rfl rfl ⟨rfl, hdX0_isNode⟩ ⟨Nat.le_of_ble_eq_true rfl, Nat.le_of_ble_eq_true rfl⟩) hK hP [0, 1, 2, 3, 4, 5, 6] rfl 0 0 rfl rfl rfl hl.1 rfl (Nat.le_of_ble_eq_true rfl) dX0_graft_10 ⟨Nat.le_of_ble_eq_true rfl, Nat.le_of_ble_eq_true rfl⟩ (fun zv4 => ?_)
    refine lv_if_ne (tgt := 18) hx hb dX0_graft_13 (by decide) (fun c6 => ?_) (fun c6 => ?_)
    · have hf := oi_f c6 hf
      refine lv_aload_n hx hb dX0_graft_18 rfl (lv_at hl 0 rfl) ?_
      refine lv_iload_n hx hb dX0_graft_19 rfl (lv_at hl 1 rfl) ?_
      refine lv_iload_n hx hb dX0_graft_20 rfl (lv_at hl 2 rfl) ?_
      obtain ⟨v7, ev7, hf⟩ := ob hf
      refine rd_callVZ (As := [.int p1, .int p2]) (rest := []) ⟨hx, hb, hml, hown, hts⟩ (mX0_isAbove l D k xa ra xi rs p1 p2 _ ev7) (cwV 2 hts (lw_V q618 q620 qs36 q90 q621) rfl rfl rfl ⟨rfl, hdX0_isAbove⟩ ⟨Nat.le_of_ble_eq_true rfl, Nat.le_of_ble_eq_true rfl⟩) hK hP [0, 1, 2, 3, 4, 5, 6] rfl 0 0 rfl rfl rfl hl.1 rfl (Nat.le_of_ble_eq_true rfl) dX0_graft_21 ⟨Nat.le_of_ble_eq_true rfl, Nat.le_of_ble_eq_true rfl⟩ (fun zv7 => ?_)
      refine lv_if_ne (tgt := 31) hx hb dX0_graft_24 (by decide) (fun c9 => ?_) (fun c9 => ?_)
      · have hf := oi_f c9 hf
        refine lv_bipush (v := (-2)) hx hb dX0_graft_31 (by decide) ?_
        obtain ⟨he1, he2, he3⟩ := prod3 hf
        rw [he2] at hP
        rw [he3] at hP
        exact wr_iret hx hb hr hlk he1 hP hS dX0_graft_33
      · have hf := oi_t c9 hf
        refine lv_iload_n hx hb dX0_graft_27 rfl (lv_at hl 1 rfl) ?_
        refine lv_if_ne (tgt := 34) hx hb dX0_graft_28 (by decide) (fun c10 => ?_) (fun c10 => ?_)
        · have hf := oi_f c10 hf
          refine lv_aload_n hx hb dX0_graft_34 rfl (lv_at hl 0 rfl) ?_
          refine lv_iload_n hx hb dX0_graft_35 rfl (lv_at hl 1 rfl) ?_
          obtain ⟨v11, ev11, hf⟩ := ob hf
          refine rd_callV (As := [.int p1]) (rest := []) ⟨hx, hb, hml, hown, hts⟩ (mX0_sizeOf l D k xa ra xi rs p1 _ ev11) (cwV 1 hts (lw_V q578 q580 qs30 q90 q581) rfl rfl rfl ⟨rfl, hdX0_sizeOf⟩ ⟨Nat.le_of_ble_eq_true rfl, Nat.le_of_ble_eq_true rfl⟩) hK hP [0, 1, 2, 3, 4, 5, 6] rfl 0 0 rfl rfl rfl hl.1 rfl (Nat.le_of_ble_eq_true rfl) dX0_graft_36 ⟨Nat.le_of_ble_eq_true rfl, Nat.le_of_ble_eq_true rfl⟩ ?_
          refine lv_istore (lv' := [(4, .int v11), (0, .ref (xa 0)), (1, .int p1), (2, .int p2), (3, .int p3)]) hx hb dX0_graft_39 hl (by decide) rfl (fun ls hl => ?_)
          refine lv_aload_n hx hb dX0_graft_41 rfl (lv_at hl 1 rfl) ?_
          refine lv_iload_n hx hb dX0_graft_42 rfl (lv_at hl 3 rfl) ?_
          obtain ⟨v13, ev13, hf⟩ := ob hf
          refine rd_callV (As := [.int p2]) (rest := []) ⟨hx, hb, hml, hown, hts⟩ (mX0_childrenOf l D k xa ra xi rs p2 _ ev13) (cwV 1 hts (lw_V q574 q576 qs29 q90 q577) rfl rfl rfl ⟨rfl, hdX0_childrenOf⟩ ⟨Nat.le_of_ble_eq_true rfl, Nat.le_of_ble_eq_true rfl⟩) hK hP [0, 1, 2, 3, 4, 5, 6] rfl 0 0 rfl rfl rfl hl.1 rfl (Nat.le_of_ble_eq_true rfl) dX0_graft_43 ⟨Nat.le_of_ble_eq_true rfl, Nat.le_of_ble_eq_true rfl⟩ ?_
          refine lv_aload_n hx hb dX0_graft_46 rfl (lv_at hl 1 rfl) ?_
          refine lv_iload_n hx hb dX0_graft_47 rfl (lv_at hl 2 rfl) ?_
          obtain ⟨v15, ev15, hf⟩ := ob hf
          refine rd_callV (As := [.int p1]) (rest := [.int v13]) ⟨hx, hb, hml, hown, hts⟩ (mX0_parentOf l D k xa ra xi rs p1 _ ev15) (cwV 1 hts (lw_V q550 q552 qs23 q90 q553) rfl rfl rfl ⟨rfl, hdX0_parentOf⟩ ⟨Nat.le_of_ble_eq_true rfl, Nat.le_of_ble_eq_true rfl⟩) hK hP [0, 1, 2, 3, 4, 5, 6] rfl 0 0 rfl rfl rfl hl.1 rfl (Nat.le_of_ble_eq_true rfl) dX0_graft_48 ⟨Nat.le_of_ble_eq_true rfl, Nat.le_of_ble_eq_true rfl⟩ ?_
          refine lv_iload_n hx hb dX0_graft_51 rfl (lv_at hl 3 rfl) ?_
          have hB60 : ∀ (rs_60 : RS) (rc_60 : RS) (x4_60 : Int32) (s0_60 : Int32) (s1_60 : Int32), ∀ (H : Heap) (locs : List Loc), va_P D vwCl (wN k xa ra xi rs_60 ++ wR k (ra 3) rc_60) H → va_D A (wN k xa ra xi rs_60 ++ wR k (ra 3) rc_60) → va_S A s.heap H locs → fX0_graft_B60 p1 p2 p3 rs_60 rc_60 x4_60 s0_60 s1_60 = some (r, rs_o, rc_o) → ∀ ls : Array Slot, lv_has ls 11 [(0, .ref (xa 0)), (1, .int p1), (2, .int p2), (3, .int p3), (4, .int x4_60)] → gW p l e rmX0_graft s m [.ref (xa 0), .int p1, .int p2, .int p3] below meth c (qcX0_graft D k xa ra xi rs_o rc_o r A) A 0 0 H locs 60 ls [.int s0_60, .int s1_60] := by
            intro rs_60 rc_60 x4_60 s0_60 s1_60 H locs hP hD hS hf ls hl
            unfold fX0_graft_B60 at hf
            refine lv_isub hx hb dX0_graft_60 ?_
            obtain ⟨y18, ey18, hf⟩ := ob hf
            refine x_asI ey18 ?_
            refine lv_istore (lv' := [(5, .int y18), (0, .ref (xa 0)), (1, .int p1), (2, .int p2), (3, .int p3), (4, .int x4_60)]) hx hb dX0_graft_61 hl (by decide) rfl (fun ls hl => ?_)
            refine lv_iload_n hx hb dX0_graft_63 rfl (lv_at hl 4 rfl) ?_
            refine lv_i2l hx hb dX0_graft_64 rfl ?_
            refine lv_lconst (v := 0) hx hb dX0_graft_65 (by decide) ?_
            refine lv_iload hx hb dX0_graft_66 (lv_at hl 0 rfl) ?_
            refine lv_i2l hx hb dX0_graft_68 rfl ?_
            obtain ⟨v19, ev19, hf⟩ := ob hf
            refine rd_callSZ (As := [.long ((p3).toInt64), .long (0 : Int64), .long ((y18).toInt64)]) (rest := []) ⟨hx, hb, hml, hown, hts⟩ (mX0_in l D k   ((p3).toInt64) (0 : Int64) ((y18).toInt64) _ ev19) (va_cwS 3 hts (lw_S q242 q243 q90 q244) rfl rfl rfl hdX0_in ⟨Nat.le_of_ble_eq_true rfl, Nat.le_of_ble_eq_true rfl⟩) hK rfl hl.1 rfl (Nat.le_of_ble_eq_true rfl) dX0_graft_69 ⟨Nat.le_of_ble_eq_true rfl, Nat.le_of_ble_eq_true rfl⟩ (fun zv19 => ?_)
            refine lv_if_ne (tgt := 77) hx hb dX0_graft_72 (by decide) (fun c21 => ?_) (fun c21 => ?_)
            · have hf := oi_f c21 hf
              refine lv_aload_n hx hb dX0_graft_77 rfl (lv_at hl 1 rfl) ?_
              refine va_get (D := D) (cl := vwCl) (ci := 0) (v := .ref (ra 3 0)) (C := RX0) (T := TX0) (N := 15) hx hb hts in_X0 hown hK.1 hP 0 rfl rfl 11 (by decide) (hts _ q202) (fun _ h9 => h9) rfl dX0_graft_78 ?_
              refine lv_aload_n hx hb dX0_graft_81 rfl (lv_at hl 1 rfl) ?_
              refine va_get (D := D) (cl := vwCl) (ci := 0) (v := .ref (ra 0 0)) (C := RX0) (T := TX0) (N := 15) hx hb hts in_X0 hown hK.1 hP 0 rfl rfl 0 (by decide) (hts _ q190) (fun _ h9 => h9) rfl dX0_graft_82 ?_
              obtain ⟨g22, et23, hf⟩ := ob hf
              refine wr_callVv (As := [.ref (ra 0 0)]) (rest := []) ⟨hx, hb, hml, hown, hts⟩ (mX1_as l D k (ra 3) (ra 0) rc_60 rs_60  _ _ et23) (cwV 1 hts (lw_V q406 q407 q408 q91 q409) rfl rfl rfl ⟨rfl, hdX1_as⟩ ⟨Nat.le_of_ble_eq_true rfl, Nat.le_of_ble_eq_true rfl⟩) hK hP hD hS hA [7, 8, 9, 10, 11, 12, 1, 2, 3, 4, 5, 6] [0] (wN k xa ra xi rs_60 ++ wR k (ra 3) g22) rfl rfl (fm_c (fm_e _ rfl rfl) fm_n) 13 rfl (by decide) (by decide) [(xa 0), (ra 0 0), (ra 0 1), (ra 0 2), (ra 0 3), (ra 0 4), (ra 0 5), (ra 3 0), (ra 3 1), (ra 3 2), (ra 3 3), (ra 3 4), (ra 3 5)] rfl rfl 7 1 rfl rfl rfl hl.1 rfl (Nat.le_of_ble_eq_true rfl) dX0_graft_85 ⟨Nat.le_of_ble_eq_true rfl, Nat.le_of_ble_eq_true rfl⟩ (fun H locs hP hD hS => ?_)
              refine lv_aload_n hx hb dX0_graft_88 rfl (lv_at hl 1 rfl) ?_
              refine lv_iload_n hx hb dX0_graft_89 rfl (lv_at hl 2 rfl) ?_
              obtain ⟨v24, ev24, hf⟩ := ob hf
              refine rd_callV (As := [.int p1]) (rest := []) ⟨hx, hb, hml, hown, hts⟩ (mX0_openOf l D k xa ra xi rs_60 p1 _ ev24) (cwV 1 hts (lw_V q538 q540 qs20 q90 q541) rfl rfl rfl ⟨rfl, hdX0_openOf⟩ ⟨Nat.le_of_ble_eq_true rfl, Nat.le_of_ble_eq_true rfl⟩) hK hP [0, 1, 2, 3, 4, 5, 6] rfl 0 0 rfl rfl rfl hl.1 rfl (Nat.le_of_ble_eq_true rfl) dX0_graft_90 ⟨Nat.le_of_ble_eq_true rfl, Nat.le_of_ble_eq_true rfl⟩ ?_
              refine lv_istore (lv' := [(6, .int v24), (5, .int y18), (0, .ref (xa 0)), (1, .int p1), (2, .int p2), (3, .int p3), (4, .int x4_60)]) hx hb dX0_graft_93 hl (by decide) rfl (fun ls hl => ?_)
              refine lv_aload_n hx hb dX0_graft_95 rfl (lv_at hl 2 rfl) ?_
              refine lv_iload_n hx hb dX0_graft_96 rfl (lv_at hl 3 rfl) ?_
              obtain ⟨g26, et27, hf⟩ := ob hf
              refine wr_callVv (As := [.int p1]) (rest := []) ⟨hx, hb, hml, hown, hts⟩ (mX0_falls l D k xa ra xi rs_60 p1 _ _ et27) (cwV 1 hts (lw_V q747 q749 qs47 q90 q750) rfl rfl rfl ⟨rfl, hdX0_falls⟩ ⟨Nat.le_of_ble_eq_true rfl, Nat.le_of_ble_eq_true rfl⟩) hK hP hD hS hA [0, 1, 2, 3, 4, 5, 6] [7, 8, 9, 10, 11, 12] (wN k xa ra xi g26 ++ wR k (ra 3) g22) rfl rfl (fm_c (fm_e _ rfl rfl) (fm_c (fm_e _ rfl rfl) (fm_c (fm_e _ rfl rfl) (fm_c (fm_e _ rfl rfl) (fm_c (fm_e _ rfl rfl) (fm_c (fm_e _ rfl rfl) fm_n)))))) 13 rfl (by decide) (by decide) [(xa 0), (ra 0 0), (ra 0 1), (ra 0 2), (ra 0 3), (ra 0 4), (ra 0 5), (ra 3 0), (ra 3 1), (ra 3 2), (ra 3 3), (ra 3 4), (ra 3 5)] rfl rfl 0 0 rfl rfl rfl hl.1 rfl (Nat.le_of_ble_eq_true rfl) dX0_graft_97 ⟨Nat.le_of_ble_eq_true rfl, Nat.le_of_ble_eq_true rfl⟩ (fun H locs hP hD hS => ?_)
              refine lv_iload_n hx hb dX0_graft_100 rfl (lv_at hl 4 rfl) ?_
              refine lv_iload_n hx hb dX0_graft_101 rfl (lv_at hl 3 rfl) ?_
              have hB113 : ∀ (rs_113 : RS) (rc_113 : RS) (x4_113 : Int32) (x6_113 : Int32) (s0_113 : Int32), ∀ (H : Heap) (locs : List Loc), va_P D vwCl (wN k xa ra xi rs_113 ++ wR k (ra 3) rc_113) H → va_D A (wN k xa ra xi rs_113 ++ wR k (ra 3) rc_113) → va_S A s.heap H locs → fX0_graft_B113 p1 p2 p3 rs_113 rc_113 x4_113 x6_113 s0_113 = some (r, rs_o, rc_o) → ∀ ls : Array Slot, lv_has ls 11 [(0, .ref (xa 0)), (1, .int p1), (3, .int p3), (4, .int x4_113), (6, .int x6_113)] → gW p l e rmX0_graft s m [.ref (xa 0), .int p1, .int p2, .int p3] below meth c (qcX0_graft D k xa ra xi rs_o rc_o r A) A 0 0 H locs 113 ls [.int s0_113] := by
                intro rs_113 rc_113 x4_113 x6_113 s0_113 H locs hP hD hS hf ls hl
                unfold fX0_graft_B113 at hf
                refine lv_istore (lv' := [(7, .int s0_113), (0, .ref (xa 0)), (1, .int p1), (3, .int p3), (4, .int x4_113), (6, .int x6_113)]) hx hb dX0_graft_113 hl (by decide) rfl (fun ls hl => ?_)
                refine lv_aload_n hx hb dX0_graft_115 rfl (lv_at hl 1 rfl) ?_
                refine lv_iload hx hb dX0_graft_116 (lv_at hl 0 rfl) ?_
                refine lv_iload_n hx hb dX0_graft_118 rfl (lv_at hl 3 rfl) ?_
                obtain ⟨v29, ev29, hf⟩ := ob hf
                refine rd_callV (As := [.int s0_113, .int p3]) (rest := []) ⟨hx, hb, hml, hown, hts⟩ (mX0_placeOfChild l D k xa ra xi rs_113 s0_113 p3 _ ev29) (cwV 2 hts (lw_V q734 q736 qs45 q90 q737) rfl rfl rfl ⟨rfl, hdX0_placeOfChild⟩ ⟨Nat.le_of_ble_eq_true rfl, Nat.le_of_ble_eq_true rfl⟩) hK hP [0, 1, 2, 3, 4, 5, 6] rfl 0 0 rfl rfl rfl hl.1 rfl (Nat.le_of_ble_eq_true rfl) dX0_graft_119 ⟨Nat.le_of_ble_eq_true rfl, Nat.le_of_ble_eq_true rfl⟩ ?_
                refine lv_istore (lv' := [(8, .int v29), (7, .int s0_113), (0, .ref (xa 0)), (1, .int p1), (3, .int p3), (4, .int x4_113), (6, .int x6_113)]) hx hb dX0_graft_122 hl (by decide) rfl (fun ls hl => ?_)
                refine lv_aload_n hx hb dX0_graft_124 rfl (lv_at hl 2 rfl) ?_
                refine lv_iload hx hb dX0_graft_125 (lv_at hl 0 rfl) ?_
                obtain ⟨v31, ev31, hf⟩ := ob hf
                refine rd_callV (As := [.int v29]) (rest := []) ⟨hx, hb, hml, hown, hts⟩ (mX0_nodeAt l D k xa ra xi rs_113 v29 _ ev31) (cwV 1 hts (lw_V q554 q556 qs24 q90 q557) rfl rfl rfl ⟨rfl, hdX0_nodeAt⟩ ⟨Nat.le_of_ble_eq_true rfl, Nat.le_of_ble_eq_true rfl⟩) hK hP [0, 1, 2, 3, 4, 5, 6] rfl 0 0 rfl rfl rfl hl.1 rfl (Nat.le_of_ble_eq_true rfl) dX0_graft_127 ⟨Nat.le_of_ble_eq_true rfl, Nat.le_of_ble_eq_true rfl⟩ ?_
                refine lv_istore (lv' := [(9, .int v31), (8, .int v29), (7, .int s0_113), (0, .ref (xa 0)), (1, .int p1), (3, .int p3), (4, .int x4_113), (6, .int x6_113)]) hx hb dX0_graft_130 hl (by decide) rfl (fun ls hl => ?_)
                refine lv_iconst (v := 0) hx hb dX0_graft_132 (by decide) ?_
                refine lv_istore (lv' := [(10, .int (0 : Int32)), (9, .int v31), (8, .int v29), (7, .int s0_113), (0, .ref (xa 0)), (1, .int p1), (3, .int p3), (4, .int x4_113), (6, .int x6_113)]) hx hb dX0_graft_133 hl (by decide) rfl (fun ls hl => ?_)
                have hL135 : ∀ (nn : Nat) (rs_135 : RS) (rc_135 : RS) (x4_135 : Int32) (x6_135 : Int32) (x8_135 : Int32) (x9_135 : Int32) (x10_135 : Int32), ∀ (H : Heap) (locs : List Loc), va_P D vwCl (wN k xa ra xi rs_135 ++ wR k (ra 3) rc_135) H → va_D A (wN k xa ra xi rs_135 ++ wR k (ra 3) rc_135) → va_S A s.heap H locs → fX0_graft_L135 p1 p2 p3 nn rs_135 rc_135 x4_135 x6_135 x8_135 x9_135 x10_135 = some (r, rs_o, rc_o) → ∀ ls : Array Slot, lv_has ls 11 [(0, .ref (xa 0)), (1, .int p1), (4, .int x4_135), (6, .int x6_135), (8, .int x8_135), (9, .int x9_135), (10, .int x10_135)] → gW p l e rmX0_graft s m [.ref (xa 0), .int p1, .int p2, .int p3] below meth c (qcX0_graft D k xa ra xi rs_o rc_o r A) A 0 0 H locs 135 ls [] := by
                  intro nn135
                  induction nn135 with
                  | zero =>
                    intro rs_135 rc_135 x4_135 x6_135 x8_135 x9_135 x10_135 H locs hP hD hS hf
                    rw [fX0_graft_L135] at hf; cases hf
                  | succ nn135 ih135 =>
                    intro rs_135 rc_135 x4_135 x6_135 x8_135 x9_135 x10_135 H locs hP hD hS hf ls hl
                    rw [fX0_graft_L135] at hf
                    refine lv_iload hx hb dX0_graft_135 (lv_at hl 6 rfl) ?_
                    refine lv_iconst (v := 2) hx hb dX0_graft_137 (by decide) ?_
                    refine lv_iload hx hb dX0_graft_138 (lv_at hl 2 rfl) ?_
                    refine lv_imul hx hb dX0_graft_140 ?_
                    refine lv_icmp_ge (tgt := 171) hx hb dX0_graft_141 (by decide) (fun c33 => ?_) (fun c33 => ?_)
                    · have hf := oi_t c33 hf
                      refine lv_iconst (v := 0) hx hb dX0_graft_171 (by decide) ?_
                      refine lv_istore (lv' := [(10, .int (0 : Int32)), (0, .ref (xa 0)), (1, .int p1), (4, .int x4_135), (6, .int x6_135), (8, .int x8_135), (9, .int x9_135)]) hx hb dX0_graft_172 hl (by decide) rfl (fun ls hl => ?_)
                      have hL174 : ∀ (nn : Nat) (rs_174 : RS) (rc_174 : RS) (x4_174 : Int32) (x9_174 : Int32) (x10_174 : Int32), ∀ (H : Heap) (locs : List Loc), va_P D vwCl (wN k xa ra xi rs_174 ++ wR k (ra 3) rc_174) H → va_D A (wN k xa ra xi rs_174 ++ wR k (ra 3) rc_174) → va_S A s.heap H locs → fX0_graft_L174 p1 p2 p3 nn rs_174 rc_174 x4_174 x9_174 x10_174 = some (r, rs_o, rc_o) → ∀ ls : Array Slot, lv_has ls 11 [(0, .ref (xa 0)), (1, .int p1), (4, .int x4_174), (9, .int x9_174), (10, .int x10_174)] → gW p l e rmX0_graft s m [.ref (xa 0), .int p1, .int p2, .int p3] below meth c (qcX0_graft D k xa ra xi rs_o rc_o r A) A 0 0 H locs 174 ls [] := by
                        intro nn174
                        induction nn174 with
                        | zero =>
                          intro rs_174 rc_174 x4_174 x9_174 x10_174 H locs hP hD hS hf
                          rw [fX0_graft_L174] at hf; cases hf
                        | succ nn174 ih174 =>
                          intro rs_174 rc_174 x4_174 x9_174 x10_174 H locs hP hD hS hf ls hl
                          rw [fX0_graft_L174] at hf
                          refine lv_iload hx hb dX0_graft_174 (lv_at hl 4 rfl) ?_
                          refine lv_iload hx hb dX0_graft_176 (lv_at hl 2 rfl) ?_
                          refine lv_icmp_ge (tgt := 208) hx hb dX0_graft_178 (by decide) (fun c34 => ?_) (fun c34 => ?_)
                          · have hf := oi_t c34 hf
                            refine lv_aload_n hx hb dX0_graft_208 rfl (lv_at hl 0 rfl) ?_
                            refine va_get (D := D) (cl := vwCl) (ci := 0) (v := .ref (ra 0 0)) (C := RX0) (T := TX0) (N := 15) hx hb hts in_X0 hown hK.1 hP 0 rfl rfl 0 (by decide) (hts _ q190) (fun _ h9 => h9) rfl dX0_graft_209 ?_
                            obtain ⟨g35, et36, hf⟩ := ob hf
                            refine wr_callVv (As := []) (rest := []) ⟨hx, hb, hml, hown, hts⟩ (mX1_summariseAll l D k (ra 0) rs_174  _ _ et36) (cwV 0 hts (lw_V q168 q169 q170 q91 q171) rfl rfl rfl ⟨rfl, hdX1_summariseAll⟩ ⟨Nat.le_of_ble_eq_true rfl, Nat.le_of_ble_eq_true rfl⟩) hK hP hD hS hA [1, 2, 3, 4, 5, 6] [0, 7, 8, 9, 10, 11, 12] (wN k xa ra xi g35 ++ wR k (ra 3) rc_174) rfl rfl (fm_c (fm_e _ rfl rfl) (fm_c (fm_e _ rfl rfl) (fm_c (fm_e _ rfl rfl) (fm_c (fm_e _ rfl rfl) (fm_c (fm_e _ rfl rfl) (fm_c (fm_e _ rfl rfl) (fm_c (fm_e _ rfl rfl) fm_n))))))) 13 rfl (by decide) (by decide) [(xa 0), (ra 0 0), (ra 0 1), (ra 0 2), (ra 0 3), (ra 0 4), (ra 0 5), (ra 3 0), (ra 3 1), (ra 3 2), (ra 3 3), (ra 3 4), (ra 3 5)] rfl rfl 1 1 rfl rfl rfl hl.1 rfl (Nat.le_of_ble_eq_true rfl) dX0_graft_212 ⟨Nat.le_of_ble_eq_true rfl, Nat.le_of_ble_eq_true rfl⟩ (fun H locs hP hD hS => ?_)
                            refine lv_iload hx hb dX0_graft_215 (lv_at hl 3 rfl) ?_
                            obtain ⟨he1, he2, he3⟩ := prod3 hf
                            rw [he2] at hP
                            rw [he3] at hP
                            exact wr_iret hx hb hr hlk he1 hP hS dX0_graft_217
                          · have hf := oi_f c34 hf
                            refine lv_aload_n hx hb dX0_graft_181 rfl (lv_at hl 0 rfl) ?_
                            refine lv_iload hx hb dX0_graft_182 (lv_at hl 3 rfl) ?_
                            refine lv_iload hx hb dX0_graft_184 (lv_at hl 4 rfl) ?_
                            refine lv_iadd hx hb dX0_graft_186 ?_
                            refine lv_aload_n hx hb dX0_graft_187 rfl (lv_at hl 0 rfl) ?_
                            refine va_get (D := D) (cl := vwCl) (ci := 0) (v := .ref (ra 3 0)) (C := RX0) (T := TX0) (N := 15) hx hb hts in_X0 hown hK.1 hP 0 rfl rfl 11 (by decide) (hts _ q202) (fun _ h9 => h9) rfl dX0_graft_188 ?_
                            refine va_getN (D := D) (cl := vwCl) (ci := 1) (v := .ref (ra 3 2)) (C := RX1) (T := TX1) (N := 6) hx hb hts in_X1 hown hK.1 hP 7 rfl rfl 2 (by decide) (hK.nw 3 rfl) (fun _ h9 => h9) rfl dX0_graft_191 ?_
                            refine lv_iload_n hx hb dX0_graft_194 rfl (lv_at hl 1 rfl) ?_
                            refine lv_iload hx hb dX0_graft_195 (lv_at hl 4 rfl) ?_
                            refine lv_iadd hx hb dX0_graft_197 ?_
                            obtain ⟨v37, ev37, hf⟩ := ob hf
                            refine x_iald hx hb hK hP 9 1 ev37 rfl rfl dX0_graft_198 ?_
                            obtain ⟨g38, et39, hf⟩ := ob hf
                            refine wr_callVv (As := [.int (x9_174 + x10_174), .int v37]) (rest := []) ⟨hx, hb, hml, hown, hts⟩ (mX0_weightComes l D k xa ra xi rs_174 (x9_174 + x10_174) v37 _ _ et39) (cwV 2 hts (lw_V q738 q740 qs46 q90 q741) rfl rfl rfl ⟨rfl, hdX0_weightComes⟩ ⟨Nat.le_of_ble_eq_true rfl, Nat.le_of_ble_eq_true rfl⟩) hK hP hD hS hA [0, 1, 2, 3, 4, 5, 6] [7, 8, 9, 10, 11, 12] (wN k xa ra xi g38 ++ wR k (ra 3) rc_174) rfl rfl (fm_c (fm_e _ rfl rfl) (fm_c (fm_e _ rfl rfl) (fm_c (fm_e _ rfl rfl) (fm_c (fm_e _ rfl rfl) (fm_c (fm_e _ rfl rfl) (fm_c (fm_e _ rfl rfl) fm_n)))))) 13 rfl (by decide) (by decide) [(xa 0), (ra 0 0), (ra 0 1), (ra 0 2), (ra 0 3), (ra 0 4), (ra 0 5), (ra 3 0), (ra 3 1), (ra 3 2), (ra 3 3), (ra 3 4), (ra 3 5)] rfl rfl 0 0 rfl rfl rfl hl.1 rfl (Nat.le_of_ble_eq_true rfl) dX0_graft_199 ⟨Nat.le_of_ble_eq_true rfl, Nat.le_of_ble_eq_true rfl⟩ (fun H locs hP hD hS => ?_)
                            refine lv_iinc (v := (x10_174 + 1)) (lv' := [(10, .int (x10_174 + 1)), (0, .ref (xa 0)), (1, .int p1), (4, .int x4_174), (9, .int x9_174)]) hx hb dX0_graft_202 hl (k := 4) rfl rfl (by decide) rfl (fun ls hl => ?_)
                            refine lv_goto (tgt := 174) hx hb dX0_graft_205 (by decide) ?_
                            exact ih174 g38 rc_174 x4_174 x9_174 (x10_174 + 1) H locs hP hD hS hf ls (lv_sub hl [1, 2, 3, 4, 0] rfl)
                      exact hL174 FU rs_135 rc_135 x4_135 x9_135 (0 : Int32) H locs hP hD hS hf ls (lv_sub hl [1, 2, 3, 6, 0] rfl)
                    · have hf := oi_f c33 hf
                      refine lv_aload_n hx hb dX0_graft_144 rfl (lv_at hl 0 rfl) ?_
                      refine lv_iload hx hb dX0_graft_145 (lv_at hl 4 rfl) ?_
                      refine lv_iload hx hb dX0_graft_147 (lv_at hl 6 rfl) ?_
                      refine lv_iadd hx hb dX0_graft_149 ?_
                      refine lv_aload_n hx hb dX0_graft_150 rfl (lv_at hl 0 rfl) ?_
                      refine va_get (D := D) (cl := vwCl) (ci := 0) (v := .ref (ra 3 0)) (C := RX0) (T := TX0) (N := 15) hx hb hts in_X0 hown hK.1 hP 0 rfl rfl 11 (by decide) (hts _ q202) (fun _ h9 => h9) rfl dX0_graft_151 ?_
                      refine lv_iload hx hb dX0_graft_154 (lv_at hl 3 rfl) ?_
                      refine lv_iload hx hb dX0_graft_156 (lv_at hl 6 rfl) ?_
                      refine lv_iadd hx hb dX0_graft_158 ?_
                      obtain ⟨v40, ev40, hf⟩ := ob hf
                      refine rd_callVZ (As := [.int (x6_135 + x10_135)]) (rest := [.int (x8_135 + x10_135), .ref (xa 0)]) ⟨hx, hb, hml, hown, hts⟩ (mX1_isOpen l D k (ra 3) rc_135 (x6_135 + x10_135) _ ev40) (cwV 1 hts (lw_V q439 q184 q185 q91 q186) rfl rfl rfl ⟨rfl, hdX1_isOpen⟩ ⟨Nat.le_of_ble_eq_true rfl, Nat.le_of_ble_eq_true rfl⟩) hK hP [7, 8, 9, 10, 11, 12] rfl 7 1 rfl rfl rfl hl.1 rfl (Nat.le_of_ble_eq_true rfl) dX0_graft_159 ⟨Nat.le_of_ble_eq_true rfl, Nat.le_of_ble_eq_true rfl⟩ (fun zv40 => ?_)
                      obtain ⟨g42, et43, hf⟩ := ob hf
                      refine wr_callVv (As := [.int (x8_135 + x10_135), .int v40]) (rest := []) ⟨hx, hb, hml, hown, hts⟩ (mX0_bitComes l D k xa ra xi rs_135 (x8_135 + x10_135) v40 _ _ et43) (cwV 2 hts (lw_V q721 q723 qs43 q90 q724) rfl rfl rfl ⟨rfl, hdX0_bitComes⟩ ⟨Nat.le_of_ble_eq_true rfl, Nat.le_of_ble_eq_true rfl⟩) hK hP hD hS hA [0, 1, 2, 3, 4, 5, 6] [7, 8, 9, 10, 11, 12] (wN k xa ra xi g42 ++ wR k (ra 3) rc_135) rfl rfl (fm_c (fm_e _ rfl rfl) (fm_c (fm_e _ rfl rfl) (fm_c (fm_e _ rfl rfl) (fm_c (fm_e _ rfl rfl) (fm_c (fm_e _ rfl rfl) (fm_c (fm_e _ rfl rfl) fm_n)))))) 13 rfl (by decide) (by decide) [(xa 0), (ra 0 0), (ra 0 1), (ra 0 2), (ra 0 3), (ra 0 4), (ra 0 5), (ra 3 0), (ra 3 1), (ra 3 2), (ra 3 3), (ra 3 4), (ra 3 5)] rfl rfl 0 0 rfl rfl rfl hl.1 rfl (Nat.le_of_ble_eq_true rfl) dX0_graft_162 ⟨Nat.le_of_ble_eq_true rfl, Nat.le_of_ble_eq_true rfl⟩ (fun H locs hP hD hS => ?_)
                      refine lv_iinc (v := (x10_135 + 1)) (lv' := [(10, .int (x10_135 + 1)), (0, .ref (xa 0)), (1, .int p1), (4, .int x4_135), (6, .int x6_135), (8, .int x8_135), (9, .int x9_135)]) hx hb dX0_graft_165 hl (k := 6) rfl rfl (by decide) rfl (fun ls hl => ?_)
                      refine lv_goto (tgt := 135) hx hb dX0_graft_168 (by decide) ?_
                      exact ih135 g42 rc_135 x4_135 x6_135 x8_135 x9_135 (x10_135 + 1) H locs hP hD hS hf ls (lv_sub hl [1, 2, 3, 4, 5, 6, 0] rfl)
                exact hL135 FU rs_113 rc_113 x4_113 x6_113 v29 v31 (0 : Int32) H locs hP hD hS hf ls (lv_sub hl [4, 5, 7, 8, 2, 1, 0] rfl)
              refine lv_icmp_le (tgt := 112) hx hb dX0_graft_102 (by decide) (fun c28 => ?_) (fun c28 => ?_)
              · have hf := oi_t c28 hf
                refine lv_iload_n hx hb dX0_graft_112 rfl (lv_at hl 4 rfl) ?_
                exact hB113 g26 g22 x4_60 v24 p2 H locs hP hD hS hf ls (lv_sub hl [2, 3, 5, 6, 0] rfl)
              · have hf := oi_f c28 hf
                refine lv_iload_n hx hb dX0_graft_105 rfl (lv_at hl 4 rfl) ?_
                refine lv_iload hx hb dX0_graft_106 (lv_at hl 6 rfl) ?_
                refine lv_isub hx hb dX0_graft_108 ?_
                refine lv_goto (tgt := 113) hx hb dX0_graft_109 (by decide) ?_
                exact hB113 g26 g22 x4_60 v24 (p2 - x4_60) H locs hP hD hS hf ls (lv_sub hl [2, 3, 5, 6, 0] rfl)
            · have hf := oi_t c21 hf
              refine lv_iconst (v := (-1)) hx hb dX0_graft_75 (by decide) ?_
              obtain ⟨he1, he2, he3⟩ := prod3 hf
              rw [he2] at hP
              rw [he3] at hP
              exact wr_iret hx hb hr hlk he1 hP hS dX0_graft_76
          refine lv_icmp_ne (tgt := 59) hx hb dX0_graft_52 (by decide) (fun c17 => ?_) (fun c17 => ?_)
          · have hf := oi_f c17 hf
            refine lv_iconst (v := 0) hx hb dX0_graft_59 (by decide) ?_
            exact hB60 rs rc v11 (0 : Int32) v13 H locs hP hD hS hf ls (lv_sub hl [1, 2, 3, 4, 0] rfl)
          · have hf := oi_t c17 hf
            refine lv_iconst (v := 1) hx hb dX0_graft_55 (by decide) ?_
            refine lv_goto (tgt := 60) hx hb dX0_graft_56 (by decide) ?_
            exact hB60 rs rc v11 (1 : Int32) v13 H locs hP hD hS hf ls (lv_sub hl [1, 2, 3, 4, 0] rfl)
        · have hf := oi_t c10 hf
          refine lv_bipush (v := (-2)) hx hb dX0_graft_31 (by decide) ?_
          obtain ⟨he1, he2, he3⟩ := prod3 hf
          rw [he2] at hP
          rw [he3] at hP
          exact wr_iret hx hb hr hlk he1 hP hS dX0_graft_33
    · have hf := oi_t c6 hf
      refine lv_iconst (v := (-1)) hx hb dX0_graft_16 (by decide) ?_
      obtain ⟨he1, he2, he3⟩ := prod3 hf
      rw [he2] at hP
      rw [he3] at hP
      exact wr_iret hx hb hr hlk he1 hP hS dX0_graft_17
