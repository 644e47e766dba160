/-! walks of the sheets, by program -/
set_option maxRecDepth 100000
abbrev rmX0_bitsOf : Room := { frames := 0, cells := 0, slots := 0, locals := 0 }
theorem hdX0_bitsOf : yX0_bitsOf.cls ≠ "java/lang/invoke/MethodHandle" ∧ yX0_bitsOf.cls ≠ "java/lang/invoke/VarHandle" ∧ (parseMethodDescriptor yX0_bitsOf.desc).map (fun d => d.parameters.length) = some 1 := by decide +kernel
set_option maxHeartbeats 4000000 in
theorem mX0_bitsOf (l : Launch) (D : va_G) (k : Nat → ClassId) (p1 : Int32) (r : Int32) (hf : fX0_bitsOf p1 = some r) : CtI l yX0_bitsOf cX0_bitsOf 1 rmX0_bitsOf [.int p1] D k [] r := by
  refine rd_start (by decide +kernel) (Nat.le_of_ble_eq_true rfl) ?_
  intro p e s m below meth c ls hx hb hr hlk hml hown hts hP hK hl
  have hl : lv_has ls 1 [(0, .int p1)] := hl
  have hown : s.vm.findClass RX0 = some m.cls := hown
  unfold fX0_bitsOf at hf
  refine lv_iload_n hx hb dX0_bitsOf_0 rfl (lv_at hl 0 rfl) ?_
  refine lv_if_ne (tgt := 9) hx hb dX0_bitsOf_1 (by decide) (fun c1 => ?_) (fun c1 => ?_)
  · have hf := oi_f c1 hf
    refine lv_iload_n hx hb dX0_bitsOf_9 rfl (lv_at hl 0 rfl) ?_
    refine lv_iconst (v := 1) hx hb dX0_bitsOf_10 (by decide) ?_
    refine lv_icmp_ne (tgt := 19) hx hb dX0_bitsOf_11 (by decide) (fun c2 => ?_) (fun c2 => ?_)
    · have hf := oi_f c2 hf
      refine lv_bipush (v := 64) hx hb dX0_bitsOf_19 (by decide) ?_
      exact rd_iret hx hb hr hlk (Option.some.inj hf) dX0_bitsOf_21
    · have hf := oi_t c2 hf
      refine lv_bipush (v := 32) hx hb dX0_bitsOf_14 (by decide) ?_
      refine lv_goto (tgt := 21) hx hb dX0_bitsOf_16 (by decide) ?_
      exact rd_iret hx hb hr hlk (Option.some.inj hf) dX0_bitsOf_21
  · have hf := oi_t c1 hf
    refine lv_bipush (v := 8) hx hb dX0_bitsOf_4 (by decide) ?_
    refine lv_goto (tgt := 21) hx hb dX0_bitsOf_6 (by decide) ?_
    exact rd_iret hx hb hr hlk (Option.some.inj hf) dX0_bitsOf_21

abbrev rmX0_isTree : Room := { frames := 2, cells := 0, slots := 0, locals := 42 }
theorem hdX0_isTree : yX0_isTree.cls ≠ "java/lang/invoke/MethodHandle" ∧ yX0_isTree.cls ≠ "java/lang/invoke/VarHandle" ∧ (parseMethodDescriptor yX0_isTree.desc).map (fun d => d.parameters.length) = some 0 := by decide +kernel
set_option maxHeartbeats 4000000 in
theorem mX0_isTree (l : Launch) (D : va_G) (k : Nat → ClassId) (xa : Nat → Nat) (ra : Nat → Nat → Nat) (xi : Nat → Int32) (rt : RS) (r : Int32) (hf : fX0_isTree rt = some r) : CtZ l yX0_isTree cX0_isTree 4 rmX0_isTree [.ref (xa 0)] D k (oX xa ra xi :: wR k (ra 4) rt) r := by
  refine rd_start (by decide +kernel) (Nat.le_of_ble_eq_true rfl) ?_
  intro p e s m below meth c ls hx hb hr hlk hml hown hts hP hK hl
  have hl : lv_has ls 4 [(0, .ref (xa 0))] := hl
  have hown : s.vm.findClass RX0 = some m.cls := hown
  unfold fX0_isTree at hf
  refine lv_iconst (v := 0) hx hb dX0_isTree_0 (by decide) ?_
  refine lv_istore_n (lv' := [(1, .int (0 : Int32)), (0, .ref (xa 0))]) hx hb dX0_isTree_1 rfl hl (by decide) rfl (fun ls hl => ?_)
  refine lv_iconst (v := 1) hx hb dX0_isTree_2 (by decide) ?_
  refine lv_istore_n (lv' := [(2, .int (1 : Int32)), (1, .int (0 : Int32)), (0, .ref (xa 0))]) hx hb dX0_isTree_3 rfl hl (by decide) rfl (fun ls hl => ?_)
  refine lv_iconst (v := 0) hx hb dX0_isTree_4 (by decide) ?_
  refine lv_istore_n (lv' := [(3, .int (0 : Int32)), (2, .int (1 : Int32)), (1, .int (0 : Int32)), (0, .ref (xa 0))]) hx hb dX0_isTree_5 rfl hl (by decide) rfl (fun ls hl => ?_)
  have hL6 : ∀ (nn : Nat) (x1_6 : Int32) (x2_6 : Int32) (x3_6 : Int32), fX0_isTree_L6 rt nn x1_6 x2_6 x3_6 = some r → ∀ ls : Array Slot, lv_has ls 4 [(0, .ref (xa 0)), (1, .int x1_6), (2, .int x2_6), (3, .int x3_6)] → gR p l e rmX0_isTree s m [.ref (xa 0)] below meth c (vp_Si (fun x => x = r ∧ zb x)) 6 ls [] := by
    intro nn6
    induction nn6 with
    | zero =>
      intro x1_6 x2_6 x3_6 hf
      rw [fX0_isTree_L6] at hf; cases hf
    | succ nn6 ih6 =>
      intro x1_6 x2_6 x3_6 hf ls hl
      rw [fX0_isTree_L6] at hf
      refine lv_iload_n hx hb dX0_isTree_6 rfl (lv_at hl 3 rfl) ?_
      refine lv_aload_n hx hb dX0_isTree_7 rfl (lv_at hl 0 rfl) ?_
      refine va_get (D := D) (cl := vwCl) (ci := 0) (v := .ref (ra 4 0)) (C := RX0) (T := TX0) (N := 15) hx hb hts in_X0 hown hK.1 hP 0 rfl rfl 13 (by decide) (hts _ q204) (fun _ h9 => h9) rfl dX0_isTree_8 ?_
      refine va_getN (D := D) (cl := vwCl) (ci := 1) (v := .int (rP rt)) (C := RX1) (T := TX1) (N := 6) hx hb hts in_X1 hown hK.1 hP 1 rfl rfl 1 (by decide) (hK.nw 2 rfl) (fun _ h9 => h9) rfl dX0_isTree_11 ?_
      refine lv_icmp_ge (tgt := 50) hx hb dX0_isTree_14 (by decide) (fun c1 => ?_) (fun c1 => ?_)
      · have hf := oi_t c1 hf
        refine lv_iload_n hx hb dX0_isTree_50 rfl (lv_at hl 2 rfl) ?_
        refine lv_if_eq (tgt := 62) hx hb dX0_isTree_51 (by decide) (fun c2 => ?_) (fun c2 => ?_)
        · have hf := oi_t c2 hf
          refine lv_iconst (v := 0) hx hb dX0_isTree_62 (by decide) ?_
          exact rd_zret hx hb hr hlk (Or.inl rfl) (Option.some.inj hf) dX0_isTree_63
        · have hf := oi_f c2 hf
          refine lv_iload_n hx hb dX0_isTree_54 rfl (lv_at hl 1 rfl) ?_
          refine lv_if_ne (tgt := 62) hx hb dX0_isTree_55 (by decide) (fun c3 => ?_) (fun c3 => ?_)
          · have hf := oi_f c3 hf
            refine lv_iconst (v := 0) hx hb dX0_isTree_62 (by decide) ?_
            exact rd_zret hx hb hr hlk (Or.inl rfl) (Option.some.inj hf) dX0_isTree_63
          · have hf := oi_t c3 hf
            refine lv_iconst (v := 1) hx hb dX0_isTree_58 (by decide) ?_
            refine lv_goto (tgt := 63) hx hb dX0_isTree_59 (by decide) ?_
            exact rd_zret hx hb hr hlk (Or.inr rfl) (Option.some.inj hf) dX0_isTree_63
      · have hf := oi_f c1 hf
        refine lv_iload_n hx hb dX0_isTree_17 rfl (lv_at hl 2 rfl) ?_
        refine lv_iload_n hx hb dX0_isTree_18 rfl (lv_at hl 3 rfl) ?_
        have hB31 : ∀ (x1_31 : Int32) (x3_31 : Int32) (s0_31 : Int32) (s1_31 : Int32), fX0_isTree_B31 rt (fX0_isTree_L6 rt nn6) x1_31 x3_31 s0_31 s1_31 = some r → ∀ ls : Array Slot, lv_has ls 4 [(0, .ref (xa 0)), (1, .int x1_31), (3, .int x3_31)] → gR p l e rmX0_isTree s m [.ref (xa 0)] below meth c (vp_Si (fun x => x = r ∧ zb x)) 31 ls [.int s0_31, .int s1_31] := by
          intro x1_31 x3_31 s0_31 s1_31 hf ls hl
          unfold fX0_isTree_B31 at hf
          refine lv_iand hx hb dX0_isTree_31 ?_
          obtain ⟨y5, ey5, hf⟩ := ob hf
          refine x_asI ey5 ?_
          refine lv_istore_n (lv' := [(2, .int y5), (0, .ref (xa 0)), (1, .int x1_31), (3, .int x3_31)]) hx hb dX0_isTree_32 rfl hl (by decide) rfl (fun ls hl => ?_)
          refine lv_iload_n hx hb dX0_isTree_33 rfl (lv_at hl 2 rfl) ?_
          refine lv_aload_n hx hb dX0_isTree_34 rfl (lv_at hl 1 rfl) ?_
          refine va_get (D := D) (cl := vwCl) (ci := 0) (v := .ref (ra 4 0)) (C := RX0) (T := TX0) (N := 15) hx hb hts in_X0 hown hK.1 hP 0 rfl rfl 13 (by decide) (hts _ q204) (fun _ h9 => h9) rfl dX0_isTree_35 ?_
          refine lv_iload_n hx hb dX0_isTree_38 rfl (lv_at hl 3 rfl) ?_
          obtain ⟨v6, ev6, hf⟩ := ob hf
          refine rd_callV (As := [.int x3_31]) (rest := [.int x1_31]) ⟨hx, hb, hml, hown, hts⟩ (mX1_step l D k (ra 4) rt x3_31 _ ev6) (cwV 1 hts (lw_V q491 q180 q181 q91 q182) rfl rfl rfl ⟨rfl, hdX1_step⟩ ⟨Nat.le_of_ble_eq_true rfl, Nat.le_of_ble_eq_true rfl⟩) hK hP [1, 2, 3, 4, 5, 6] rfl 1 1 rfl rfl rfl hl.1 rfl (Nat.le_of_ble_eq_true rfl) dX0_isTree_39 ⟨Nat.le_of_ble_eq_true rfl, Nat.le_of_ble_eq_true rfl⟩ ?_
          refine lv_iadd hx hb dX0_isTree_42 ?_
          obtain ⟨y8, ey8, hf⟩ := ob hf
          refine x_asI ey8 ?_
          refine lv_istore_n (lv' := [(1, .int y8), (2, .int y5), (0, .ref (xa 0)), (3, .int x3_31)]) hx hb dX0_isTree_43 rfl hl (by decide) rfl (fun ls hl => ?_)
          refine lv_iinc (v := (x3_31 + 1)) (lv' := [(3, .int (x3_31 + 1)), (1, .int y8), (2, .int y5), (0, .ref (xa 0))]) hx hb dX0_isTree_44 hl (k := 3) rfl rfl (by decide) rfl (fun ls hl => ?_)
          refine lv_goto (tgt := 6) hx hb dX0_isTree_47 (by decide) ?_
          exact ih6 y8 y5 (x3_31 + 1) hf ls (lv_sub hl [3, 1, 2, 0] rfl)
        have hB26 : ∀ (x1_26 : Int32) (x3_26 : Int32) (s0_26 : Int32), fX0_isTree_B26 rt (fX0_isTree_L6 rt nn6) x1_26 x3_26 s0_26 = some r → ∀ ls : Array Slot, lv_has ls 4 [(0, .ref (xa 0)), (1, .int x1_26), (3, .int x3_26)] → gR p l e rmX0_isTree s m [.ref (xa 0)] below meth c (vp_Si (fun x => x = r ∧ zb x)) 26 ls [.int s0_26] := by
          intro x1_26 x3_26 s0_26 hf ls hl
          unfold fX0_isTree_B26 at hf
          refine lv_iconst (v := 1) hx hb dX0_isTree_26 (by decide) ?_
          refine lv_goto (tgt := 31) hx hb dX0_isTree_27 (by decide) ?_
          exact hB31 x1_26 x3_26 (1 : Int32) s0_26 hf ls (lv_sub hl [0, 1, 2] rfl)
        refine lv_if_eq (tgt := 26) hx hb dX0_isTree_19 (by decide) (fun c4 => ?_) (fun c4 => ?_)
        · have hf := oi_t c4 hf
          exact hB26 x1_6 x3_6 x2_6 hf ls (lv_sub hl [0, 1, 3] rfl)
        · have hf := oi_f c4 hf
          refine lv_iload_n hx hb dX0_isTree_22 rfl (lv_at hl 1 rfl) ?_
          refine lv_if_le (tgt := 30) hx hb dX0_isTree_23 (by decide) (fun c9 => ?_) (fun c9 => ?_)
          · have hf := oi_t c9 hf
            refine lv_iconst (v := 0) hx hb dX0_isTree_30 (by decide) ?_
            exact hB31 x1_6 x3_6 (0 : Int32) x2_6 hf ls (lv_sub hl [0, 1, 3] rfl)
          · have hf := oi_f c9 hf
            exact hB26 x1_6 x3_6 x2_6 hf ls (lv_sub hl [0, 1, 3] rfl)
  exact hL6 FU (0 : Int32) (1 : Int32) (0 : Int32) hf ls (lv_sub hl [3, 2, 1, 0] rfl)

abbrev rmX0_isBit_s0x : Room := { frames := 8, cells := 3, slots := 222, locals := 10248 }
theorem hdX0_isBit_s0x : yX0_isBit.cls ≠ "java/lang/invoke/MethodHandle" ∧ yX0_isBit.cls ≠ "java/lang/invoke/VarHandle" ∧ (parseMethodDescriptor yX0_isBit.desc).map (fun d => d.parameters.length) = some 3 := by decide +kernel
set_option maxHeartbeats 4000000 in
theorem mX0_isBit_s0x (l : Launch) (hst : l.stackTraces = false) (D : va_G) (k : Nat → ClassId) (xa : Nat → Nat) (ra : Nat → Nat → Nat) (sa : Nat → Nat) (j : Nat) (hj : j < 4) (xi : Nat → Int32) (p2 : Int32) (p3 : Int32) (sz : Nat) (E : Nat) (hf : fX0_isBit_s0x j p2 p3 = some E) : vx_Met l yX0_isBit (ws_ yX0_isBit cX0_isBit 8 (some .boolean)) rmX0_isBit_s0x (wxP D k [oX xa ra xi, (xa 3, .inl (k 6, 4, .inr (.inr (.inr (.inr (fun i => some (sa i))))))), (sa j, .inr (2, [.null]))] sz [.ref (xa 0), .int (nI j), .int p2, .int p3]) (va_Qi (fun (_ : Int32) (_ : Unit) => False) (fun _ _ => True) (va_A [oX xa ra xi, (xa 3, .inl (k 6, 4, .inr (.inr (.inr (.inr (fun i => some (sa i))))))), (sa j, .inr (2, [.null]))] sz)) (xcE D (exN E) [oX xa ra xi, (xa 3, .inl (k 6, 4, .inr (.inr (.inr (.inr (fun i => some (sa i))))))), (sa j, .inr (2, [.null]))] (va_A [oX xa ra xi, (xa 3, .inl (k 6, 4, .inr (.inr (.inr (.inr (fun i => some (sa i))))))), (sa j, .inr (2, [.null]))] sz)) 3 222 (va_A [oX xa ra xi, (xa 3, .inl (k 6, 4, .inr (.inr (.inr (.inr (fun i => some (sa i))))))), (sa j, .inr (2, [.null]))] sz) := by
  refine wx_startX (Qc := fun A => (va_Qi (fun (_ : Int32) (_ : Unit) => False) (fun _ _ => True) A)) (XC := fun A => xcE D (exN E) [oX xa ra xi, (xa 3, .inl (k 6, 4, .inr (.inr (.inr (.inr (fun i => some (sa i))))))), (sa j, .inr (2, [.null]))] A) (by decide +kernel) (Nat.le_of_ble_eq_true rfl) ?_
  intro p e s m below meth c ls A hA hx hb hr hlk hml hown hts hP hK hD hZ hex hl
  have hl : lv_has ls 8 [(0, .ref (xa 0)), (1, .int (nI j)), (2, .int p2), (3, .int p3)] := hl
  have hown : s.vm.findClass RX0 = some m.cls := hown
  have hS : va_S A s.heap s.heap [] := va_S.rf
  suffices hw : ∀ (H : Heap) (locs : List Loc), va_P D vwCl [oX xa ra xi, (xa 3, .inl (k 6, 4, .inr (.inr (.inr (.inr (fun i => some (sa i))))))), (sa j, .inr (2, [.null]))] H → va_S A s.heap H locs → gX p l e rmX0_isBit_s0x s m [.ref (xa 0), .int (nI j), .int p2, .int p3] below meth c (va_Qi (fun (_ : Int32) (_ : Unit) => False) (fun _ _ => True) A) (xcE D (exN E) [oX xa ra xi, (xa 3, .inl (k 6, 4, .inr (.inr (.inr (.inr (fun i => some (sa i))))))), (sa j, .inr (2, [.null]))] A) A 3 222 H locs 0 ls [] from hw s.heap [] hP hS
  clear hP hS
  intro H locs hP hS
  unfold fX0_isBit_s0x at hf
  refine lv_aload_n hx hb dX0_isBit_0 rfl (lv_at hl 0 rfl) ?_
  refine va_get (D := D) (cl := vwCl) (ci := 0) (v := .ref (xa 3)) (C := RX0) (T := TX0) (N := 15) hx hb hts in_X0 hown hK.1 hP 0 rfl rfl 12 (by decide) (hts _ q203) (fun _ h9 => h9) rfl dX0_isBit_1 ?_
  refine lv_iload_n hx hb dX0_isBit_4 rfl (lv_at hl 1 rfl) ?_
  refine x_aald hx hb hK hP 1 6 (j := j) (n := 4) rfl hj (by decide) rfl rfl rfl dX0_isBit_5 ?_
  refine va_getN (D := D) (cl := vwCl) (ci := 2) (v := .null) (C := RX2) (T := TX2) (N := 1) hx hb hts in_X2 hown hK.1 hP 2 rfl rfl 0 (by decide) (hK.nw 8 rfl) (fun _ h9 => h9) rfl dX0_isBit_6 ?_
  refine lv_astoreN (lv' := [(4, .null), (0, .ref (xa 0)), (1, .int (nI j)), (2, .int p2), (3, .int p3)]) hx hb dX0_isBit_9 hl (by decide) rfl (fun ls hl => ?_)
  refine lv_iload_n hx hb dX0_isBit_11 rfl (lv_at hl 4 rfl) ?_
  refine lv_iload_n hx hb dX0_isBit_12 rfl (lv_at hl 3 rfl) ?_
  obtain ⟨v1, ev1, hf⟩ := ob hf
  refine rd_callS (As := [.int p2]) (rest := [.int p3]) ⟨hx, hb, hml, hown, hts⟩ (mX0_bitsOf l D k   p2 _ ev1) (va_cwS 1 hts (lw_S q899 q900 q90 q901) rfl rfl rfl hdX0_bitsOf ⟨Nat.le_of_ble_eq_true rfl, Nat.le_of_ble_eq_true rfl⟩) hK rfl hl.1 rfl (Nat.le_of_ble_eq_true rfl) dX0_isBit_13 ⟨Nat.le_of_ble_eq_true rfl, Nat.le_of_ble_eq_true rfl⟩ ?_
  have c3 := on_z hf
  have hf := oi_f c3 hf
  refine lv_idiv hx hb dX0_isBit_16 c3 ?_
  obtain ⟨y4, ey4, hf⟩ := ob hf
  refine x_asI ey4 ?_
  refine lv_istore (lv' := [(5, .int y4), (4, .null), (0, .ref (xa 0)), (1, .int (nI j)), (2, .int p2), (3, .int p3)]) hx hb dX0_isBit_17 hl (by decide) rfl (fun ls hl => ?_)
  refine lv_iload_n hx hb dX0_isBit_19 rfl (lv_at hl 4 rfl) ?_
  have hB60 : ∀ (s0_60 : Int64), ∀ (H : Heap) (locs : List Loc), va_P D vwCl [oX xa ra xi, (xa 3, .inl (k 6, 4, .inr (.inr (.inr (.inr (fun i => some (sa i))))))), (sa j, .inr (2, [.null]))] H → va_D A [oX xa ra xi, (xa 3, .inl (k 6, 4, .inr (.inr (.inr (.inr (fun i => some (sa i))))))), (sa j, .inr (2, [.null]))] → va_S A s.heap H locs → fX0_isBit_s0x_B60 j p2 p3 s0_60 = some E → ∀ ls : Array Slot, lv_has ls 8 [(2, .int p2), (3, .int p3)] → gX p l e rmX0_isBit_s0x s m [.ref (xa 0), .int (nI j), .int p2, .int p3] below meth c (va_Qi (fun (_ : Int32) (_ : Unit) => False) (fun _ _ => True) A) (xcE D (exN E) [oX xa ra xi, (xa 3, .inl (k 6, 4, .inr (.inr (.inr (.inr (fun i => some (sa i))))))), (sa j, .inr (2, [.null]))] A) A 3 222 H locs 60 ls [.long s0_60] := by
    intro s0_60 H locs hP hD hS hf ls hl
    unfold fX0_isBit_s0x_B60 at hf
    refine lv_lstore (lv' := [(6, .long s0_60), (2, .int p2), (3, .int p3)]) hx hb dX0_isBit_60 hl (by decide) rfl (fun ls hl => ?_)
    refine lv_lload hx hb dX0_isBit_62 (lv_at hl 0 rfl) ?_
    refine lv_iload_n hx hb dX0_isBit_64 rfl (lv_at hl 2 rfl) ?_
    refine lv_iload_n hx hb dX0_isBit_65 rfl (lv_at hl 1 rfl) ?_
    obtain ⟨v6, ev6, hf⟩ := ob hf
    refine rd_callS (As := [.int p2]) (rest := [.int p3, .long s0_60]) ⟨hx, hb, hml, hown, hts⟩ (mX0_bitsOf l D k   p2 _ ev6) (va_cwS 1 hts (lw_S q899 q900 q90 q901) rfl rfl rfl hdX0_bitsOf ⟨Nat.le_of_ble_eq_true rfl, Nat.le_of_ble_eq_true rfl⟩) hK rfl hl.1 rfl (Nat.le_of_ble_eq_true rfl) dX0_isBit_66 ⟨Nat.le_of_ble_eq_true rfl, Nat.le_of_ble_eq_true rfl⟩ ?_
    have c8 := on_z hf
    have hf := oi_f c8 hf
    refine lv_irem hx hb dX0_isBit_69 c8 ?_
    refine lv_lshr hx hb dX0_isBit_70 rfl ?_
    refine lv_lconst (v := 1) hx hb dX0_isBit_71 (by decide) ?_
    refine lv_land hx hb dX0_isBit_72 ?_
    refine lv_lconst (v := 1) hx hb dX0_isBit_73 (by decide) ?_
    refine W.lcmp hx hb dX0_isBit_74 ?_
    refine lv_if_ne (tgt := 82) hx hb dX0_isBit_75 (by decide) (fun c9 => ?_) (fun c9 => ?_)
    · have hf := oi_f c9 hf
      refine lv_iconst (v := 0) hx hb dX0_isBit_82 (by decide) ?_
      cases hf
    · have hf := oi_t c9 hf
      refine lv_iconst (v := 1) hx hb dX0_isBit_78 (by decide) ?_
      refine lv_goto (tgt := 83) hx hb dX0_isBit_79 (by decide) ?_
      cases hf
  refine lv_if_ne (tgt := 35) hx hb dX0_isBit_20 (by decide) (fun c5 => ?_) (fun c5 => ?_)
  · have hf := oi_f c5 hf
    refine lv_iload_n hx hb dX0_isBit_35 rfl (lv_at hl 4 rfl) ?_
    refine lv_iconst (v := 1) hx hb dX0_isBit_36 (by decide) ?_
    refine lv_icmp_ne (tgt := 52) hx hb dX0_isBit_37 (by decide) (fun c10 => ?_) (fun c10 => ?_)
    · have hf := oi_f c10 hf
      refine lv_aloadN hx hb dX0_isBit_52 (lv_at hl 1 rfl) ?_
      refine lv_castN hx hb dX0_isBit_54 ?_
      refine lv_iload hx hb dX0_isBit_57 (lv_at hl 0 rfl) ?_
      refine vx_laloadN hx hb dX0_isBit_59 ?_
      refine x_noteN hx hst hts hK hP hZ hS (hl.1.trans hml.symm) (Nat.le_of_ble_eq_true rfl) (Nat.le_of_ble_eq_true rfl) (Nat.le_of_ble_eq_true rfl) (Nat.le_of_ble_eq_true rfl) hlk (fun H q9 ce hP hS hc9 hv9 hcl9 => ?_)
      cases hf
      exact wx_out hex hlk hc9 hv9 hcl9 hP hS (Nat.le_of_ble_eq_true rfl) (Nat.le_of_ble_eq_true rfl)
    · have hf := oi_t c10 hf
      refine lv_aloadN hx hb dX0_isBit_40 (lv_at hl 1 rfl) ?_
      refine lv_castN hx hb dX0_isBit_42 ?_
      refine lv_iload hx hb dX0_isBit_45 (lv_at hl 0 rfl) ?_
      refine vx_ialoadN hx hb dX0_isBit_47 ?_
      refine x_noteN hx hst hts hK hP hZ hS (hl.1.trans hml.symm) (Nat.le_of_ble_eq_true rfl) (Nat.le_of_ble_eq_true rfl) (Nat.le_of_ble_eq_true rfl) (Nat.le_of_ble_eq_true rfl) hlk (fun H q9 ce hP hS hc9 hv9 hcl9 => ?_)
      cases hf
      exact wx_out hex hlk hc9 hv9 hcl9 hP hS (Nat.le_of_ble_eq_true rfl) (Nat.le_of_ble_eq_true rfl)
  · have hf := oi_t c5 hf
    refine lv_aloadN hx hb dX0_isBit_23 (lv_at hl 1 rfl) ?_
    refine lv_castN hx hb dX0_isBit_25 ?_
    refine lv_iload hx hb dX0_isBit_28 (lv_at hl 0 rfl) ?_
    refine vx_baloadN hx hb dX0_isBit_30 ?_
    refine x_noteN hx hst hts hK hP hZ hS (hl.1.trans hml.symm) (Nat.le_of_ble_eq_true rfl) (Nat.le_of_ble_eq_true rfl) (Nat.le_of_ble_eq_true rfl) (Nat.le_of_ble_eq_true rfl) hlk (fun H q9 ce hP hS hc9 hv9 hcl9 => ?_)
    cases hf
    exact wx_out hex hlk hc9 hv9 hcl9 hP hS (Nat.le_of_ble_eq_true rfl) (Nat.le_of_ble_eq_true rfl)

abbrev rmX0_bitBecomes_s0x : Room := { frames := 8, cells := 3, slots := 222, locals := 10248 }
theorem hdX0_bitBecomes_s0x : yX0_bitBecomes.cls ≠ "java/lang/invoke/MethodHandle" ∧ yX0_bitBecomes.cls ≠ "java/lang/invoke/VarHandle" ∧ (parseMethodDescriptor yX0_bitBecomes.desc).map (fun d => d.parameters.length) = some 4 := by decide +kernel
set_option maxHeartbeats 4000000 in
theorem mX0_bitBecomes_s0x (l : Launch) (hst : l.stackTraces = false) (D : va_G) (k : Nat → ClassId) (xa : Nat → Nat) (ra : Nat → Nat → Nat) (sa : Nat → Nat) (j : Nat) (hj : j < 4) (xi : Nat → Int32) (p2 : Int32) (p3 : Int32) (p4 : Int32) (sz : Nat) (E : Nat) (hf : fX0_bitBecomes_s0x j p2 p3 p4 = some E) : vx_Met l yX0_bitBecomes (ws_ yX0_bitBecomes cX0_bitBecomes 11 none) rmX0_bitBecomes_s0x (wxP D k [oX xa ra xi, (xa 3, .inl (k 6, 4, .inr (.inr (.inr (.inr (fun i => some (sa i))))))), (sa j, .inr (2, [.null]))] sz [.ref (xa 0), .int (nI j), .int p2, .int p3, .int p4]) (va_Qv (fun (_ : Unit) => False) (fun _ _ => True) (va_A [oX xa ra xi, (xa 3, .inl (k 6, 4, .inr (.inr (.inr (.inr (fun i => some (sa i))))))), (sa j, .inr (2, [.null]))] sz)) (xcE D (exN E) [oX xa ra xi, (xa 3, .inl (k 6, 4, .inr (.inr (.inr (.inr (fun i => some (sa i))))))), (sa j, .inr (2, [.null]))] (va_A [oX xa ra xi, (xa 3, .inl (k 6, 4, .inr (.inr (.inr (.inr (fun i => some (sa i))))))), (sa j, .inr (2, [.null]))] sz)) 3 222 (va_A [oX xa ra xi, (xa 3, .inl (k 6, 4, .inr (.inr (.inr (.inr (fun i => some (sa i))))))), (sa j, .inr (2, [.null]))] sz) := by
  refine wx_startX (Qc := fun A => (va_Qv (fun (_ : Unit) => False) (fun _ _ => True) A)) (XC := fun A => xcE D (exN E) [oX xa ra xi, (xa 3, .inl (k 6, 4, .inr (.inr (.inr (.inr (fun i => some (sa i))))))), (sa j, .inr (2, [.null]))] A) (by decide +kernel) (Nat.le_of_ble_eq_true rfl) ?_
  intro p e s m below meth c ls A hA hx hb hr hlk hml hown hts hP hK hD hZ hex hl
  have hl : lv_has ls 11 [(0, .ref (xa 0)), (1, .int (nI j)), (2, .int p2), (3, .int p3), (4, .int p4)] := hl
  have hown : s.vm.findClass RX0 = some m.cls := hown
  have hS : va_S A s.heap s.heap [] := va_S.rf
  suffices hw : ∀ (H : Heap) (locs : List Loc), va_P D vwCl [oX xa ra xi, (xa 3, .inl (k 6, 4, .inr (.inr (.inr (.inr (fun i => some (sa i))))))), (sa j, .inr (2, [.null]))] H → va_S A s.heap H locs → gX p l e rmX0_bitBecomes_s0x s m [.ref (xa 0), .int (nI j), .int p2, .int p3, .int p4] below meth c (va_Qv (fun (_ : Unit) => False) (fun _ _ => True) A) (xcE D (exN E) [oX xa ra xi, (xa 3, .inl (k 6, 4, .inr (.inr (.inr (.inr (fun i => some (sa i))))))), (sa j, .inr (2, [.null]))] A) A 3 222 H locs 0 ls [] from hw s.heap [] hP hS
  clear hP hS
  intro H locs hP hS
  unfold fX0_bitBecomes_s0x at hf
  refine lv_aload_n hx hb dX0_bitBecomes_0 rfl (lv_at hl 0 rfl) ?_
  refine va_get (D := D) (cl := vwCl) (ci := 0) (v := .ref (xa 3)) (C := RX0) (T := TX0) (N := 15) hx hb hts in_X0 hown hK.1 hP 0 rfl rfl 12 (by decide) (hts _ q203) (fun _ h9 => h9) rfl dX0_bitBecomes_1 ?_
  refine lv_iload_n hx hb dX0_bitBecomes_4 rfl (lv_at hl 1 rfl) ?_
  refine x_aald hx hb hK hP 1 6 (j := j) (n := 4) rfl hj (by decide) rfl rfl rfl dX0_bitBecomes_5 ?_
  refine va_getN (D := D) (cl := vwCl) (ci := 2) (v := .null) (C := RX2) (T := TX2) (N := 1) hx hb hts in_X2 hown hK.1 hP 2 rfl rfl 0 (by decide) (hK.nw 8 rfl) (fun _ h9 => h9) rfl dX0_bitBecomes_6 ?_
  refine lv_astoreN (lv' := [(5, .null), (0, .ref (xa 0)), (1, .int (nI j)), (2, .int p2), (3, .int p3), (4, .int p4)]) hx hb dX0_bitBecomes_9 hl (by decide) rfl (fun ls hl => ?_)
  refine lv_iload_n hx hb dX0_bitBecomes_11 rfl (lv_at hl 4 rfl) ?_
  refine lv_iload_n hx hb dX0_bitBecomes_12 rfl (lv_at hl 3 rfl) ?_
  obtain ⟨v1, ev1, hf⟩ := ob hf
  refine rd_callS (As := [.int p2]) (rest := [.int p3]) ⟨hx, hb, hml, hown, hts⟩ (mX0_bitsOf l D k   p2 _ ev1) (va_cwS 1 hts (lw_S q899 q900 q90 q901) rfl rfl rfl hdX0_bitsOf ⟨Nat.le_of_ble_eq_true rfl, Nat.le_of_ble_eq_true rfl⟩) hK rfl hl.1 rfl (Nat.le_of_ble_eq_true rfl) dX0_bitBecomes_13 ⟨Nat.le_of_ble_eq_true rfl, Nat.le_of_ble_eq_true rfl⟩ ?_
  have c3 := on_z hf
  have hf := oi_f c3 hf
  refine lv_idiv hx hb dX0_bitBecomes_16 c3 ?_
  obtain ⟨y4, ey4, hf⟩ := ob hf
  refine x_asI ey4 ?_
  refine lv_istore (lv' := [(6, .int y4), (5, .null), (0, .ref (xa 0)), (1, .int (nI j)), (2, .int p2), (3, .int p3), (4, .int p4)]) hx hb dX0_bitBecomes_17 hl (by decide) rfl (fun ls hl => ?_)
  refine lv_iload_n hx hb dX0_bitBecomes_19 rfl (lv_at hl 4 rfl) ?_
  have hB60 : ∀ (x6_60 : Int32) (s0_60 : Int64), ∀ (H : Heap) (locs : List Loc), va_P D vwCl [oX xa ra xi, (xa 3, .inl (k 6, 4, .inr (.inr (.inr (.inr (fun i => some (sa i))))))), (sa j, .inr (2, [.null]))] H → va_D A [oX xa ra xi, (xa 3, .inl (k 6, 4, .inr (.inr (.inr (.inr (fun i => some (sa i))))))), (sa j, .inr (2, [.null]))] → va_S A s.heap H locs → fX0_bitBecomes_s0x_B60 j p2 p3 p4 x6_60 s0_60 = some E → ∀ ls : Array Slot, lv_has ls 11 [(0, .ref (xa 0)), (1, .int (nI j)), (2, .int p2), (3, .int p3), (4, .int p4), (6, .int x6_60)] → gX p l e rmX0_bitBecomes_s0x s m [.ref (xa 0), .int (nI j), .int p2, .int p3, .int p4] below meth c (va_Qv (fun (_ : Unit) => False) (fun _ _ => True) A) (xcE D (exN E) [oX xa ra xi, (xa 3, .inl (k 6, 4, .inr (.inr (.inr (.inr (fun i => some (sa i))))))), (sa j, .inr (2, [.null]))] A) A 3 222 H locs 60 ls [.long s0_60] := by
    intro x6_60 s0_60 H locs hP hD hS hf ls hl
    unfold fX0_bitBecomes_s0x_B60 at hf
    refine lv_lstore (lv' := [(7, .long s0_60), (0, .ref (xa 0)), (1, .int (nI j)), (2, .int p2), (3, .int p3), (4, .int p4), (6, .int x6_60)]) hx hb dX0_bitBecomes_60 hl (by decide) rfl (fun ls hl => ?_)
    refine lv_lconst (v := 1) hx hb dX0_bitBecomes_62 (by decide) ?_
    refine lv_iload_n hx hb dX0_bitBecomes_63 rfl (lv_at hl 4 rfl) ?_
    refine lv_iload_n hx hb dX0_bitBecomes_64 rfl (lv_at hl 3 rfl) ?_
    obtain ⟨v6, ev6, hf⟩ := ob hf
    refine rd_callS (As := [.int p2]) (rest := [.int p3, .long (1 : Int64)]) ⟨hx, hb, hml, hown, hts⟩ (mX0_bitsOf l D k   p2 _ ev6) (va_cwS 1 hts (lw_S q899 q900 q90 q901) rfl rfl rfl hdX0_bitsOf ⟨Nat.le_of_ble_eq_true rfl, Nat.le_of_ble_eq_true rfl⟩) hK rfl hl.1 rfl (Nat.le_of_ble_eq_true rfl) dX0_bitBecomes_65 ⟨Nat.le_of_ble_eq_true rfl, Nat.le_of_ble_eq_true rfl⟩ ?_
    have c8 := on_z hf
    have hf := oi_f c8 hf
    refine lv_irem hx hb dX0_bitBecomes_68 c8 ?_
    refine lv_lshl hx hb dX0_bitBecomes_69 rfl ?_
    obtain ⟨y9, ey9, hf⟩ := ob hf
    refine x_asL ey9 ?_
    refine lv_lstore (lv' := [(9, .long y9), (7, .long s0_60), (0, .ref (xa 0)), (1, .int (nI j)), (2, .int p2), (3, .int p3), (4, .int p4), (6, .int x6_60)]) hx hb dX0_bitBecomes_70 hl (by decide) rfl (fun ls hl => ?_)
    refine lv_aload_n hx hb dX0_bitBecomes_72 rfl (lv_at hl 2 rfl) ?_
    refine lv_iload_n hx hb dX0_bitBecomes_73 rfl (lv_at hl 3 rfl) ?_
    refine lv_iload hx hb dX0_bitBecomes_74 (lv_at hl 7 rfl) ?_
    refine lv_iload hx hb dX0_bitBecomes_76 (lv_at hl 6 rfl) ?_
    have hB98 : ∀ (s0_98 : Int64) (s1_98 : Int32), ∀ (H : Heap) (locs : List Loc), va_P D vwCl [oX xa ra xi, (xa 3, .inl (k 6, 4, .inr (.inr (.inr (.inr (fun i => some (sa i))))))), (sa j, .inr (2, [.null]))] H → va_D A [oX xa ra xi, (xa 3, .inl (k 6, 4, .inr (.inr (.inr (.inr (fun i => some (sa i))))))), (sa j, .inr (2, [.null]))] → va_S A s.heap H locs → fX0_bitBecomes_s0x_B98 j p2 p3 p4 s0_98 s1_98 = some E → ∀ ls : Array Slot, lv_has ls 11 [] → gX p l e rmX0_bitBecomes_s0x s m [.ref (xa 0), .int (nI j), .int p2, .int p3, .int p4] below meth c (va_Qv (fun (_ : Unit) => False) (fun _ _ => True) A) (xcE D (exN E) [oX xa ra xi, (xa 3, .inl (k 6, 4, .inr (.inr (.inr (.inr (fun i => some (sa i))))))), (sa j, .inr (2, [.null]))] A) A 3 222 H locs 98 ls [.long s0_98, .int s1_98, .int (nI j), .ref (xa 0)] := by
      intro s0_98 s1_98 H locs hP hD hS hf ls hl
      unfold fX0_bitBecomes_s0x_B98 at hf
      cases hf
    refine lv_if_eq (tgt := 89) hx hb dX0_bitBecomes_78 (by decide) (fun c10 => ?_) (fun c10 => ?_)
    · have hf := oi_t c10 hf
      refine lv_lload hx hb dX0_bitBecomes_89 (lv_at hl 1 rfl) ?_
      refine lv_lload hx hb dX0_bitBecomes_91 (lv_at hl 0 rfl) ?_
      refine lv_ldc2 hx hb hown (hts _ q914) dX0_bitBecomes_93 ?_
      refine lv_lxor hx hb dX0_bitBecomes_96 ?_
      refine lv_land hx hb dX0_bitBecomes_97 ?_
      exact hB98 (s0_60 &&& (y9 ^^^ (-1 : Int64))) x6_60 H locs hP hD hS hf ls (lv_sub hl [] rfl)
    · have hf := oi_f c10 hf
      refine lv_lload hx hb dX0_bitBecomes_81 (lv_at hl 1 rfl) ?_
      refine lv_lload hx hb dX0_bitBecomes_83 (lv_at hl 0 rfl) ?_
      refine lv_lor hx hb dX0_bitBecomes_85 ?_
      refine lv_goto (tgt := 98) hx hb dX0_bitBecomes_86 (by decide) ?_
      exact hB98 (s0_60 ||| y9) x6_60 H locs hP hD hS hf ls (lv_sub hl [] rfl)
  refine lv_if_ne (tgt := 35) hx hb dX0_bitBecomes_20 (by decide) (fun c5 => ?_) (fun c5 => ?_)
  · have hf := oi_f c5 hf
    refine lv_iload_n hx hb dX0_bitBecomes_35 rfl (lv_at hl 4 rfl) ?_
    refine lv_iconst (v := 1) hx hb dX0_bitBecomes_36 (by decide) ?_
    refine lv_icmp_ne (tgt := 52) hx hb dX0_bitBecomes_37 (by decide) (fun c11 => ?_) (fun c11 => ?_)
    · have hf := oi_f c11 hf
      refine lv_aloadN hx hb dX0_bitBecomes_52 (lv_at hl 1 rfl) ?_
      refine lv_castN hx hb dX0_bitBecomes_54 ?_
      refine lv_iload hx hb dX0_bitBecomes_57 (lv_at hl 0 rfl) ?_
      refine vx_laloadN hx hb dX0_bitBecomes_59 ?_
      refine x_noteN hx hst hts hK hP hZ hS (hl.1.trans hml.symm) (Nat.le_of_ble_eq_true rfl) (Nat.le_of_ble_eq_true rfl) (Nat.le_of_ble_eq_true rfl) (Nat.le_of_ble_eq_true rfl) hlk (fun H q9 ce hP hS hc9 hv9 hcl9 => ?_)
      cases hf
      exact wx_out hex hlk hc9 hv9 hcl9 hP hS (Nat.le_of_ble_eq_true rfl) (Nat.le_of_ble_eq_true rfl)
    · have hf := oi_t c11 hf
      refine lv_aloadN hx hb dX0_bitBecomes_40 (lv_at hl 1 rfl) ?_
      refine lv_castN hx hb dX0_bitBecomes_42 ?_
      refine lv_iload hx hb dX0_bitBecomes_45 (lv_at hl 0 rfl) ?_
      refine vx_ialoadN hx hb dX0_bitBecomes_47 ?_
      refine x_noteN hx hst hts hK hP hZ hS (hl.1.trans hml.symm) (Nat.le_of_ble_eq_true rfl) (Nat.le_of_ble_eq_true rfl) (Nat.le_of_ble_eq_true rfl) (Nat.le_of_ble_eq_true rfl) hlk (fun H q9 ce hP hS hc9 hv9 hcl9 => ?_)
      cases hf
      exact wx_out hex hlk hc9 hv9 hcl9 hP hS (Nat.le_of_ble_eq_true rfl) (Nat.le_of_ble_eq_true rfl)
  · have hf := oi_t c5 hf
    refine lv_aloadN hx hb dX0_bitBecomes_23 (lv_at hl 1 rfl) ?_
    refine lv_castN hx hb dX0_bitBecomes_25 ?_
    refine lv_iload hx hb dX0_bitBecomes_28 (lv_at hl 0 rfl) ?_
    refine vx_baloadN hx hb dX0_bitBecomes_30 ?_
    refine x_noteN hx hst hts hK hP hZ hS (hl.1.trans hml.symm) (Nat.le_of_ble_eq_true rfl) (Nat.le_of_ble_eq_true rfl) (Nat.le_of_ble_eq_true rfl) (Nat.le_of_ble_eq_true rfl) hlk (fun H q9 ce hP hS hc9 hv9 hcl9 => ?_)
    cases hf
    exact wx_out hex hlk hc9 hv9 hcl9 hP hS (Nat.le_of_ble_eq_true rfl) (Nat.le_of_ble_eq_true rfl)

abbrev rmX0_lay_s0 : Room := { frames := 8, cells := 3, slots := 222, locals := 10248 }
theorem hdX0_lay_s0 : yX0_lay.cls ≠ "java/lang/invoke/MethodHandle" ∧ yX0_lay.cls ≠ "java/lang/invoke/VarHandle" ∧ (parseMethodDescriptor yX0_lay.desc).map (fun d => d.parameters.length) = some 3 := by decide +kernel
abbrev qcX0_lay_s0 (D : va_G) (k : Nat → ClassId) (xa : Nat → Nat) (ra : Nat → Nat → Nat) (sa : Nat → Nat) (j : Nat) (xi : Nat → Int32) (r : Int32) (A : Nat → Prop) : Array Value → State → Outcome → State → Prop := va_Qi (fun x (_ : Unit) => x = r) (fun _ t => va_P D vwCl [oX xa ra xi, (xa 3, .inl (k 6, 4, .inr (.inr (.inr (.inr (fun i => some (sa i))))))), (sa j, .inr (2, [.null]))] t.heap) A
set_option maxHeartbeats 4000000 in
theorem mX0_lay_s0 (l : Launch) (hst : l.stackTraces = false) (D : va_G) (k : Nat → ClassId) (xa : Nat → Nat) (ra : Nat → Nat → Nat) (sa : Nat → Nat) (j : Nat) (hj : j < 4) (xi : Nat → Int32) (p2 : Int32) (p3 : Int64) (sz : Nat) (r : Int32) (hf : fX0_lay_s0 j p2 p3 = some r) : Met l yX0_lay (wsW_ yX0_lay cX0_lay 7 (some .int) [(25, 75, 76, 324), (25, 75, 81, 326)]) rmX0_lay_s0 (wxP D k [oX xa ra xi, (xa 3, .inl (k 6, 4, .inr (.inr (.inr (.inr (fun i => some (sa i))))))), (sa j, .inr (2, [.null]))] sz [.ref (xa 0), .int (nI j), .int p2, .long p3]) (qcX0_lay_s0 D k xa ra sa j xi r (va_A [oX xa ra xi, (xa 3, .inl (k 6, 4, .inr (.inr (.inr (.inr (fun i => some (sa i))))))), (sa j, .inr (2, [.null]))] sz)) 3 222 (va_A [oX xa ra xi, (xa 3, .inl (k 6, 4, .inr (.inr (.inr (.inr (fun i => some (sa i))))))), (sa j, .inr (2, [.null]))] sz) := by
  refine wx_startW (Qc := fun A => qcX0_lay_s0 D k xa ra sa j xi r A) (by decide +kernel) (Nat.le_of_ble_eq_true rfl) ?_
  intro p e s m below meth c ls A hA hx hb hr hlk hml hown hts hP hK hD hZ hexc hl
  have hl : lv_has ls 7 [(0, .ref (xa 0)), (1, .int (nI j)), (2, .int p2), (3, .long p3)] := hl
  have hown : s.vm.findClass RX0 = some m.cls := hown
  have hS : va_S A s.heap s.heap [] := va_S.rf
  suffices hw : ∀ (H : Heap) (locs : List Loc), va_P D vwCl [oX xa ra xi, (xa 3, .inl (k 6, 4, .inr (.inr (.inr (.inr (fun i => some (sa i))))))), (sa j, .inr (2, [.null]))] H → va_S A s.heap H locs → gW p l e rmX0_lay_s0 s m [.ref (xa 0), .int (nI j), .int p2, .long p3] below meth c (qcX0_lay_s0 D k xa ra sa j xi r A) A 3 222 H locs 0 ls [] from hw s.heap [] hP hS
  clear hP hS
  intro H locs hP hS
  unfold fX0_lay_s0 at hf
  refine lv_iload_n hx hb dX0_lay_0 rfl (lv_at hl 1 rfl) ?_
  refine lv_i2l hx hb dX0_lay_1 rfl ?_
  refine lv_lconst (v := 0) hx hb dX0_lay_2 (by decide) ?_
  refine lv_ldc2 hx hb hown (hts _ q520) dX0_lay_3 ?_
  obtain ⟨v1, ev1, hf⟩ := ob hf
  refine rd_callSZ (As := [.long (((nI j)).toInt64), .long (0 : Int64), .long (3 : Int64)]) (rest := []) ⟨hx, hb, hml, hown, hts⟩ (mX0_in l D k   (((nI j)).toInt64) (0 : Int64) (3 : Int64) _ ev1) (va_cwS 3 hts (lw_S q242 q243 q90 q244) rfl rfl rfl hdX0_in ⟨Nat.le_of_ble_eq_true rfl, Nat.le_of_ble_eq_true rfl⟩) hK rfl hl.1 rfl (Nat.le_of_ble_eq_true rfl) dX0_lay_6 ⟨Nat.le_of_ble_eq_true rfl, Nat.le_of_ble_eq_true rfl⟩ (fun zv1 => ?_)
  refine lv_if_ne (tgt := 14) hx hb dX0_lay_9 (by decide) (fun c3 => ?_) (fun c3 => ?_)
  · have hf := oi_f c3 hf
    refine lv_aload_n hx hb dX0_lay_14 rfl (lv_at hl 0 rfl) ?_
    refine va_get (D := D) (cl := vwCl) (ci := 0) (v := .ref (xa 3)) (C := RX0) (T := TX0) (N := 15) hx hb hts in_X0 hown hK.1 hP 0 rfl rfl 12 (by decide) (hts _ q203) (fun _ h9 => h9) rfl dX0_lay_15 ?_
    refine lv_iload_n hx hb dX0_lay_18 rfl (lv_at hl 1 rfl) ?_
    refine x_aald hx hb hK hP 1 6 (j := j) (n := 4) rfl hj (by decide) rfl rfl rfl dX0_lay_19 ?_
    refine va_getN (D := D) (cl := vwCl) (ci := 2) (v := .null) (C := RX2) (T := TX2) (N := 1) hx hb hts in_X2 hown hK.1 hP 2 rfl rfl 0 (by decide) (hK.nw 8 rfl) (fun _ h9 => h9) rfl dX0_lay_20 ?_
    refine lv_astoreN (lv' := [(5, .null), (0, .ref (xa 0)), (1, .int (nI j)), (2, .int p2), (3, .long p3)]) hx hb dX0_lay_23 hl (by decide) rfl (fun ls hl => ?_)
    refine lv_aloadN hx hb dX0_lay_25 (lv_at hl 0 rfl) ?_
    refine lv_instN hx hb dX0_lay_27 ?_
    refine lv_if_eq (tgt := 46) hx hb dX0_lay_30 (by decide) (fun _ => ?_) (fun c9 => absurd c9 (by decide))
    refine lv_aloadN hx hb dX0_lay_46 (lv_at hl 0 rfl) ?_
    refine lv_instN hx hb dX0_lay_48 ?_
    refine lv_if_eq (tgt := 66) hx hb dX0_lay_51 (by decide) (fun _ => ?_) (fun c9 => absurd c9 (by decide))
    refine lv_aloadN hx hb dX0_lay_66 (lv_at hl 0 rfl) ?_
    refine lv_castN hx hb dX0_lay_68 ?_
    refine lv_iload_n hx hb dX0_lay_71 rfl (lv_at hl 3 rfl) ?_
    refine lv_lload_n hx hb dX0_lay_72 rfl (lv_at hl 4 rfl) ?_
    refine vx_lastoreN hx hb dX0_lay_73 ?_
    refine x_noteN hx hst hts hK hP hZ hS (hl.1.trans hml.symm) (Nat.le_of_ble_eq_true rfl) (Nat.le_of_ble_eq_true rfl) (Nat.le_of_ble_eq_true rfl) (Nat.le_of_ble_eq_true rfl) hlk (fun H q9 ce hP hS hc9 hv9 hcl9 => ?_)
    refine vx_catch hown [] _ _ (hexc.trans rfl) fm_n rfl (by decide) (hts _ q825) (hK.nw 22 rfl) hc9 hv9 hcl9 ?_
    refine lv_astore (lv' := [(6, .ref q9), (5, .null), (0, .ref (xa 0)), (1, .int (nI j)), (2, .int p2), (3, .long p3)]) hx hb dX0_lay_76 hl (by decide) rfl (fun ls hl => ?_)
    refine lv_bipush (v := (-11)) hx hb dX0_lay_78 (by decide) ?_
    have he1 := Option.some.inj hf
    refine W.widen (k := 3) (n := 222) (Nat.le_of_ble_eq_true rfl) (Nat.le_of_ble_eq_true rfl) ?_
    exact wr_iret hx hb hr hlk he1 hP hS dX0_lay_80
  · have hf := oi_t c3 hf
    refine lv_iconst (v := (-1)) hx hb dX0_lay_12 (by decide) ?_
    have he1 := Option.some.inj hf
    refine W.widen (k := 3) (n := 222) (Nat.le_of_ble_eq_true rfl) (Nat.le_of_ble_eq_true rfl) ?_
    exact wr_iret hx hb hr hlk he1 hP hS dX0_lay_13

abbrev rmX0_look_s0 : Room := { frames := 8, cells := 3, slots := 222, locals := 10248 }
theorem hdX0_look_s0 : yX0_look.cls ≠ "java/lang/invoke/MethodHandle" ∧ yX0_look.cls ≠ "java/lang/invoke/VarHandle" ∧ (parseMethodDescriptor yX0_look.desc).map (fun d => d.parameters.length) = some 2 := by decide +kernel
abbrev qcX0_look_s0 (D : va_G) (k : Nat → ClassId) (xa : Nat → Nat) (ra : Nat → Nat → Nat) (sa : Nat → Nat) (j : Nat) (xi : Nat → Int32) (r : Int64) (A : Nat → Prop) : Array Value → State → Outcome → State → Prop := va_Ql (fun x (_ : Unit) => x = r) (fun _ t => va_P D vwCl [oX xa ra xi, (xa 3, .inl (k 6, 4, .inr (.inr (.inr (.inr (fun i => some (sa i))))))), (sa j, .inr (2, [.null]))] t.heap) A
set_option maxHeartbeats 4000000 in
theorem mX0_look_s0 (l : Launch) (hst : l.stackTraces = false) (D : va_G) (k : Nat → ClassId) (xa : Nat → Nat) (ra : Nat → Nat → Nat) (sa : Nat → Nat) (j : Nat) (hj : j < 4) (xi : Nat → Int32) (p2 : Int32) (sz : Nat) (r : Int64) (hf : fX0_look_s0 j p2 = some r) : Met l yX0_look (wsW_ yX0_look cX0_look 5 (some .long) [(24, 64, 65, 324), (24, 64, 65, 326)]) rmX0_look_s0 (wxP D k [oX xa ra xi, (xa 3, .inl (k 6, 4, .inr (.inr (.inr (.inr (fun i => some (sa i))))))), (sa j, .inr (2, [.null]))] sz [.ref (xa 0), .int (nI j), .int p2]) (qcX0_look_s0 D k xa ra sa j xi r (va_A [oX xa ra xi, (xa 3, .inl (k 6, 4, .inr (.inr (.inr (.inr (fun i => some (sa i))))))), (sa j, .inr (2, [.null]))] sz)) 3 222 (va_A [oX xa ra xi, (xa 3, .inl (k 6, 4, .inr (.inr (.inr (.inr (fun i => some (sa i))))))), (sa j, .inr (2, [.null]))] sz) := by
  refine wx_startW (Qc := fun A => qcX0_look_s0 D k xa ra sa j xi r A) (by decide +kernel) (Nat.le_of_ble_eq_true rfl) ?_
  intro p e s m below meth c ls A hA hx hb hr hlk hml hown hts hP hK hD hZ hexc hl
  have hl : lv_has ls 5 [(0, .ref (xa 0)), (1, .int (nI j)), (2, .int p2)] := hl
  have hown : s.vm.findClass RX0 = some m.cls := hown
  have hS : va_S A s.heap s.heap [] := va_S.rf
  suffices hw : ∀ (H : Heap) (locs : List Loc), va_P D vwCl [oX xa ra xi, (xa 3, .inl (k 6, 4, .inr (.inr (.inr (.inr (fun i => some (sa i))))))), (sa j, .inr (2, [.null]))] H → va_S A s.heap H locs → gW p l e rmX0_look_s0 s m [.ref (xa 0), .int (nI j), .int p2] below meth c (qcX0_look_s0 D k xa ra sa j xi r A) A 3 222 H locs 0 ls [] from hw s.heap [] hP hS
  clear hP hS
  intro H locs hP hS
  unfold fX0_look_s0 at hf
  refine lv_iload_n hx hb dX0_look_0 rfl (lv_at hl 1 rfl) ?_
  refine lv_i2l hx hb dX0_look_1 rfl ?_
  refine lv_lconst (v := 0) hx hb dX0_look_2 (by decide) ?_
  refine lv_ldc2 hx hb hown (hts _ q520) dX0_look_3 ?_
  obtain ⟨v1, ev1, hf⟩ := ob hf
  refine rd_callSZ (As := [.long (((nI j)).toInt64), .long (0 : Int64), .long (3 : Int64)]) (rest := []) ⟨hx, hb, hml, hown, hts⟩ (mX0_in l D k   (((nI j)).toInt64) (0 : Int64) (3 : Int64) _ ev1) (va_cwS 3 hts (lw_S q242 q243 q90 q244) rfl rfl rfl hdX0_in ⟨Nat.le_of_ble_eq_true rfl, Nat.le_of_ble_eq_true rfl⟩) hK rfl hl.1 rfl (Nat.le_of_ble_eq_true rfl) dX0_look_6 ⟨Nat.le_of_ble_eq_true rfl, Nat.le_of_ble_eq_true rfl⟩ (fun zv1 => ?_)
  refine lv_if_ne (tgt := 14) hx hb dX0_look_9 (by decide) (fun c3 => ?_) (fun c3 => ?_)
  · have hf := oi_f c3 hf
    refine lv_aload_n hx hb dX0_look_14 rfl (lv_at hl 0 rfl) ?_
    refine va_get (D := D) (cl := vwCl) (ci := 0) (v := .ref (xa 3)) (C := RX0) (T := TX0) (N := 15) hx hb hts in_X0 hown hK.1 hP 0 rfl rfl 12 (by decide) (hts _ q203) (fun _ h9 => h9) rfl dX0_look_15 ?_
    refine lv_iload_n hx hb dX0_look_18 rfl (lv_at hl 1 rfl) ?_
    refine x_aald hx hb hK hP 1 6 (j := j) (n := 4) rfl hj (by decide) rfl rfl rfl dX0_look_19 ?_
    refine va_getN (D := D) (cl := vwCl) (ci := 2) (v := .null) (C := RX2) (T := TX2) (N := 1) hx hb hts in_X2 hown hK.1 hP 2 rfl rfl 0 (by decide) (hK.nw 8 rfl) (fun _ h9 => h9) rfl dX0_look_20 ?_
    refine lv_astore_nN (lv' := [(3, .null), (0, .ref (xa 0)), (1, .int (nI j)), (2, .int p2)]) hx hb dX0_look_23 rfl hl (by decide) rfl (fun ls hl => ?_)
    refine lv_aload_nN hx hb dX0_look_24 rfl (lv_at hl 0 rfl) ?_
    refine lv_instN hx hb dX0_look_25 ?_
    refine lv_if_eq (tgt := 41) hx hb dX0_look_28 (by decide) (fun _ => ?_) (fun c9 => absurd c9 (by decide))
    refine lv_aload_nN hx hb dX0_look_41 rfl (lv_at hl 0 rfl) ?_
    refine lv_instN hx hb dX0_look_42 ?_
    refine lv_if_eq (tgt := 58) hx hb dX0_look_45 (by decide) (fun _ => ?_) (fun c9 => absurd c9 (by decide))
    refine lv_aload_nN hx hb dX0_look_58 rfl (lv_at hl 0 rfl) ?_
    refine lv_castN hx hb dX0_look_59 ?_
    refine lv_iload_n hx hb dX0_look_62 rfl (lv_at hl 3 rfl) ?_
    refine vx_laloadN hx hb dX0_look_63 ?_
    refine x_noteN hx hst hts hK hP hZ hS (hl.1.trans hml.symm) (Nat.le_of_ble_eq_true rfl) (Nat.le_of_ble_eq_true rfl) (Nat.le_of_ble_eq_true rfl) (Nat.le_of_ble_eq_true rfl) hlk (fun H q9 ce hP hS hc9 hv9 hcl9 => ?_)
    refine vx_catch hown [] _ _ (hexc.trans rfl) fm_n rfl (by decide) (hts _ q825) (hK.nw 22 rfl) hc9 hv9 hcl9 ?_
    refine lv_astore (lv' := [(4, .ref q9), (3, .null), (0, .ref (xa 0)), (1, .int (nI j)), (2, .int p2)]) hx hb dX0_look_65 hl (by decide) rfl (fun ls hl => ?_)
    refine lv_lconst (v := 0) hx hb dX0_look_67 (by decide) ?_
    have he1 := Option.some.inj hf
    refine W.widen (k := 3) (n := 222) (Nat.le_of_ble_eq_true rfl) (Nat.le_of_ble_eq_true rfl) ?_
    exact wr_lret hx hb hr hlk he1 hP hS dX0_look_68
  · have hf := oi_t c3 hf
    refine lv_lconst (v := 0) hx hb dX0_look_12 (by decide) ?_
    have he1 := Option.some.inj hf
    refine W.widen (k := 3) (n := 222) (Nat.le_of_ble_eq_true rfl) (Nat.le_of_ble_eq_true rfl) ?_
    exact wr_lret hx hb hr hlk he1 hP hS dX0_look_13

abbrev rmX0_stow_s0 : Room := { frames := 9, cells := 3, slots := 222, locals := 10278 }
theorem hdX0_stow_s0 : yX0_stow.cls ≠ "java/lang/invoke/MethodHandle" ∧ yX0_stow.cls ≠ "java/lang/invoke/VarHandle" ∧ (parseMethodDescriptor yX0_stow.desc).map (fun d => d.parameters.length) = some 3 := by decide +kernel
abbrev qcX0_stow_s0 (D : va_G) (k : Nat → ClassId) (xa : Nat → Nat) (ra : Nat → Nat → Nat) (sa : Nat → Nat) (j : Nat) (xi : Nat → Int32) (rs : RS) (r : Int32) (A : Nat → Prop) : Array Value → State → Outcome → State → Prop := va_Qi (fun x (_ : Unit) => x = r) (fun _ t => va_P D vwCl (wN k xa ra xi rs ++ [(xa 3, .inl (k 6, 4, .inr (.inr (.inr (.inr (fun i => some (sa i))))))), (sa j, .inr (2, [.null]))]) t.heap) A
set_option maxHeartbeats 4000000 in
theorem mX0_stow_s0 (l : Launch) (hst : l.stackTraces = false) (D : va_G) (k : Nat → ClassId) (xa : Nat → Nat) (ra : Nat → Nat → Nat) (sa : Nat → Nat) (j : Nat) (hj : j < 4) (xi : Nat → Int32) (rs : RS) (p2 : Int32) (p3 : Int32) (sz : Nat) (r : Int32) (xi_o : Nat → Int32) (hf : fX0_stow_s0 j xi rs p2 p3 = some (r, xi_o)) : Met l yX0_stow (wsW_ yX0_stow cX0_stow 8 (some .int) [(20, 57, 66, 324), (20, 57, 80, 342), (20, 57, 94, 326), (20, 57, 108, 0), (66, 71, 108, 0), (80, 85, 108, 0), (94, 99, 108, 0), (108, 110, 108, 0)]) rmX0_stow_s0 (wxP D k (wN k xa ra xi rs ++ [(xa 3, .inl (k 6, 4, .inr (.inr (.inr (.inr (fun i => some (sa i))))))), (sa j, .inr (2, [.null]))]) sz [.ref (xa 0), .int (nI j), .int p2, .int p3]) (qcX0_stow_s0 D k xa ra sa j xi_o rs r (va_A (wN k xa ra xi rs ++ [(xa 3, .inl (k 6, 4, .inr (.inr (.inr (.inr (fun i => some (sa i))))))), (sa j, .inr (2, [.null]))]) sz)) 3 222 (va_A (wN k xa ra xi rs ++ [(xa 3, .inl (k 6, 4, .inr (.inr (.inr (.inr (fun i => some (sa i))))))), (sa j, .inr (2, [.null]))]) sz) := by
  refine wx_startW (Qc := fun A => qcX0_stow_s0 D k xa ra sa j xi_o rs r A) (by decide +kernel) (Nat.le_of_ble_eq_true rfl) ?_
  intro p e s m below meth c ls A hA hx hb hr hlk hml hown hts hP hK hD hZ hexc hl
  have hl : lv_has ls 8 [(0, .ref (xa 0)), (1, .int (nI j)), (2, .int p2), (3, .int p3)] := hl
  have hown : s.vm.findClass RX0 = some m.cls := hown
  have hS : va_S A s.heap s.heap [] := va_S.rf
  suffices hw : ∀ (H : Heap) (locs : List Loc), va_P D vwCl (wN k xa ra xi rs ++ [(xa 3, .inl (k 6, 4, .inr (.inr (.inr (.inr (fun i => some (sa i))))))), (sa j, .inr (2, [.null]))]) H → va_S A s.heap H locs → gW p l e rmX0_stow_s0 s m [.ref (xa 0), .int (nI j), .int p2, .int p3] below meth c (qcX0_stow_s0 D k xa ra sa j xi_o rs r A) A 3 222 H locs 0 ls [] from hw s.heap [] hP hS
  clear hP hS
  intro H locs hP hS
  unfold fX0_stow_s0 at hf
  refine lv_iload_n hx hb dX0_stow_0 rfl (lv_at hl 1 rfl) ?_
  refine lv_iload_n hx hb dX0_stow_1 rfl (lv_at hl 2 rfl) ?_
  obtain ⟨v1, ev1, hf⟩ := ob hf
  refine rd_callSZ (As := [.int (nI j), .int p2]) (rest := []) ⟨hx, hb, hml, hown, hts⟩ (mX0_isSheet l D k   (nI j) p2 _ ev1) (va_cwS 2 hts (lw_S q818 q819 q90 q820) rfl rfl rfl hdX0_isSheet ⟨Nat.le_of_ble_eq_true rfl, Nat.le_of_ble_eq_true rfl⟩) hK rfl hl.1 rfl (Nat.le_of_ble_eq_true rfl) dX0_stow_2 ⟨Nat.le_of_ble_eq_true rfl, Nat.le_of_ble_eq_true rfl⟩ (fun zv1 => ?_)
  refine lv_if_eq (tgt := 12) hx hb dX0_stow_5 (by decide) (fun c3 => ?_) (fun c3 => ?_)
  · have hf := oi_t c3 hf
    refine lv_iconst (v := (-1)) hx hb dX0_stow_12 (by decide) ?_
    obtain ⟨he1, he2⟩ := prod2 hf
    rw [he2] at hP
    refine W.widen (k := 3) (n := 222) (Nat.le_of_ble_eq_true rfl) (Nat.le_of_ble_eq_true rfl) ?_
    exact wr_iret hx hb hr hlk he1 hP hS dX0_stow_13
  · have hf := oi_f c3 hf
    refine lv_iload_n hx hb dX0_stow_8 rfl (lv_at hl 3 rfl) ?_
    refine lv_if_ge (tgt := 14) hx hb dX0_stow_9 (by decide) (fun c4 => ?_) (fun c4 => ?_)
    · have hf := oi_t c4 hf
      refine lv_iconst (v := 0) hx hb dX0_stow_14 (by decide) ?_
      refine lv_istore (lv' := [(4, .int (0 : Int32)), (0, .ref (xa 0)), (1, .int (nI j)), (2, .int p2), (3, .int p3)]) hx hb dX0_stow_15 hl (by decide) rfl (fun ls hl => ?_)
      refine lv_iconst (v := 0) hx hb dX0_stow_17 (by decide) ?_
      refine lv_istore (lv' := [(5, .int (0 : Int32)), (4, .int (0 : Int32)), (0, .ref (xa 0)), (1, .int (nI j)), (2, .int p2), (3, .int p3)]) hx hb dX0_stow_18 hl (by decide) rfl (fun ls hl => ?_)
      have hL20 : ∀ (nn : Nat) (xi_20 : Nat → Int32) (x4_20 : Int32) (x5_20 : Int32), ∀ (H : Heap) (locs : List Loc), va_P D vwCl (wN k xa ra xi_20 rs ++ [(xa 3, .inl (k 6, 4, .inr (.inr (.inr (.inr (fun i => some (sa i))))))), (sa j, .inr (2, [.null]))]) H → va_D A (wN k xa ra xi_20 rs ++ [(xa 3, .inl (k 6, 4, .inr (.inr (.inr (.inr (fun i => some (sa i))))))), (sa j, .inr (2, [.null]))]) → va_S A s.heap H locs → fX0_stow_s0_L20 j rs p2 p3 nn xi_20 x4_20 x5_20 = some (r, xi_o) → ∀ ls : Array Slot, lv_has ls 8 [(0, .ref (xa 0)), (1, .int (nI j)), (2, .int p2), (3, .int p3), (4, .int x4_20), (5, .int x5_20)] → gW p l e rmX0_stow_s0 s m [.ref (xa 0), .int (nI j), .int p2, .int p3] below meth c (qcX0_stow_s0 D k xa ra sa j xi_o rs r A) A 3 222 H locs 20 ls [] := by
        intro nn20
        induction nn20 with
        | zero =>
          intro xi_20 x4_20 x5_20 H locs hP hD hS hf
          rw [fX0_stow_s0_L20] at hf; cases hf
        | succ nn20 ih20 =>
          intro xi_20 x4_20 x5_20 H locs hP hD hS hf ls hl
          rw [fX0_stow_s0_L20] at hf
          refine lv_iload hx hb dX0_stow_20 (lv_at hl 5 rfl) ?_
          refine lv_aload_n hx hb dX0_stow_22 rfl (lv_at hl 0 rfl) ?_
          refine va_get (D := D) (cl := vwCl) (ci := 0) (v := .ref (ra 0 0)) (C := RX0) (T := TX0) (N := 15) hx hb hts in_X0 hown hK.1 hP 0 rfl rfl 0 (by decide) (hts _ q190) (fun _ h9 => h9) rfl dX0_stow_23 ?_
          refine va_getN (D := D) (cl := vwCl) (ci := 1) (v := .int (rP rs)) (C := RX1) (T := TX1) (N := 6) hx hb hts in_X1 hown hK.1 hP 1 rfl rfl 1 (by decide) (hK.nw 2 rfl) (fun _ h9 => h9) rfl dX0_stow_26 ?_
          refine lv_icmp_ge (tgt := 57) hx hb dX0_stow_29 (by decide) (fun c5 => ?_) (fun c5 => ?_)
          · have hf := oi_t c5 hf
            refine lv_aload_n hx hb dX0_stow_57 rfl (lv_at hl 0 rfl) ?_
            refine lv_iload hx hb dX0_stow_58 (lv_at hl 4 rfl) ?_
            refine va_put (D := D) (cl := vwCl) (ci := 0) (v := .int x4_20) (ty := .int) (C := RX0) (T := TX0) (N := 15) hx hb hts in_X0 tyX0 tyX0_ok nmX0 hown hK.1 hP hD hS 0 rfl rfl 14 (by decide) (hts _ q205) (fun _ h9 => h9) rfl (by decide +kernel) rfl rfl (Nat.le_of_ble_eq_true rfl) dX0_stow_60 (fun H locs hP hD hS => ?_)
            have hP : va_P D vwCl (wN k xa ra (upd xi_20 8 x4_20) rs ++ [(xa 3, .inl (k 6, 4, .inr (.inr (.inr (.inr (fun i => some (sa i))))))), (sa j, .inr (2, [.null]))]) H := hP
            have hD : va_D A (wN k xa ra (upd xi_20 8 x4_20) rs ++ [(xa 3, .inl (k 6, 4, .inr (.inr (.inr (.inr (fun i => some (sa i))))))), (sa j, .inr (2, [.null]))]) := hD
            refine lv_goto (tgt := 119) hx hb dX0_stow_63 (by decide) ?_
            refine lv_iload hx hb dX0_stow_119 (lv_at hl 5 rfl) ?_
            obtain ⟨he1, he2⟩ := prod2 hf
            rw [he2] at hP
            refine W.widen (k := 3) (n := 222) (Nat.le_of_ble_eq_true rfl) (Nat.le_of_ble_eq_true rfl) ?_
            exact wr_iret hx hb hr hlk he1 hP hS dX0_stow_121
          · have hf := oi_f c5 hf
            refine lv_aload_n hx hb dX0_stow_32 rfl (lv_at hl 0 rfl) ?_
            refine lv_iload_n hx hb dX0_stow_33 rfl (lv_at hl 1 rfl) ?_
            refine lv_iload_n hx hb dX0_stow_34 rfl (lv_at hl 2 rfl) ?_
            refine lv_iload_n hx hb dX0_stow_35 rfl (lv_at hl 3 rfl) ?_
            refine lv_iload hx hb dX0_stow_36 (lv_at hl 5 rfl) ?_
            refine lv_iadd hx hb dX0_stow_38 ?_
            refine lv_aload_n hx hb dX0_stow_39 rfl (lv_at hl 0 rfl) ?_
            refine va_get (D := D) (cl := vwCl) (ci := 0) (v := .ref (ra 0 0)) (C := RX0) (T := TX0) (N := 15) hx hb hts in_X0 hown hK.1 hP 0 rfl rfl 0 (by decide) (hts _ q190) (fun _ h9 => h9) rfl dX0_stow_40 ?_
            refine lv_iload hx hb dX0_stow_43 (lv_at hl 5 rfl) ?_
            obtain ⟨v6, ev6, hf⟩ := ob hf
            refine rd_callVZ (As := [.int x5_20]) (rest := [.int (p3 + x5_20), .int p2, .int (nI j), .ref (xa 0)]) ⟨hx, hb, hml, hown, hts⟩ (mX1_isOpen l D k (ra 0) rs x5_20 _ ev6) (cwV 1 hts (lw_V q439 q184 q185 q91 q186) rfl rfl rfl ⟨rfl, hdX1_isOpen⟩ ⟨Nat.le_of_ble_eq_true rfl, Nat.le_of_ble_eq_true rfl⟩) hK hP [1, 2, 3, 4, 5, 6] rfl 1 1 rfl rfl rfl hl.1 rfl (Nat.le_of_ble_eq_true rfl) dX0_stow_45 ⟨Nat.le_of_ble_eq_true rfl, Nat.le_of_ble_eq_true rfl⟩ (fun zv6 => ?_)
            by_cases c8 : fX0_bitBecomes_s0x j p2 (p3 + x5_20) v6 = some 1
            · have hf := oi_t c8 hf
              refine wx_excVv (As := [.int (nI j), .int p2, .int (p3 + x5_20), .int v6]) (rest := []) ⟨hx, hb, hml, hown, hts⟩ (mX0_bitBecomes_s0x l hst D k xa ra sa j hj xi_20 p2 (p3 + x5_20) v6 _ 1 c8) (cwV 4 hts (lw_V q910 q912 qs53 q90 q913) rfl rfl rfl ⟨rfl, hdX0_bitBecomes_s0x⟩ ⟨Nat.le_of_ble_eq_true rfl, Nat.le_of_ble_eq_true rfl⟩) hK hZ hP hD hS hA [0, 7, 8] [1, 2, 3, 4, 5, 6] rfl 9 rfl (by decide) (by decide) 0 0 rfl rfl rfl hl.1 rfl (Nat.le_of_ble_eq_true rfl) dX0_stow_48 ⟨Nat.le_of_ble_eq_true rfl, Nat.le_of_ble_eq_true rfl⟩ (fun H locs q9 ce hP hD hS hc9 hv9 hcl9 => ?_)
              refine vx_catch hown [] _ _ (hexc.trans rfl) fm_n rfl (by decide) (hts _ q825) (hK.nw 22 rfl) hc9 hv9 hcl9 ?_
              refine lv_astore (lv' := [(6, .ref q9), (0, .ref (xa 0)), (1, .int (nI j)), (2, .int p2), (3, .int p3), (4, .int x4_20), (5, .int x5_20)]) hx hb dX0_stow_66 hl (by decide) rfl (fun ls hl => ?_)
              refine lv_iconst (v := 1) hx hb dX0_stow_68 (by decide) ?_
              refine lv_istore (lv' := [(4, .int (1 : Int32)), (6, .ref q9), (0, .ref (xa 0)), (1, .int (nI j)), (2, .int p2), (3, .int p3), (5, .int x5_20)]) hx hb dX0_stow_69 hl (by decide) rfl (fun ls hl => ?_)
              refine lv_aload_n hx hb dX0_stow_71 rfl (lv_at hl 2 rfl) ?_
              refine lv_iload hx hb dX0_stow_72 (lv_at hl 0 rfl) ?_
              refine va_put (D := D) (cl := vwCl) (ci := 0) (v := .int (1 : Int32)) (ty := .int) (C := RX0) (T := TX0) (N := 15) hx hb hts in_X0 tyX0 tyX0_ok nmX0 hown hK.1 hP hD hS 0 rfl rfl 14 (by decide) (hts _ q205) (fun _ h9 => h9) rfl (by decide +kernel) rfl rfl (Nat.le_of_ble_eq_true rfl) dX0_stow_74 (fun H locs hP hD hS => ?_)
              have hP : va_P D vwCl (wN k xa ra (upd xi_20 8 (1 : Int32)) rs ++ [(xa 3, .inl (k 6, 4, .inr (.inr (.inr (.inr (fun i => some (sa i))))))), (sa j, .inr (2, [.null]))]) H := hP
              have hD : va_D A (wN k xa ra (upd xi_20 8 (1 : Int32)) rs ++ [(xa 3, .inl (k 6, 4, .inr (.inr (.inr (.inr (fun i => some (sa i))))))), (sa j, .inr (2, [.null]))]) := hD
              refine lv_goto (tgt := 119) hx hb dX0_stow_77 (by decide) ?_
              refine lv_iload hx hb dX0_stow_119 (lv_at hl 6 rfl) ?_
              obtain ⟨he1, he2⟩ := prod2 hf
              rw [he2] at hP
              refine W.widen (k := 3) (n := 222) (Nat.le_of_ble_eq_true rfl) (Nat.le_of_ble_eq_true rfl) ?_
              exact wr_iret hx hb hr hlk he1 hP hS dX0_stow_121
            have hf := oi_f c8 hf
            cases hf
      exact hL20 FU xi (0 : Int32) (0 : Int32) H locs hP hD hS hf ls (lv_sub hl [2, 3, 4, 5, 1, 0] rfl)
    · have hf := oi_f c4 hf
      refine lv_iconst (v := (-1)) hx hb dX0_stow_12 (by decide) ?_
      obtain ⟨he1, he2⟩ := prod2 hf
      rw [he2] at hP
      refine W.widen (k := 3) (n := 222) (Nat.le_of_ble_eq_true rfl) (Nat.le_of_ble_eq_true rfl) ?_
      exact wr_iret hx hb hr hlk he1 hP hS dX0_stow_13

abbrev rmX0_read_s0 : Room := { frames := 9, cells := 3, slots := 222, locals := 10275 }
theorem hdX0_read_s0 : yX0_read.cls ≠ "java/lang/invoke/MethodHandle" ∧ yX0_read.cls ≠ "java/lang/invoke/VarHandle" ∧ (parseMethodDescriptor yX0_read.desc).map (fun d => d.parameters.length) = some 4 := by decide +kernel
abbrev qcX0_read_s0 (D : va_G) (k : Nat → ClassId) (xa : Nat → Nat) (ra : Nat → Nat → Nat) (sa : Nat → Nat) (j : Nat) (xi : Nat → Int32) (rs : RS) (rt : RS) (r : Int32) (A : Nat → Prop) : Array Value → State → Outcome → State → Prop := va_Qi (fun x (_ : Unit) => x = r) (fun _ t => va_P D vwCl (wN k xa ra xi rs ++ (wR k (ra 4) rt ++ [(xa 3, .inl (k 6, 4, .inr (.inr (.inr (.inr (fun i => some (sa i))))))), (sa j, .inr (2, [.null]))])) t.heap) A
set_option maxHeartbeats 4000000 in
theorem mX0_read_s0 (l : Launch) (hst : l.stackTraces = false) (D : va_G) (k : Nat → ClassId) (xa : Nat → Nat) (ra : Nat → Nat → Nat) (sa : Nat → Nat) (j : Nat) (hj : j < 4) (xi : Nat → Int32) (rs : RS) (rt : RS) (p2 : Int32) (p3 : Int32) (p4 : Int32) (sz : Nat) (r : Int32) (rs_o : RS) (rt_o : RS) (hf : fX0_read_s0 j rs rt p2 p3 p4 = some (r, rs_o, rt_o)) : Met l yX0_read (wsW_ yX0_read cX0_read 6 (some .int) [(47, 82, 85, 324), (47, 82, 90, 342), (47, 82, 95, 326)]) rmX0_read_s0 (wxP D k (wN k xa ra xi rs ++ (wR k (ra 4) rt ++ [(xa 3, .inl (k 6, 4, .inr (.inr (.inr (.inr (fun i => some (sa i))))))), (sa j, .inr (2, [.null]))])) sz [.ref (xa 0), .int (nI j), .int p2, .int p3, .int p4]) (qcX0_read_s0 D k xa ra sa j xi rs_o rt_o r (va_A (wN k xa ra xi rs ++ (wR k (ra 4) rt ++ [(xa 3, .inl (k 6, 4, .inr (.inr (.inr (.inr (fun i => some (sa i))))))), (sa j, .inr (2, [.null]))])) sz)) 3 222 (va_A (wN k xa ra xi rs ++ (wR k (ra 4) rt ++ [(xa 3, .inl (k 6, 4, .inr (.inr (.inr (.inr (fun i => some (sa i))))))), (sa j, .inr (2, [.null]))])) sz) := by
  refine wx_startW (Qc := fun A => qcX0_read_s0 D k xa ra sa j xi rs_o rt_o r A) (by decide +kernel) (Nat.le_of_ble_eq_true rfl) ?_
  intro p e s m below meth c ls A hA hx hb hr hlk hml hown hts hP hK hD hZ hexc hl
  have hl : lv_has ls 6 [(0, .ref (xa 0)), (1, .int (nI j)), (2, .int p2), (3, .int p3), (4, .int p4)] := hl
  have hown : s.vm.findClass RX0 = some m.cls := hown
  have hS : va_S A s.heap s.heap [] := va_S.rf
  suffices hw : ∀ (H : Heap) (locs : List Loc), va_P D vwCl (wN k xa ra xi rs ++ (wR k (ra 4) rt ++ [(xa 3, .inl (k 6, 4, .inr (.inr (.inr (.inr (fun i => some (sa i))))))), (sa j, .inr (2, [.null]))])) H → va_S A s.heap H locs → gW p l e rmX0_read_s0 s m [.ref (xa 0), .int (nI j), .int p2, .int p3, .int p4] below meth c (qcX0_read_s0 D k xa ra sa j xi rs_o rt_o r A) A 3 222 H locs 0 ls [] from hw s.heap [] hP hS
  clear hP hS
  intro H locs hP hS
  unfold fX0_read_s0 at hf
  refine lv_iload_n hx hb dX0_read_0 rfl (lv_at hl 1 rfl) ?_
  refine lv_iload_n hx hb dX0_read_1 rfl (lv_at hl 2 rfl) ?_
  obtain ⟨v1, ev1, hf⟩ := ob hf
  refine rd_callSZ (As := [.int (nI j), .int p2]) (rest := []) ⟨hx, hb, hml, hown, hts⟩ (mX0_isSheet l D k   (nI j) p2 _ ev1) (va_cwS 2 hts (lw_S q818 q819 q90 q820) rfl rfl rfl hdX0_isSheet ⟨Nat.le_of_ble_eq_true rfl, Nat.le_of_ble_eq_true rfl⟩) hK rfl hl.1 rfl (Nat.le_of_ble_eq_true rfl) dX0_read_2 ⟨Nat.le_of_ble_eq_true rfl, Nat.le_of_ble_eq_true rfl⟩ (fun zv1 => ?_)
  refine lv_if_eq (tgt := 25) hx hb dX0_read_5 (by decide) (fun c3 => ?_) (fun c3 => ?_)
  · have hf := oi_t c3 hf
    refine lv_iconst (v := (-1)) hx hb dX0_read_25 (by decide) ?_
    obtain ⟨he1, he2, he3⟩ := prod3 hf
    rw [he2] at hP
    rw [he3] at hP
    refine W.widen (k := 3) (n := 222) (Nat.le_of_ble_eq_true rfl) (Nat.le_of_ble_eq_true rfl) ?_
    exact wr_iret hx hb hr hlk he1 hP hS dX0_read_26
  · have hf := oi_f c3 hf
    refine lv_iload hx hb dX0_read_8 (lv_at hl 4 rfl) ?_
    refine lv_i2l hx hb dX0_read_10 rfl ?_
    refine lv_lconst (v := 0) hx hb dX0_read_11 (by decide) ?_
    refine lv_ldc2 hx hb hown (hts _ q894) dX0_read_12 ?_
    obtain ⟨v4, ev4, hf⟩ := ob hf
    refine rd_callSZ (As := [.long ((p4).toInt64), .long (0 : Int64), .long (128 : Int64)]) (rest := []) ⟨hx, hb, hml, hown, hts⟩ (mX0_in l D k   ((p4).toInt64) (0 : Int64) (128 : Int64) _ ev4) (va_cwS 3 hts (lw_S q242 q243 q90 q244) rfl rfl rfl hdX0_in ⟨Nat.le_of_ble_eq_true rfl, Nat.le_of_ble_eq_true rfl⟩) hK rfl hl.1 rfl (Nat.le_of_ble_eq_true rfl) dX0_read_15 ⟨Nat.le_of_ble_eq_true rfl, Nat.le_of_ble_eq_true rfl⟩ (fun zv4 => ?_)
    refine lv_if_eq (tgt := 25) hx hb dX0_read_18 (by decide) (fun c6 => ?_) (fun c6 => ?_)
    · have hf := oi_t c6 hf
      refine lv_iconst (v := (-1)) hx hb dX0_read_25 (by decide) ?_
      obtain ⟨he1, he2, he3⟩ := prod3 hf
      rw [he2] at hP
      rw [he3] at hP
      refine W.widen (k := 3) (n := 222) (Nat.le_of_ble_eq_true rfl) (Nat.le_of_ble_eq_true rfl) ?_
      exact wr_iret hx hb hr hlk he1 hP hS dX0_read_26
    · have hf := oi_f c6 hf
      refine lv_iload_n hx hb dX0_read_21 rfl (lv_at hl 3 rfl) ?_
      refine lv_if_ge (tgt := 27) hx hb dX0_read_22 (by decide) (fun c7 => ?_) (fun c7 => ?_)
      · have hf := oi_t c7 hf
        refine lv_aload_n hx hb dX0_read_27 rfl (lv_at hl 0 rfl) ?_
        refine va_get (D := D) (cl := vwCl) (ci := 0) (v := .ref (ra 4 0)) (C := RX0) (T := TX0) (N := 15) hx hb hts in_X0 hown hK.1 hP 0 rfl rfl 13 (by decide) (hts _ q204) (fun _ h9 => h9) rfl dX0_read_28 ?_
        refine va_getN (D := D) (cl := vwCl) (ci := 1) (v := .ref (ra 4 1)) (C := RX1) (T := TX1) (N := 6) hx hb hts in_X1 hown hK.1 hP 7 rfl rfl 0 (by decide) (hK.nw 1 rfl) (fun _ h9 => h9) rfl dX0_read_31 ?_
        refine lv_lconst (v := 0) hx hb dX0_read_34 (by decide) ?_
        obtain ⟨g8, et9, hf⟩ := ob hf
        refine wr_callSv (As := [.ref (ra 4 1), .long (0 : Int64)]) (rest := []) ⟨hx, hb, hml, hown, hts⟩ (mJ7_fill l D k (ra 4 1) (rW rt) (0 : Int64) _ _ et9) (va_cwS 2 hts (lw_S q784 q785 q104 q786) rfl rfl rfl hdJ7_fill ⟨Nat.le_of_ble_eq_true rfl, Nat.le_of_ble_eq_true rfl⟩) hK hP hD hS hA [8] [0, 1, 2, 3, 4, 5, 6, 7, 9, 10, 11, 12, 13, 14] (wN k xa ra xi rs ++ (wR k (ra 4) (rsW rt g8) ++ [(xa 3, .inl (k 6, 4, .inr (.inr (.inr (.inr (fun i => some (sa i))))))), (sa j, .inr (2, [.null]))])) rfl rfl (fm_c (fm_e _ rfl rfl) (fm_c (fm_e _ rfl rfl) (fm_c (fm_e _ rfl rfl) (fm_c (fm_e _ rfl rfl) (fm_c (fm_e _ rfl rfl) (fm_c (fm_e _ rfl rfl) (fm_c (fm_e _ rfl rfl) (fm_c (fm_e _ rfl rfl) (fm_c (fm_e _ rfl rfl) (fm_c (fm_e _ rfl rfl) (fm_c (fm_e _ rfl rfl) (fm_c (fm_e _ rfl rfl) (fm_c (fm_e _ rfl rfl) (fm_c (fm_e _ rfl rfl) fm_n)))))))))))))) 15 rfl (by decide) (by decide) [(xa 0), (ra 0 0), (ra 0 1), (ra 0 2), (ra 0 3), (ra 0 4), (ra 0 5), (ra 4 0), (ra 4 1), (ra 4 2), (ra 4 3), (ra 4 4), (ra 4 5), (xa 3), (sa j)] rfl rfl rfl hl.1 rfl (Nat.le_of_ble_eq_true rfl) dX0_read_35 ⟨Nat.le_of_ble_eq_true rfl, Nat.le_of_ble_eq_true rfl⟩ (fun H locs hP hD hS => ?_)
        refine lv_aload_n hx hb dX0_read_38 rfl (lv_at hl 0 rfl) ?_
        refine va_get (D := D) (cl := vwCl) (ci := 0) (v := .ref (ra 4 0)) (C := RX0) (T := TX0) (N := 15) hx hb hts in_X0 hown hK.1 hP 0 rfl rfl 13 (by decide) (hts _ q204) (fun _ h9 => h9) rfl dX0_read_39 ?_
        refine lv_iload hx hb dX0_read_42 (lv_at hl 4 rfl) ?_
        refine va_putN (D := D) (cl := vwCl) (ci := 1) (v := .int p4) (ty := .int) (C := RX1) (T := TX1) (N := 6) hx hb hts in_X1 tyX1 tyX1_ok nmX1 hown hK.1 hP hD hS 7 rfl rfl 1 (by decide) (hK.nw 2 rfl) (fun _ h9 => h9) rfl (by decide +kernel) rfl rfl (Nat.le_of_ble_eq_true rfl) dX0_read_44 (fun H locs hP hD hS => ?_)
        have hP : va_P D vwCl (wN k xa ra xi rs ++ (wR k (ra 4) (rsP (rsW rt g8) p4) ++ [(xa 3, .inl (k 6, 4, .inr (.inr (.inr (.inr (fun i => some (sa i))))))), (sa j, .inr (2, [.null]))])) H := hP
        have hD : va_D A (wN k xa ra xi rs ++ (wR k (ra 4) (rsP (rsW rt g8) p4) ++ [(xa 3, .inl (k 6, 4, .inr (.inr (.inr (.inr (fun i => some (sa i))))))), (sa j, .inr (2, [.null]))])) := hD
        refine lv_iconst (v := 0) hx hb dX0_read_47 (by decide) ?_
        refine lv_istore (lv' := [(5, .int (0 : Int32)), (0, .ref (xa 0)), (1, .int (nI j)), (2, .int p2), (3, .int p3), (4, .int p4)]) hx hb dX0_read_48 hl (by decide) rfl (fun ls hl => ?_)
        have hL50 : ∀ (nn : Nat) (rs_50 : RS) (rt_50 : RS) (x5_50 : Int32), ∀ (H : Heap) (locs : List Loc), va_P D vwCl (wN k xa ra xi rs_50 ++ (wR k (ra 4) rt_50 ++ [(xa 3, .inl (k 6, 4, .inr (.inr (.inr (.inr (fun i => some (sa i))))))), (sa j, .inr (2, [.null]))])) H → va_D A (wN k xa ra xi rs_50 ++ (wR k (ra 4) rt_50 ++ [(xa 3, .inl (k 6, 4, .inr (.inr (.inr (.inr (fun i => some (sa i))))))), (sa j, .inr (2, [.null]))])) → va_S A s.heap H locs → fX0_read_s0_L50 j p2 p3 p4 nn rs_50 rt_50 x5_50 = some (r, rs_o, rt_o) → ∀ ls : Array Slot, lv_has ls 6 [(0, .ref (xa 0)), (1, .int (nI j)), (2, .int p2), (3, .int p3), (4, .int p4), (5, .int x5_50)] → gW p l e rmX0_read_s0 s m [.ref (xa 0), .int (nI j), .int p2, .int p3, .int p4] below meth c (qcX0_read_s0 D k xa ra sa j xi rs_o rt_o r A) A 3 222 H locs 50 ls [] := by
          intro nn50
          induction nn50 with
          | zero =>
            intro rs_50 rt_50 x5_50 H locs hP hD hS hf
            rw [fX0_read_s0_L50] at hf; cases hf
          | succ nn50 ih50 =>
            intro rs_50 rt_50 x5_50 H locs hP hD hS hf ls hl
            rw [fX0_read_s0_L50] at hf
            refine lv_iload hx hb dX0_read_50 (lv_at hl 5 rfl) ?_
            refine lv_iload hx hb dX0_read_52 (lv_at hl 4 rfl) ?_
            refine lv_icmp_ge (tgt := 82) hx hb dX0_read_54 (by decide) (fun c10 => ?_) (fun c10 => ?_)
            · have hf := oi_t c10 hf
              refine lv_goto (tgt := 100) hx hb dX0_read_82 (by decide) ?_
              refine lv_aload_n hx hb dX0_read_100 rfl (lv_at hl 0 rfl) ?_
              obtain ⟨v11, ev11, hf⟩ := ob hf
              refine rd_callVZ (As := []) (rest := []) ⟨hx, hb, hml, hown, hts⟩ (mX0_isTree l D k xa ra xi rt_50  _ ev11) (cwV 0 hts (lw_V q902 q904 qs52 q90 q905) rfl rfl rfl ⟨rfl, hdX0_isTree⟩ ⟨Nat.le_of_ble_eq_true rfl, Nat.le_of_ble_eq_true rfl⟩) hK hP [0, 7, 8, 9, 10, 11, 12] rfl 0 0 rfl rfl rfl hl.1 rfl (Nat.le_of_ble_eq_true rfl) dX0_read_101 ⟨Nat.le_of_ble_eq_true rfl, Nat.le_of_ble_eq_true rfl⟩ (fun zv11 => ?_)
              refine lv_if_ne (tgt := 110) hx hb dX0_read_104 (by decide) (fun c13 => ?_) (fun c13 => ?_)
              · have hf := oi_f c13 hf
                refine lv_aload_n hx hb dX0_read_110 rfl (lv_at hl 0 rfl) ?_
                refine va_get (D := D) (cl := vwCl) (ci := 0) (v := .ref (ra 4 0)) (C := RX0) (T := TX0) (N := 15) hx hb hts in_X0 hown hK.1 hP 0 rfl rfl 13 (by decide) (hts _ q204) (fun _ h9 => h9) rfl dX0_read_111 ?_
                obtain ⟨g14, et15, hf⟩ := ob hf
                refine wr_callVv (As := []) (rest := []) ⟨hx, hb, hml, hown, hts⟩ (mX1_summariseAll l D k (ra 4) rt_50  _ _ et15) (cwV 0 hts (lw_V q168 q169 q170 q91 q171) rfl rfl rfl ⟨rfl, hdX1_summariseAll⟩ ⟨Nat.le_of_ble_eq_true rfl, Nat.le_of_ble_eq_true rfl⟩) hK hP hD hS hA [7, 8, 9, 10, 11, 12] [0, 1, 2, 3, 4, 5, 6, 13, 14] (wN k xa ra xi rs_50 ++ (wR k (ra 4) g14 ++ [(xa 3, .inl (k 6, 4, .inr (.inr (.inr (.inr (fun i => some (sa i))))))), (sa j, .inr (2, [.null]))])) rfl rfl (fm_c (fm_e _ rfl rfl) (fm_c (fm_e _ rfl rfl) (fm_c (fm_e _ rfl rfl) (fm_c (fm_e _ rfl rfl) (fm_c (fm_e _ rfl rfl) (fm_c (fm_e _ rfl rfl) (fm_c (fm_e _ rfl rfl) (fm_c (fm_e _ rfl rfl) (fm_c (fm_e _ rfl rfl) fm_n))))))))) 15 rfl (by decide) (by decide) [(xa 0), (ra 0 0), (ra 0 1), (ra 0 2), (ra 0 3), (ra 0 4), (ra 0 5), (ra 4 0), (ra 4 1), (ra 4 2), (ra 4 3), (ra 4 4), (ra 4 5), (xa 3), (sa j)] rfl rfl 7 1 rfl rfl rfl hl.1 rfl (Nat.le_of_ble_eq_true rfl) dX0_read_114 ⟨Nat.le_of_ble_eq_true rfl, Nat.le_of_ble_eq_true rfl⟩ (fun H locs hP hD hS => ?_)
                refine lv_aload_n hx hb dX0_read_117 rfl (lv_at hl 0 rfl) ?_
                refine va_get (D := D) (cl := vwCl) (ci := 0) (v := .ref (ra 0 0)) (C := RX0) (T := TX0) (N := 15) hx hb hts in_X0 hown hK.1 hP 0 rfl rfl 0 (by decide) (hts _ q190) (fun _ h9 => h9) rfl dX0_read_118 ?_
                refine lv_aload_n hx hb dX0_read_121 rfl (lv_at hl 0 rfl) ?_
                refine va_get (D := D) (cl := vwCl) (ci := 0) (v := .ref (ra 4 0)) (C := RX0) (T := TX0) (N := 15) hx hb hts in_X0 hown hK.1 hP 0 rfl rfl 13 (by decide) (hts _ q204) (fun _ h9 => h9) rfl dX0_read_122 ?_
                obtain ⟨g16, et17, hf⟩ := ob hf
                refine wr_callVv (As := [.ref (ra 4 0)]) (rest := []) ⟨hx, hb, hml, hown, hts⟩ (mX1_as l D k (ra 0) (ra 4) rs_50 g14  _ _ et17) (cwV 1 hts (lw_V q406 q407 q408 q91 q409) rfl rfl rfl ⟨rfl, hdX1_as⟩ ⟨Nat.le_of_ble_eq_true rfl, Nat.le_of_ble_eq_true rfl⟩) hK hP hD hS hA [1, 2, 3, 4, 5, 6, 7, 8, 9, 10, 11, 12] [0, 13, 14] (wN k xa ra xi g16 ++ (wR k (ra 4) g14 ++ [(xa 3, .inl (k 6, 4, .inr (.inr (.inr (.inr (fun i => some (sa i))))))), (sa j, .inr (2, [.null]))])) rfl rfl (fm_c (fm_e _ rfl rfl) (fm_c (fm_e _ rfl rfl) (fm_c (fm_e _ rfl rfl) fm_n))) 15 rfl (by decide) (by decide) [(xa 0), (ra 0 0), (ra 0 1), (ra 0 2), (ra 0 3), (ra 0 4), (ra 0 5), (ra 4 0), (ra 4 1), (ra 4 2), (ra 4 3), (ra 4 4), (ra 4 5), (xa 3), (sa j)] rfl rfl 1 1 rfl rfl rfl hl.1 rfl (Nat.le_of_ble_eq_true rfl) dX0_read_125 ⟨Nat.le_of_ble_eq_true rfl, Nat.le_of_ble_eq_true rfl⟩ (fun H locs hP hD hS => ?_)
                refine lv_aload_n hx hb dX0_read_128 rfl (lv_at hl 0 rfl) ?_
                obtain ⟨v18, ev18, hf⟩ := ob hf
                refine rd_callV (As := []) (rest := []) ⟨hx, hb, hml, hown, hts⟩ (mX0_nodes l D k xa ra xi g16  _ ev18) (cwV 0 hts (lw_V q421 q423 qs7 q90 q424) rfl rfl rfl ⟨rfl, hdX0_nodes⟩ ⟨Nat.le_of_ble_eq_true rfl, Nat.le_of_ble_eq_true rfl⟩) hK hP [0, 1, 2, 3, 4, 5, 6] rfl 0 0 rfl rfl rfl hl.1 rfl (Nat.le_of_ble_eq_true rfl) dX0_read_129 ⟨Nat.le_of_ble_eq_true rfl, Nat.le_of_ble_eq_true rfl⟩ ?_
                obtain ⟨he1, he2, he3⟩ := prod3 hf
                rw [he2] at hP
                rw [he3] at hP
                refine W.widen (k := 3) (n := 222) (Nat.le_of_ble_eq_true rfl) (Nat.le_of_ble_eq_true rfl) ?_
                exact wr_iret hx hb hr hlk he1 hP hS dX0_read_132
              · have hf := oi_t c13 hf
                refine lv_bipush (v := (-2)) hx hb dX0_read_107 (by decide) ?_
                obtain ⟨he1, he2, he3⟩ := prod3 hf
                rw [he2] at hP
                rw [he3] at hP
                refine W.widen (k := 3) (n := 222) (Nat.le_of_ble_eq_true rfl) (Nat.le_of_ble_eq_true rfl) ?_
                exact wr_iret hx hb hr hlk he1 hP hS dX0_read_109
            · have hf := oi_f c10 hf
              refine lv_aload_n hx hb dX0_read_57 rfl (lv_at hl 0 rfl) ?_
              refine va_get (D := D) (cl := vwCl) (ci := 0) (v := .ref (ra 4 0)) (C := RX0) (T := TX0) (N := 15) hx hb hts in_X0 hown hK.1 hP 0 rfl rfl 13 (by decide) (hts _ q204) (fun _ h9 => h9) rfl dX0_read_58 ?_
              refine lv_iload hx hb dX0_read_61 (lv_at hl 5 rfl) ?_
              refine lv_aload_n hx hb dX0_read_63 rfl (lv_at hl 0 rfl) ?_
              refine lv_iload_n hx hb dX0_read_64 rfl (lv_at hl 1 rfl) ?_
              refine lv_iload_n hx hb dX0_read_65 rfl (lv_at hl 2 rfl) ?_
              refine lv_iload_n hx hb dX0_read_66 rfl (lv_at hl 3 rfl) ?_
              refine lv_iload hx hb dX0_read_67 (lv_at hl 5 rfl) ?_
              refine lv_iadd hx hb dX0_read_69 ?_
              by_cases c20 : fX0_isBit_s0x j p2 (p3 + x5_50) = some 1
              · have hf := oi_t c20 hf
                refine wx_excV (As := [.int (nI j), .int p2, .int (p3 + x5_50)]) (rest := [.int x5_50, .ref (ra 4 0)]) ⟨hx, hb, hml, hown, hts⟩ (mX0_isBit_s0x l hst D k xa ra sa j hj xi p2 (p3 + x5_50) _ 1 c20) (cwV 3 hts (lw_V q895 q897 qs51 q90 q898) rfl rfl rfl ⟨rfl, hdX0_isBit_s0x⟩ ⟨Nat.le_of_ble_eq_true rfl, Nat.le_of_ble_eq_true rfl⟩) hK hZ hP hD hS hA [0, 13, 14] [1, 2, 3, 4, 5, 6, 7, 8, 9, 10, 11, 12] rfl 15 rfl (by decide) (by decide) 0 0 rfl rfl rfl hl.1 rfl (Nat.le_of_ble_eq_true rfl) dX0_read_70 ⟨Nat.le_of_ble_eq_true rfl, Nat.le_of_ble_eq_true rfl⟩ (fun H locs q9 ce hP hD hS hc9 hv9 hcl9 => ?_)
                refine vx_catch hown [] _ _ (hexc.trans rfl) fm_n rfl (by decide) (hts _ q825) (hK.nw 22 rfl) hc9 hv9 hcl9 ?_
                refine lv_astore (lv' := [(5, .ref q9), (0, .ref (xa 0)), (1, .int (nI j)), (2, .int p2), (3, .int p3), (4, .int p4)]) hx hb dX0_read_85 hl (by decide) rfl (fun ls hl => ?_)
                refine lv_bipush (v := (-11)) hx hb dX0_read_87 (by decide) ?_
                obtain ⟨he1, he2, he3⟩ := prod3 hf
                rw [he2] at hP
                rw [he3] at hP
                refine W.widen (k := 3) (n := 222) (Nat.le_of_ble_eq_true rfl) (Nat.le_of_ble_eq_true rfl) ?_
                exact wr_iret hx hb hr hlk he1 hP hS dX0_read_89
              have hf := oi_f c20 hf
              cases hf
        exact hL50 FU rs (rsP (rsW rt g8) p4) (0 : Int32) H locs hP hD hS hf ls (lv_sub hl [1, 2, 3, 4, 5, 0] rfl)
      · have hf := oi_f c7 hf
        refine lv_iconst (v := (-1)) hx hb dX0_read_25 (by decide) ?_
        obtain ⟨he1, he2, he3⟩ := prod3 hf
        rw [he2] at hP
        rw [he3] at hP
        refine W.widen (k := 3) (n := 222) (Nat.le_of_ble_eq_true rfl) (Nat.le_of_ble_eq_true rfl) ?_
        exact wr_iret hx hb hr hlk he1 hP hS dX0_read_26

abbrev rmX0_count_s0 : Room := { frames := 1, cells := 0, slots := 0, locals := 21 }
theorem hdX0_count_s0 : yX0_count.cls ≠ "java/lang/invoke/MethodHandle" ∧ yX0_count.cls ≠ "java/lang/invoke/VarHandle" ∧ (parseMethodDescriptor yX0_count.desc).map (fun d => d.parameters.length) = some 1 := by decide +kernel
set_option maxHeartbeats 4000000 in
theorem mX0_count_s0 (l : Launch) (D : va_G) (k : Nat → ClassId) (xa : Nat → Nat) (ra : Nat → Nat → Nat) (sa : Nat → Nat) (xi : Nat → Int32) (rs : RS) (p1 : Int32) (r : Int32) (hf : fX0_count_s0 xi rs p1 = some r) : CtI l yX0_count cX0_count 10 rmX0_count_s0 [.ref (xa 0), .int p1] D k (wN k xa ra xi rs ++ [(xa 3, .inl (k 6, 4, .inr (.inr (.inr (.inr (fun i => some (sa i))))))), (sa 0, .inr (2, [.null]))]) r := by
  refine rd_start (by decide +kernel) (Nat.le_of_ble_eq_true rfl) ?_
  intro p e s m below meth c ls hx hb hr hlk hml hown hts hP hK hl
  have hl : lv_has ls 10 [(0, .ref (xa 0)), (1, .int p1)] := hl
  have hown : s.vm.findClass RX0 = some m.cls := hown
  unfold fX0_count_s0 at hf
  refine lv_aload_n hx hb dX0_count_0 rfl (lv_at hl 0 rfl) ?_
  refine va_get (D := D) (cl := vwCl) (ci := 0) (v := .ref (xa 3)) (C := RX0) (T := TX0) (N := 15) hx hb hts in_X0 hown hK.1 hP 0 rfl rfl 12 (by decide) (hts _ q203) (fun _ h9 => h9) rfl dX0_count_1 ?_
  refine lv_iconst (v := 0) hx hb dX0_count_4 (by decide) ?_
  refine x_aald hx hb hK hP 7 6 (j := 0) (n := 4) rfl (by decide) (by decide) rfl rfl rfl dX0_count_5 ?_
  refine va_getN (D := D) (cl := vwCl) (ci := 2) (v := .null) (C := RX2) (T := TX2) (N := 1) hx hb hts in_X2 hown hK.1 hP 8 rfl rfl 0 (by decide) (hK.nw 8 rfl) (fun _ h9 => h9) rfl dX0_count_6 ?_
  refine lv_astore_nN (lv' := [(2, .null), (0, .ref (xa 0)), (1, .int p1)]) hx hb dX0_count_9 rfl hl (by decide) rfl (fun ls hl => ?_)
  refine lv_aload_nN hx hb dX0_count_10 rfl (lv_at hl 0 rfl) ?_
  refine lv_instN hx hb dX0_count_11 ?_
  refine lv_if_eq (tgt := 25) hx hb dX0_count_14 (by decide) (fun _ => ?_) (fun c9 => absurd c9 (by decide))
  refine lv_aload_nN hx hb dX0_count_25 rfl (lv_at hl 0 rfl) ?_
  refine lv_instN hx hb dX0_count_26 ?_
  refine lv_if_eq (tgt := 40) hx hb dX0_count_29 (by decide) (fun _ => ?_) (fun c9 => absurd c9 (by decide))
  refine lv_aload_nN hx hb dX0_count_40 rfl (lv_at hl 0 rfl) ?_
  refine lv_instN hx hb dX0_count_41 ?_
  refine lv_if_eq (tgt := 55) hx hb dX0_count_44 (by decide) (fun _ => ?_) (fun c9 => absurd c9 (by decide))
  refine lv_bipush (v := (-4)) hx hb dX0_count_55 (by decide) ?_
  have hB57 : ∀ (s0_57 : Int32), fX0_count_s0_B57 xi rs p1 s0_57 = some r → ∀ ls : Array Slot, lv_has ls 10 [(0, .ref (xa 0)), (1, .int p1)] → gR p l e rmX0_count_s0 s m [.ref (xa 0), .int p1] below meth c (vp_Si (fun x => x = r)) 57 ls [.int s0_57] := by
    intro s0_57 hf ls hl
    unfold fX0_count_s0_B57 at hf
    refine lv_istore_n (lv' := [(3, .int s0_57), (0, .ref (xa 0)), (1, .int p1)]) hx hb dX0_count_57 rfl hl (by decide) rfl (fun ls hl => ?_)
    refine lv_iconst (v := 0) hx hb dX0_count_58 (by decide) ?_
    refine lv_istore (lv' := [(4, .int (0 : Int32)), (3, .int s0_57), (0, .ref (xa 0)), (1, .int p1)]) hx hb dX0_count_59 hl (by decide) rfl (fun ls hl => ?_)
    refine lv_aload_n hx hb dX0_count_61 rfl (lv_at hl 2 rfl) ?_
    refine va_get (D := D) (cl := vwCl) (ci := 0) (v := .ref (ra 0 0)) (C := RX0) (T := TX0) (N := 15) hx hb hts in_X0 hown hK.1 hP 0 rfl rfl 0 (by decide) (hts _ q190) (fun _ h9 => h9) rfl dX0_count_62 ?_
    refine va_getN (D := D) (cl := vwCl) (ci := 1) (v := .ref (ra 0 1)) (C := RX1) (T := TX1) (N := 6) hx hb hts in_X1 hown hK.1 hP 1 rfl rfl 0 (by decide) (hK.nw 1 rfl) (fun _ h9 => h9) rfl dX0_count_65 ?_
    refine lv_astore (lv' := [(5, .ref (ra 0 1)), (4, .int (0 : Int32)), (3, .int s0_57), (0, .ref (xa 0)), (1, .int p1)]) hx hb dX0_count_68 hl (by decide) rfl (fun ls hl => ?_)
    refine lv_aload hx hb dX0_count_70 (lv_at hl 0 rfl) ?_
    refine va_alen hx hb hK.1 hP 2 0 rfl rfl rfl dX0_count_72 ?_
    refine lv_istore (lv' := [(6, .int (2 : Int32)), (5, .ref (ra 0 1)), (4, .int (0 : Int32)), (3, .int s0_57), (0, .ref (xa 0)), (1, .int p1)]) hx hb dX0_count_73 hl (by decide) rfl (fun ls hl => ?_)
    refine lv_iconst (v := 0) hx hb dX0_count_75 (by decide) ?_
    refine lv_istore (lv' := [(7, .int (0 : Int32)), (6, .int (2 : Int32)), (5, .ref (ra 0 1)), (4, .int (0 : Int32)), (3, .int s0_57), (0, .ref (xa 0)), (1, .int p1)]) hx hb dX0_count_76 hl (by decide) rfl (fun ls hl => ?_)
    have hL78 : ∀ (nn : Nat) (x3_78 : Int32) (x4_78 : Int32) (x6_78 : Int32) (x7_78 : Int32), fX0_count_s0_L78 xi rs p1 nn x3_78 x4_78 x6_78 x7_78 = some r → ∀ ls : Array Slot, lv_has ls 10 [(0, .ref (xa 0)), (1, .int p1), (3, .int x3_78), (4, .int x4_78), (5, .ref (ra 0 1)), (6, .int x6_78), (7, .int x7_78)] → gR p l e rmX0_count_s0 s m [.ref (xa 0), .int p1] below meth c (vp_Si (fun x => x = r)) 78 ls [] := by
      intro nn78
      induction nn78 with
      | zero =>
        intro x3_78 x4_78 x6_78 x7_78 hf
        rw [fX0_count_s0_L78] at hf; cases hf
      | succ nn78 ih78 =>
        intro x3_78 x4_78 x6_78 x7_78 hf ls hl
        rw [fX0_count_s0_L78] at hf
        refine lv_iload hx hb dX0_count_78 (lv_at hl 6 rfl) ?_
        refine lv_iload hx hb dX0_count_80 (lv_at hl 5 rfl) ?_
        refine lv_icmp_ge (tgt := 112) hx hb dX0_count_82 (by decide) (fun c1 => ?_) (fun c1 => ?_)
        · have hf := oi_t c1 hf
          refine lv_iload_n hx hb dX0_count_112 rfl (lv_at hl 1 rfl) ?_
          by_cases c2 : p1 = 0
          · have hf := oi_t c2 hf
            refine lv_tableIn (off := 31) (tgt := 144) hx hb dX0_count_113 (by rw [c2]; decide) (by rw [c2]; decide) (by rw [c2]; rfl) (by decide) ?_
            refine lv_aload_n hx hb dX0_count_144 rfl (lv_at hl 0 rfl) ?_
            refine va_get (D := D) (cl := vwCl) (ci := 0) (v := .int (xi 0)) (C := RX0) (T := TX0) (N := 15) hx hb hts in_X0 hown hK.1 hP 0 rfl rfl 2 (by decide) (hts _ q192) (fun _ h9 => h9) rfl dX0_count_145 ?_
            obtain ⟨v3, ev3, hf⟩ := ob hf
            refine rd_callS (As := [.int (xi 0)]) (rest := []) ⟨hx, hb, hml, hown, hts⟩ (mJ13_bitCount l D k   (xi 0) _ ev3) (va_cwS 1 hts (lw_S q926 q927 q110 q928) rfl rfl rfl hdJ13_bitCount ⟨Nat.le_of_ble_eq_true rfl, Nat.le_of_ble_eq_true rfl⟩) hK rfl hl.1 rfl (Nat.le_of_ble_eq_true rfl) dX0_count_148 ⟨Nat.le_of_ble_eq_true rfl, Nat.le_of_ble_eq_true rfl⟩ ?_
            exact rd_iret hx hb hr hlk (Option.some.inj hf) dX0_count_151
          have hf := oi_f c2 hf
          by_cases c5 : p1 = 1
          · have hf := oi_t c5 hf
            refine lv_tableIn (off := 39) (tgt := 152) hx hb dX0_count_113 (by rw [c5]; decide) (by rw [c5]; decide) (by rw [c5]; rfl) (by decide) ?_
            refine lv_aload_n hx hb dX0_count_152 rfl (lv_at hl 0 rfl) ?_
            refine va_get (D := D) (cl := vwCl) (ci := 0) (v := .int (xi 6)) (C := RX0) (T := TX0) (N := 15) hx hb hts in_X0 hown hK.1 hP 0 rfl rfl 9 (by decide) (hts _ q200) (fun _ h9 => h9) rfl dX0_count_153 ?_
            exact rd_iret hx hb hr hlk (Option.some.inj hf) dX0_count_156
          have hf := oi_f c5 hf
          by_cases c6 : p1 = 2
          · have hf := oi_t c6 hf
            refine lv_tableIn (off := 44) (tgt := 157) hx hb dX0_count_113 (by rw [c6]; decide) (by rw [c6]; decide) (by rw [c6]; rfl) (by decide) ?_
            refine lv_iload_n hx hb dX0_count_157 rfl (lv_at hl 2 rfl) ?_
            exact rd_iret hx hb hr hlk (Option.some.inj hf) dX0_count_158
          have hf := oi_f c6 hf
          by_cases c7 : p1 = 3
          · have hf := oi_t c7 hf
            refine lv_tableIn (off := 46) (tgt := 159) hx hb dX0_count_113 (by rw [c7]; decide) (by rw [c7]; decide) (by rw [c7]; rfl) (by decide) ?_
            refine lv_iload hx hb dX0_count_159 (lv_at hl 3 rfl) ?_
            exact rd_iret hx hb hr hlk (Option.some.inj hf) dX0_count_161
          have hf := oi_f c7 hf
          refine lv_tableOut (tgt := 162) hx hb dX0_count_113 (tb_out4 c2 c5 c6 c7) (by decide) ?_
          refine lv_iconst (v := (-1)) hx hb dX0_count_162 (by decide) ?_
          exact rd_iret hx hb hr hlk (Option.some.inj hf) dX0_count_163
        · have hf := oi_f c1 hf
          refine lv_aload hx hb dX0_count_85 (lv_at hl 4 rfl) ?_
          refine lv_iload hx hb dX0_count_87 (lv_at hl 6 rfl) ?_
          obtain ⟨v8, ev8, hf⟩ := ob hf
          refine x_lald hx hb hK hP 2 0 ev8 rfl rfl dX0_count_89 ?_
          refine lv_lstore (lv' := [(8, .long v8), (0, .ref (xa 0)), (1, .int p1), (3, .int x3_78), (4, .int x4_78), (5, .ref (ra 0 1)), (6, .int x6_78), (7, .int x7_78)]) hx hb dX0_count_90 hl (by decide) rfl (fun ls hl => ?_)
          refine lv_iload hx hb dX0_count_92 (lv_at hl 4 rfl) ?_
          refine lv_lload hx hb dX0_count_94 (lv_at hl 0 rfl) ?_
          refine lv_ldc2 hx hb hown (hts _ q924) dX0_count_96 ?_
          refine lv_land hx hb dX0_count_99 ?_
          obtain ⟨v9, ev9, hf⟩ := ob hf
          refine rd_callS (As := [.long (v8 &&& (-6148914691236517206 : Int64))]) (rest := [.int x4_78]) ⟨hx, hb, hml, hown, hts⟩ (mJ3_bitCount l D k   (v8 &&& (-6148914691236517206 : Int64)) _ ev9) (va_cwS 1 hts (lw_S q925 q434 q100 q435) rfl rfl rfl hdJ3_bitCount ⟨Nat.le_of_ble_eq_true rfl, Nat.le_of_ble_eq_true rfl⟩) hK rfl hl.1 rfl (Nat.le_of_ble_eq_true rfl) dX0_count_100 ⟨Nat.le_of_ble_eq_true rfl, Nat.le_of_ble_eq_true rfl⟩ ?_
          refine lv_iadd hx hb dX0_count_103 ?_
          obtain ⟨y11, ey11, hf⟩ := ob hf
          refine x_asI ey11 ?_
          refine lv_istore (lv' := [(4, .int y11), (8, .long v8), (0, .ref (xa 0)), (1, .int p1), (3, .int x3_78), (5, .ref (ra 0 1)), (6, .int x6_78), (7, .int x7_78)]) hx hb dX0_count_104 hl (by decide) rfl (fun ls hl => ?_)
          refine lv_iinc (v := (x7_78 + 1)) (lv' := [(7, .int (x7_78 + 1)), (4, .int y11), (8, .long v8), (0, .ref (xa 0)), (1, .int p1), (3, .int x3_78), (5, .ref (ra 0 1)), (6, .int x6_78)]) hx hb dX0_count_106 hl (k := 7) rfl rfl (by decide) rfl (fun ls hl => ?_)
          refine lv_goto (tgt := 78) hx hb dX0_count_109 (by decide) ?_
          exact ih78 x3_78 y11 x6_78 (x7_78 + 1) hf ls (lv_sub hl [3, 4, 5, 1, 6, 7, 0] rfl)
    exact hL78 FU s0_57 (0 : Int32) (2 : Int32) (0 : Int32) hf ls (lv_sub hl [5, 6, 4, 3, 2, 1, 0] rfl)
  exact hB57 (-4 : Int32) hf ls (lv_sub hl [1, 2] rfl)

abbrev rmX0_lay_s1n : Room := { frames := 1, cells := 0, slots := 0, locals := 25 }
theorem hdX0_lay_s1n : yX0_lay.cls ≠ "java/lang/invoke/MethodHandle" ∧ yX0_lay.cls ≠ "java/lang/invoke/VarHandle" ∧ (parseMethodDescriptor yX0_lay.desc).map (fun d => d.parameters.length) = some 3 := by decide +kernel
abbrev qcX0_lay_s1n (D : va_G) (k : Nat → ClassId) (xa : Nat → Nat) (ra : Nat → Nat → Nat) (sa : Nat → Nat) (qa : Nat) (j : Nat) (sn : Nat) (xi : Nat → Int32) (sf : Nat → Int32) (r : Int32) (A : Nat → Prop) : Array Value → State → Outcome → State → Prop := va_Qi (fun x (_ : Unit) => x = r) (fun _ t => va_P D vwCl [oX xa ra xi, (xa 3, .inl (k 6, 4, .inr (.inr (.inr (.inr (fun i => some (sa i))))))), (sa j, .inr (2, [.ref qa])), (qa, .inl (k 3, sn, .inl sf))] t.heap) A
set_option maxHeartbeats 4000000 in
theorem mX0_lay_s1n (l : Launch) (D : va_G) (k : Nat → ClassId) (xa : Nat → Nat) (ra : Nat → Nat → Nat) (sa : Nat → Nat) (qa : Nat) (j : Nat) (sn : Nat) (hj : j < 4) (hsn : sn < 2 ^ 31) (xi : Nat → Int32) (sf : Nat → Int32) (p2 : Int32) (p3 : Int64) (sz : Nat) (r : Int32) (sf_o : Nat → Int32) (hf : fX0_lay_s1n j sn sf p2 p3 = some (r, sf_o)) : Met l yX0_lay (wsW_ yX0_lay cX0_lay 7 (some .int) [(25, 75, 76, 324), (25, 75, 81, 326)]) rmX0_lay_s1n (wrP D k [oX xa ra xi, (xa 3, .inl (k 6, 4, .inr (.inr (.inr (.inr (fun i => some (sa i))))))), (sa j, .inr (2, [.ref qa])), (qa, .inl (k 3, sn, .inl sf))] sz [.ref (xa 0), .int (nI j), .int p2, .long p3]) (qcX0_lay_s1n D k xa ra sa qa j sn xi sf_o r (va_A [oX xa ra xi, (xa 3, .inl (k 6, 4, .inr (.inr (.inr (.inr (fun i => some (sa i))))))), (sa j, .inr (2, [.ref qa])), (qa, .inl (k 3, sn, .inl sf))] sz)) 0 0 (va_A [oX xa ra xi, (xa 3, .inl (k 6, 4, .inr (.inr (.inr (.inr (fun i => some (sa i))))))), (sa j, .inr (2, [.ref qa])), (qa, .inl (k 3, sn, .inl sf))] sz) := by
  refine wr_startW (Qc := fun A => qcX0_lay_s1n D k xa ra sa qa j sn xi sf_o r A) (by decide +kernel) (Nat.le_of_ble_eq_true rfl) ?_
  intro p e s m below meth c ls A hA hx hb hr hlk hml hown hts hP hK hD hl
  have hl : lv_has ls 7 [(0, .ref (xa 0)), (1, .int (nI j)), (2, .int p2), (3, .long p3)] := hl
  have hown : s.vm.findClass RX0 = some m.cls := hown
  have hS : va_S A s.heap s.heap [] := va_S.rf
  suffices hw : ∀ (H : Heap) (locs : List Loc), va_P D vwCl [oX xa ra xi, (xa 3, .inl (k 6, 4, .inr (.inr (.inr (.inr (fun i => some (sa i))))))), (sa j, .inr (2, [.ref qa])), (qa, .inl (k 3, sn, .inl sf))] H → va_S A s.heap H locs → gW p l e rmX0_lay_s1n s m [.ref (xa 0), .int (nI j), .int p2, .long p3] below meth c (qcX0_lay_s1n D k xa ra sa qa j sn xi sf_o r A) A 0 0 H locs 0 ls [] from hw s.heap [] hP hS
  clear hP hS
  intro H locs hP hS
  unfold fX0_lay_s1n at hf
  refine lv_iload_n hx hb dX0_lay_0 rfl (lv_at hl 1 rfl) ?_
  refine lv_i2l hx hb dX0_lay_1 rfl ?_
  refine lv_lconst (v := 0) hx hb dX0_lay_2 (by decide) ?_
  refine lv_ldc2 hx hb hown (hts _ q520) dX0_lay_3 ?_
  obtain ⟨v1, ev1, hf⟩ := ob hf
  refine rd_callSZ (As := [.long (((nI j)).toInt64), .long (0 : Int64), .long (3 : Int64)]) (rest := []) ⟨hx, hb, hml, hown, hts⟩ (mX0_in l D k   (((nI j)).toInt64) (0 : Int64) (3 : Int64) _ ev1) (va_cwS 3 hts (lw_S q242 q243 q90 q244) rfl rfl rfl hdX0_in ⟨Nat.le_of_ble_eq_true rfl, Nat.le_of_ble_eq_true rfl⟩) hK rfl hl.1 rfl (Nat.le_of_ble_eq_true rfl) dX0_lay_6 ⟨Nat.le_of_ble_eq_true rfl, Nat.le_of_ble_eq_true rfl⟩ (fun zv1 => ?_)
  refine lv_if_ne (tgt := 14) hx hb dX0_lay_9 (by decide) (fun c3 => ?_) (fun c3 => ?_)
  · have hf := oi_f c3 hf
    refine lv_aload_n hx hb dX0_lay_14 rfl (lv_at hl 0 rfl) ?_
    refine va_get (D := D) (cl := vwCl) (ci := 0) (v := .ref (xa 3)) (C := RX0) (T := TX0) (N := 15) hx hb hts in_X0 hown hK.1 hP 0 rfl rfl 12 (by decide) (hts _ q203) (fun _ h9 => h9) rfl dX0_lay_15 ?_
    refine lv_iload_n hx hb dX0_lay_18 rfl (lv_at hl 1 rfl) ?_
    refine x_aald hx hb hK hP 1 6 (j := j) (n := 4) rfl hj (by decide) rfl rfl rfl dX0_lay_19 ?_
    refine va_getN (D := D) (cl := vwCl) (ci := 2) (v := .ref qa) (C := RX2) (T := TX2) (N := 1) hx hb hts in_X2 hown hK.1 hP 2 rfl rfl 0 (by decide) (hK.nw 8 rfl) (fun _ h9 => h9) rfl dX0_lay_20 ?_
    refine lv_astore (lv' := [(5, .ref qa), (0, .ref (xa 0)), (1, .int (nI j)), (2, .int p2), (3, .long p3)]) hx hb dX0_lay_23 hl (by decide) rfl (fun ls hl => ?_)
    refine lv_aload hx hb dX0_lay_25 (lv_at hl 0 rfl) ?_
    refine x_instA hx hb hK hown (hts _ q869) hP 3 3 rfl rfl (by decide +kernel) dX0_lay_27 ?_
    refine lv_if_eq (tgt := 46) hx hb dX0_lay_30 (by decide) (fun c9 => absurd c9 (by decide)) (fun _ => ?_)
    refine lv_aload hx hb dX0_lay_33 (lv_at hl 0 rfl) ?_
    refine x_castA hx hb hK hown (hts _ q869) hP 3 3 rfl rfl (by decide +kernel) dX0_lay_35 ?_
    refine lv_iload_n hx hb dX0_lay_38 rfl (lv_at hl 3 rfl) ?_
    refine lv_lload_n hx hb dX0_lay_39 rfl (lv_at hl 4 rfl) ?_
    refine lv_l2i hx hb dX0_lay_40 rfl ?_
    refine lv_i2b hx hb dX0_lay_41 rfl ?_
    obtain ⟨u4, eu4, hf⟩ := ob hf
    refine x_bast hx hb hK hP hD hS 3 3 eu4 rfl rfl [oX xa ra xi, (xa 3, .inl (k 6, 4, .inr (.inr (.inr (.inr (fun i => some (sa i))))))), (sa j, .inr (2, [.ref qa])), (qa, .inl (k 3, sn, .inl u4))] rfl dX0_lay_42 (fun H locs hP hD hS => ?_)
    refine lv_goto (tgt := 74) hx hb dX0_lay_43 (by decide) ?_
    refine lv_iconst (v := 1) hx hb dX0_lay_74 (by decide) ?_
    obtain ⟨he1, he2⟩ := prod2 hf
    rw [he2] at hP
    exact wr_iret hx hb hr hlk he1 hP hS dX0_lay_75
  · have hf := oi_t c3 hf
    refine lv_iconst (v := (-1)) hx hb dX0_lay_12 (by decide) ?_
    obtain ⟨he1, he2⟩ := prod2 hf
    rw [he2] at hP
    exact wr_iret hx hb hr hlk he1 hP hS dX0_lay_13

abbrev rmX0_isBit_s1 : Room := { frames := 1, cells := 0, slots := 0, locals := 20 }
theorem hdX0_isBit_s1 : yX0_isBit.cls ≠ "java/lang/invoke/MethodHandle" ∧ yX0_isBit.cls ≠ "java/lang/invoke/VarHandle" ∧ (parseMethodDescriptor yX0_isBit.desc).map (fun d => d.parameters.length) = some 3 := by decide +kernel
set_option maxHeartbeats 4000000 in
theorem mX0_isBit_s1 (l : Launch) (D : va_G) (k : Nat → ClassId) (xa : Nat → Nat) (ra : Nat → Nat → Nat) (sa : Nat → Nat) (qa : Nat) (j : Nat) (sn : Nat) (hj : j < 4) (hsn : sn < 2 ^ 31) (xi : Nat → Int32) (sf : Nat → Int32) (p2 : Int32) (p3 : Int32) (r : Int32) (hf : fX0_isBit_s1 j sn sf p2 p3 = some r) : CtZ l yX0_isBit cX0_isBit 8 rmX0_isBit_s1 [.ref (xa 0), .int (nI j), .int p2, .int p3] D k [oX xa ra xi, (xa 3, .inl (k 6, 4, .inr (.inr (.inr (.inr (fun i => some (sa i))))))), (sa j, .inr (2, [.ref qa])), (qa, .inl (k 3, sn, .inl sf))] r := by
  refine rd_start (by decide +kernel) (Nat.le_of_ble_eq_true rfl) ?_
  intro p e s m below meth c ls hx hb hr hlk hml hown hts hP hK hl
  have hl : lv_has ls 8 [(0, .ref (xa 0)), (1, .int (nI j)), (2, .int p2), (3, .int p3)] := hl
  have hown : s.vm.findClass RX0 = some m.cls := hown
  unfold fX0_isBit_s1 at hf
  refine lv_aload_n hx hb dX0_isBit_0 rfl (lv_at hl 0 rfl) ?_
  refine va_get (D := D) (cl := vwCl) (ci := 0) (v := .ref (xa 3)) (C := RX0) (T := TX0) (N := 15) hx hb hts in_X0 hown hK.1 hP 0 rfl rfl 12 (by decide) (hts _ q203) (fun _ h9 => h9) rfl dX0_isBit_1 ?_
  refine lv_iload_n hx hb dX0_isBit_4 rfl (lv_at hl 1 rfl) ?_
  refine x_aald hx hb hK hP 1 6 (j := j) (n := 4) rfl hj (by decide) rfl rfl rfl dX0_isBit_5 ?_
  refine va_getN (D := D) (cl := vwCl) (ci := 2) (v := .ref qa) (C := RX2) (T := TX2) (N := 1) hx hb hts in_X2 hown hK.1 hP 2 rfl rfl 0 (by decide) (hK.nw 8 rfl) (fun _ h9 => h9) rfl dX0_isBit_6 ?_
  refine lv_astore (lv' := [(4, .ref qa), (0, .ref (xa 0)), (1, .int (nI j)), (2, .int p2), (3, .int p3)]) hx hb dX0_isBit_9 hl (by decide) rfl (fun ls hl => ?_)
  refine lv_iload_n hx hb dX0_isBit_11 rfl (lv_at hl 4 rfl) ?_
  refine lv_iload_n hx hb dX0_isBit_12 rfl (lv_at hl 3 rfl) ?_
  obtain ⟨v1, ev1, hf⟩ := ob hf
  refine rd_callS (As := [.int p2]) (rest := [.int p3]) ⟨hx, hb, hml, hown, hts⟩ (mX0_bitsOf l D k   p2 _ ev1) (va_cwS 1 hts (lw_S q899 q900 q90 q901) rfl rfl rfl hdX0_bitsOf ⟨Nat.le_of_ble_eq_true rfl, Nat.le_of_ble_eq_true rfl⟩) hK rfl hl.1 rfl (Nat.le_of_ble_eq_true rfl) dX0_isBit_13 ⟨Nat.le_of_ble_eq_true rfl, Nat.le_of_ble_eq_true rfl⟩ ?_
  have c3 := on_z hf
  have hf := oi_f c3 hf
  refine lv_idiv hx hb dX0_isBit_16 c3 ?_
  obtain ⟨y4, ey4, hf⟩ := ob hf
  refine x_asI ey4 ?_
  refine lv_istore (lv' := [(5, .int y4), (4, .ref qa), (0, .ref (xa 0)), (1, .int (nI j)), (2, .int p2), (3, .int p3)]) hx hb dX0_isBit_17 hl (by decide) rfl (fun ls hl => ?_)
  refine lv_iload_n hx hb dX0_isBit_19 rfl (lv_at hl 4 rfl) ?_
  have hB60 : ∀ (s0_60 : Int64), fX0_isBit_s1_B60 j sn sf p2 p3 s0_60 = some r → ∀ ls : Array Slot, lv_has ls 8 [(2, .int p2), (3, .int p3)] → gR p l e rmX0_isBit_s1 s m [.ref (xa 0), .int (nI j), .int p2, .int p3] below meth c (vp_Si (fun x => x = r ∧ zb x)) 60 ls [.long s0_60] := by
    intro s0_60 hf ls hl
    unfold fX0_isBit_s1_B60 at hf
    refine lv_lstore (lv' := [(6, .long s0_60), (2, .int p2), (3, .int p3)]) hx hb dX0_isBit_60 hl (by decide) rfl (fun ls hl => ?_)
    refine lv_lload hx hb dX0_isBit_62 (lv_at hl 0 rfl) ?_
    refine lv_iload_n hx hb dX0_isBit_64 rfl (lv_at hl 2 rfl) ?_
    refine lv_iload_n hx hb dX0_isBit_65 rfl (lv_at hl 1 rfl) ?_
    obtain ⟨v6, ev6, hf⟩ := ob hf
    refine rd_callS (As := [.int p2]) (rest := [.int p3, .long s0_60]) ⟨hx, hb, hml, hown, hts⟩ (mX0_bitsOf l D k   p2 _ ev6) (va_cwS 1 hts (lw_S q899 q900 q90 q901) rfl rfl rfl hdX0_bitsOf ⟨Nat.le_of_ble_eq_true rfl, Nat.le_of_ble_eq_true rfl⟩) hK rfl hl.1 rfl (Nat.le_of_ble_eq_true rfl) dX0_isBit_66 ⟨Nat.le_of_ble_eq_true rfl, Nat.le_of_ble_eq_true rfl⟩ ?_
    have c8 := on_z hf
    have hf := oi_f c8 hf
    refine lv_irem hx hb dX0_isBit_69 c8 ?_
    refine lv_lshr hx hb dX0_isBit_70 rfl ?_
    refine lv_lconst (v := 1) hx hb dX0_isBit_71 (by decide) ?_
    refine lv_land hx hb dX0_isBit_72 ?_
    refine lv_lconst (v := 1) hx hb dX0_isBit_73 (by decide) ?_
    refine W.lcmp hx hb dX0_isBit_74 ?_
    refine lv_if_ne (tgt := 82) hx hb dX0_isBit_75 (by decide) (fun c9 => ?_) (fun c9 => ?_)
    · have hf := oi_f c9 hf
      refine lv_iconst (v := 0) hx hb dX0_isBit_82 (by decide) ?_
      exact rd_zret hx hb hr hlk (Or.inl rfl) (Option.some.inj hf) dX0_isBit_83
    · have hf := oi_t c9 hf
      refine lv_iconst (v := 1) hx hb dX0_isBit_78 (by decide) ?_
      refine lv_goto (tgt := 83) hx hb dX0_isBit_79 (by decide) ?_
      exact rd_zret hx hb hr hlk (Or.inr rfl) (Option.some.inj hf) dX0_isBit_83
  refine lv_if_ne (tgt := 35) hx hb dX0_isBit_20 (by decide) (fun c5 => ?_) (fun c5 => ?_)
  · have hf := oi_f c5 hf
    refine lv_iload_n hx hb dX0_isBit_35 rfl (lv_at hl 4 rfl) ?_
    refine lv_iconst (v := 1) hx hb dX0_isBit_36 (by decide) ?_
    refine lv_icmp_ne (tgt := 52) hx hb dX0_isBit_37 (by decide) (fun c10 => ?_) (fun c10 => ?_)
    · have hf := oi_f c10 hf
      refine lv_aload hx hb dX0_isBit_52 (lv_at hl 1 rfl) ?_
      cases hf
    · have hf := oi_t c10 hf
      refine lv_aload hx hb dX0_isBit_40 (lv_at hl 1 rfl) ?_
      cases hf
  · have hf := oi_t c5 hf
    refine lv_aload hx hb dX0_isBit_23 (lv_at hl 1 rfl) ?_
    refine x_castA hx hb hK hown (hts _ q869) hP 3 3 rfl rfl (by decide +kernel) dX0_isBit_25 ?_
    refine lv_iload hx hb dX0_isBit_28 (lv_at hl 0 rfl) ?_
    obtain ⟨v11, ev11, hf⟩ := ob hf
    refine x_bald hx hb hK hP 3 3 ev11 rfl rfl dX0_isBit_30 ?_
    refine lv_i2l hx hb dX0_isBit_31 rfl ?_
    refine lv_goto (tgt := 60) hx hb dX0_isBit_32 (by decide) ?_
    exact hB60 ((v11).toInt64) hf ls (lv_sub hl [4, 5] rfl)

abbrev rmX0_isBit_s1x : Room := { frames := 8, cells := 3, slots := 222, locals := 10248 }
theorem hdX0_isBit_s1x : yX0_isBit.cls ≠ "java/lang/invoke/MethodHandle" ∧ yX0_isBit.cls ≠ "java/lang/invoke/VarHandle" ∧ (parseMethodDescriptor yX0_isBit.desc).map (fun d => d.parameters.length) = some 3 := by decide +kernel
set_option maxHeartbeats 4000000 in
theorem mX0_isBit_s1x (l : Launch) (hst : l.stackTraces = false) (D : va_G) (k : Nat → ClassId) (xa : Nat → Nat) (ra : Nat → Nat → Nat) (sa : Nat → Nat) (qa : Nat) (j : Nat) (sn : Nat) (hj : j < 4) (hsn : sn < 2 ^ 31) (xi : Nat → Int32) (sf : Nat → Int32) (p2 : Int32) (p3 : Int32) (sz : Nat) (E : Nat) (hf : fX0_isBit_s1x j sn sf p2 p3 = some E) : vx_Met l yX0_isBit (ws_ yX0_isBit cX0_isBit 8 (some .boolean)) rmX0_isBit_s1x (wxP D k [oX xa ra xi, (xa 3, .inl (k 6, 4, .inr (.inr (.inr (.inr (fun i => some (sa i))))))), (sa j, .inr (2, [.ref qa])), (qa, .inl (k 3, sn, .inl sf))] sz [.ref (xa 0), .int (nI j), .int p2, .int p3]) (va_Qi (fun (_ : Int32) (_ : Unit) => False) (fun _ _ => True) (va_A [oX xa ra xi, (xa 3, .inl (k 6, 4, .inr (.inr (.inr (.inr (fun i => some (sa i))))))), (sa j, .inr (2, [.ref qa])), (qa, .inl (k 3, sn, .inl sf))] sz)) (xcE D (exN E) [oX xa ra xi, (xa 3, .inl (k 6, 4, .inr (.inr (.inr (.inr (fun i => some (sa i))))))), (sa j, .inr (2, [.ref qa])), (qa, .inl (k 3, sn, .inl sf))] (va_A [oX xa ra xi, (xa 3, .inl (k 6, 4, .inr (.inr (.inr (.inr (fun i => some (sa i))))))), (sa j, .inr (2, [.ref qa])), (qa, .inl (k 3, sn, .inl sf))] sz)) 3 222 (va_A [oX xa ra xi, (xa 3, .inl (k 6, 4, .inr (.inr (.inr (.inr (fun i => some (sa i))))))), (sa j, .inr (2, [.ref qa])), (qa, .inl (k 3, sn, .inl sf))] sz) := by
  refine wx_startX (Qc := fun A => (va_Qi (fun (_ : Int32) (_ : Unit) => False) (fun _ _ => True) A)) (XC := fun A => xcE D (exN E) [oX xa ra xi, (xa 3, .inl (k 6, 4, .inr (.inr (.inr (.inr (fun i => some (sa i))))))), (sa j, .inr (2, [.ref qa])), (qa, .inl (k 3, sn, .inl sf))] A) (by decide +kernel) (Nat.le_of_ble_eq_true rfl) ?_
  intro p e s m below meth c ls A hA hx hb hr hlk hml hown hts hP hK hD hZ hex hl
  have hl : lv_has ls 8 [(0, .ref (xa 0)), (1, .int (nI j)), (2, .int p2), (3, .int p3)] := hl
  have hown : s.vm.findClass RX0 = some m.cls := hown
  have hS : va_S A s.heap s.heap [] := va_S.rf
  suffices hw : ∀ (H : Heap) (locs : List Loc), va_P D vwCl [oX xa ra xi, (xa 3, .inl (k 6, 4, .inr (.inr (.inr (.inr (fun i => some (sa i))))))), (sa j, .inr (2, [.ref qa])), (qa, .inl (k 3, sn, .inl sf))] H → va_S A s.heap H locs → gX p l e rmX0_isBit_s1x s m [.ref (xa 0), .int (nI j), .int p2, .int p3] below meth c (va_Qi (fun (_ : Int32) (_ : Unit) => False) (fun _ _ => True) A) (xcE D (exN E) [oX xa ra xi, (xa 3, .inl (k 6, 4, .inr (.inr (.inr (.inr (fun i => some (sa i))))))), (sa j, .inr (2, [.ref qa])), (qa, .inl (k 3, sn, .inl sf))] A) A 3 222 H locs 0 ls [] from hw s.heap [] hP hS
  clear hP hS
  intro H locs hP hS
  unfold fX0_isBit_s1x at hf
  refine lv_aload_n hx hb dX0_isBit_0 rfl (lv_at hl 0 rfl) ?_
  refine va_get (D := D) (cl := vwCl) (ci := 0) (v := .ref (xa 3)) (C := RX0) (T := TX0) (N := 15) hx hb hts in_X0 hown hK.1 hP 0 rfl rfl 12 (by decide) (hts _ q203) (fun _ h9 => h9) rfl dX0_isBit_1 ?_
  refine lv_iload_n hx hb dX0_isBit_4 rfl (lv_at hl 1 rfl) ?_
  refine x_aald hx hb hK hP 1 6 (j := j) (n := 4) rfl hj (by decide) rfl rfl rfl dX0_isBit_5 ?_
  refine va_getN (D := D) (cl := vwCl) (ci := 2) (v := .ref qa) (C := RX2) (T := TX2) (N := 1) hx hb hts in_X2 hown hK.1 hP 2 rfl rfl 0 (by decide) (hK.nw 8 rfl) (fun _ h9 => h9) rfl dX0_isBit_6 ?_
  refine lv_astore (lv' := [(4, .ref qa), (0, .ref (xa 0)), (1, .int (nI j)), (2, .int p2), (3, .int p3)]) hx hb dX0_isBit_9 hl (by decide) rfl (fun ls hl => ?_)
  refine lv_iload_n hx hb dX0_isBit_11 rfl (lv_at hl 4 rfl) ?_
  refine lv_iload_n hx hb dX0_isBit_12 rfl (lv_at hl 3 rfl) ?_
  obtain ⟨v1, ev1, hf⟩ := ob hf
  refine rd_callS (As := [.int p2]) (rest := [.int p3]) ⟨hx, hb, hml, hown, hts⟩ (mX0_bitsOf l D k   p2 _ ev1) (va_cwS 1 hts (lw_S q899 q900 q90 q901) rfl rfl rfl hdX0_bitsOf ⟨Nat.le_of_ble_eq_true rfl, Nat.le_of_ble_eq_true rfl⟩) hK rfl hl.1 rfl (Nat.le_of_ble_eq_true rfl) dX0_isBit_13 ⟨Nat.le_of_ble_eq_true rfl, Nat.le_of_ble_eq_true rfl⟩ ?_
  have c3 := on_z hf
  have hf := oi_f c3 hf
  refine lv_idiv hx hb dX0_isBit_16 c3 ?_
  obtain ⟨y4, ey4, hf⟩ := ob hf
  refine x_asI ey4 ?_
  refine lv_istore (lv' := [(5, .int y4), (4, .ref qa), (0, .ref (xa 0)), (1, .int (nI j)), (2, .int p2), (3, .int p3)]) hx hb dX0_isBit_17 hl (by decide) rfl (fun ls hl => ?_)
  refine lv_iload_n hx hb dX0_isBit_19 rfl (lv_at hl 4 rfl) ?_
  have hB60 : ∀ (s0_60 : Int64), ∀ (H : Heap) (locs : List Loc), va_P D vwCl [oX xa ra xi, (xa 3, .inl (k 6, 4, .inr (.inr (.inr (.inr (fun i => some (sa i))))))), (sa j, .inr (2, [.ref qa])), (qa, .inl (k 3, sn, .inl sf))] H → va_D A [oX xa ra xi, (xa 3, .inl (k 6, 4, .inr (.inr (.inr (.inr (fun i => some (sa i))))))), (sa j, .inr (2, [.ref qa])), (qa, .inl (k 3, sn, .inl sf))] → va_S A s.heap H locs → fX0_isBit_s1x_B60 j sn sf p2 p3 s0_60 = some E → ∀ ls : Array Slot, lv_has ls 8 [(2, .int p2), (3, .int p3)] → gX p l e rmX0_isBit_s1x s m [.ref (xa 0), .int (nI j), .int p2, .int p3] below meth c (va_Qi (fun (_ : Int32) (_ : Unit) => False) (fun _ _ => True) A) (xcE D (exN E) [oX xa ra xi, (xa 3, .inl (k 6, 4, .inr (.inr (.inr (.inr (fun i => some (sa i))))))), (sa j, .inr (2, [.ref qa])), (qa, .inl (k 3, sn, .inl sf))] A) A 3 222 H locs 60 ls [.long s0_60] := by
    intro s0_60 H locs hP hD hS hf ls hl
    unfold fX0_isBit_s1x_B60 at hf
    refine lv_lstore (lv' := [(6, .long s0_60), (2, .int p2), (3, .int p3)]) hx hb dX0_isBit_60 hl (by decide) rfl (fun ls hl => ?_)
    refine lv_lload hx hb dX0_isBit_62 (lv_at hl 0 rfl) ?_
    refine lv_iload_n hx hb dX0_isBit_64 rfl (lv_at hl 2 rfl) ?_
    refine lv_iload_n hx hb dX0_isBit_65 rfl (lv_at hl 1 rfl) ?_
    obtain ⟨v6, ev6, hf⟩ := ob hf
    refine rd_callS (As := [.int p2]) (rest := [.int p3, .long s0_60]) ⟨hx, hb, hml, hown, hts⟩ (mX0_bitsOf l D k   p2 _ ev6) (va_cwS 1 hts (lw_S q899 q900 q90 q901) rfl rfl rfl hdX0_bitsOf ⟨Nat.le_of_ble_eq_true rfl, Nat.le_of_ble_eq_true rfl⟩) hK rfl hl.1 rfl (Nat.le_of_ble_eq_true rfl) dX0_isBit_66 ⟨Nat.le_of_ble_eq_true rfl, Nat.le_of_ble_eq_true rfl⟩ ?_
    have c8 := on_z hf
    have hf := oi_f c8 hf
    refine lv_irem hx hb dX0_isBit_69 c8 ?_
    refine lv_lshr hx hb dX0_isBit_70 rfl ?_
    refine lv_lconst (v := 1) hx hb dX0_isBit_71 (by decide) ?_
    refine lv_land hx hb dX0_isBit_72 ?_
    refine lv_lconst (v := 1) hx hb dX0_isBit_73 (by decide) ?_
    refine W.lcmp hx hb dX0_isBit_74 ?_
    refine lv_if_ne (tgt := 82) hx hb dX0_isBit_75 (by decide) (fun c9 => ?_) (fun c9 => ?_)
    · have hf := oi_f c9 hf
      refine lv_iconst (v := 0) hx hb dX0_isBit_82 (by decide) ?_
      cases hf
    · have hf := oi_t c9 hf
      refine lv_iconst (v := 1) hx hb dX0_isBit_78 (by decide) ?_
      refine lv_goto (tgt := 83) hx hb dX0_isBit_79 (by decide) ?_
      cases hf
  refine lv_if_ne (tgt := 35) hx hb dX0_isBit_20 (by decide) (fun c5 => ?_) (fun c5 => ?_)
  · have hf := oi_f c5 hf
    refine lv_iload_n hx hb dX0_isBit_35 rfl (lv_at hl 4 rfl) ?_
    refine lv_iconst (v := 1) hx hb dX0_isBit_36 (by decide) ?_
    refine lv_icmp_ne (tgt := 52) hx hb dX0_isBit_37 (by decide) (fun c10 => ?_) (fun c10 => ?_)
    · have hf := oi_f c10 hf
      refine lv_aload hx hb dX0_isBit_52 (lv_at hl 1 rfl) ?_
      refine x_castX (na := "[B") hx hb hK hown (hts _ q871) hP 3 3 0 rfl rfl rfl (by decide +kernel) (by decide +kernel) (by decide +kernel) (by decide +kernel) (hK.nc 1 rfl) cce_BJ dX0_isBit_54 (fun tx htx => ?_)
      refine x_noteC htx hx hst hts hK hP hZ hS (hl.1.trans hml.symm) (Nat.le_of_ble_eq_true rfl) (Nat.le_of_ble_eq_true rfl) (Nat.le_of_ble_eq_true rfl) (Nat.le_of_ble_eq_true rfl) hlk (fun H q9 ce hP hS hc9 hv9 hcl9 => ?_)
      cases hf
      exact wx_out hex hlk hc9 hv9 hcl9 hP hS (Nat.le_of_ble_eq_true rfl) (Nat.le_of_ble_eq_true rfl)
    · have hf := oi_t c10 hf
      refine lv_aload hx hb dX0_isBit_40 (lv_at hl 1 rfl) ?_
      refine x_castX (na := "[B") hx hb hK hown (hts _ q870) hP 3 3 1 rfl rfl rfl (by decide +kernel) (by decide +kernel) (by decide +kernel) (by decide +kernel) (hK.nc 0 rfl) cce_BI dX0_isBit_42 (fun tx htx => ?_)
      refine x_noteC htx hx hst hts hK hP hZ hS (hl.1.trans hml.symm) (Nat.le_of_ble_eq_true rfl) (Nat.le_of_ble_eq_true rfl) (Nat.le_of_ble_eq_true rfl) (Nat.le_of_ble_eq_true rfl) hlk (fun H q9 ce hP hS hc9 hv9 hcl9 => ?_)
      cases hf
      exact wx_out hex hlk hc9 hv9 hcl9 hP hS (Nat.le_of_ble_eq_true rfl) (Nat.le_of_ble_eq_true rfl)
  · have hf := oi_t c5 hf
    refine lv_aload hx hb dX0_isBit_23 (lv_at hl 1 rfl) ?_
    refine x_castA hx hb hK hown (hts _ q869) hP 3 3 rfl rfl (by decide +kernel) dX0_isBit_25 ?_
    refine lv_iload hx hb dX0_isBit_28 (lv_at hl 0 rfl) ?_
    by_cases c11 : y4 < 0 ∨ sn ≤ (y4).toNatClampNeg
    · have hf := oi_t c11 hf
      refine vx_baldZ hx hb hK.1 hP 3 3 rfl rfl (fun z => z c11) dX0_isBit_30 (fun tx htx => ?_)
      refine x_noteA htx hsn hx hst hts hK hP hZ hS (hl.1.trans hml.symm) (Nat.le_of_ble_eq_true rfl) (Nat.le_of_ble_eq_true rfl) (Nat.le_of_ble_eq_true rfl) (Nat.le_of_ble_eq_true rfl) hlk (fun H q9 ce hP hS hc9 hv9 hcl9 => ?_)
      cases hf
      exact wx_out hex hlk hc9 hv9 hcl9 hP hS (Nat.le_of_ble_eq_true rfl) (Nat.le_of_ble_eq_true rfl)
    have hf := oi_f c11 hf
    obtain ⟨v12, ev12, hf⟩ := ob hf
    refine x_bald hx hb hK hP 3 3 ev12 rfl rfl dX0_isBit_30 ?_
    refine lv_i2l hx hb dX0_isBit_31 rfl ?_
    refine lv_goto (tgt := 60) hx hb dX0_isBit_32 (by decide) ?_
    exact hB60 ((v12).toInt64) H locs hP hD hS hf ls (lv_sub hl [4, 5] rfl)

abbrev rmX0_bitBecomes_s1 : Room := { frames := 2, cells := 0, slots := 0, locals := 51 }
theorem hdX0_bitBecomes_s1 : yX0_bitBecomes.cls ≠ "java/lang/invoke/MethodHandle" ∧ yX0_bitBecomes.cls ≠ "java/lang/invoke/VarHandle" ∧ (parseMethodDescriptor yX0_bitBecomes.desc).map (fun d => d.parameters.length) = some 4 := by decide +kernel
abbrev qcX0_bitBecomes_s1 (D : va_G) (k : Nat → ClassId) (xa : Nat → Nat) (ra : Nat → Nat → Nat) (sa : Nat → Nat) (qa : Nat) (j : Nat) (sn : Nat) (xi : Nat → Int32) (sf : Nat → Int32) (A : Nat → Prop) : Array Value → State → Outcome → State → Prop := va_Qv (fun (_ : Unit) => True) (fun _ t => va_P D vwCl [oX xa ra xi, (xa 3, .inl (k 6, 4, .inr (.inr (.inr (.inr (fun i => some (sa i))))))), (sa j, .inr (2, [.ref qa])), (qa, .inl (k 3, sn, .inl sf))] t.heap) A
set_option maxHeartbeats 4000000 in
theorem mX0_bitBecomes_s1 (l : Launch) (D : va_G) (k : Nat → ClassId) (xa : Nat → Nat) (ra : Nat → Nat → Nat) (sa : Nat → Nat) (qa : Nat) (j : Nat) (sn : Nat) (hj : j < 4) (hsn : sn < 2 ^ 31) (xi : Nat → Int32) (sf : Nat → Int32) (p2 : Int32) (p3 : Int32) (p4 : Int32) (sz : Nat) (sf_o : Nat → Int32) (hf : fX0_bitBecomes_s1 j sn sf p2 p3 p4 = some sf_o) : Met l yX0_bitBecomes (ws_ yX0_bitBecomes cX0_bitBecomes 11 none) rmX0_bitBecomes_s1 (wrP D k [oX xa ra xi, (xa 3, .inl (k 6, 4, .inr (.inr (.inr (.inr (fun i => some (sa i))))))), (sa j, .inr (2, [.ref qa])), (qa, .inl (k 3, sn, .inl sf))] sz [.ref (xa 0), .int (nI j), .int p2, .int p3, .int p4]) (qcX0_bitBecomes_s1 D k xa ra sa qa j sn xi sf_o (va_A [oX xa ra xi, (xa 3, .inl (k 6, 4, .inr (.inr (.inr (.inr (fun i => some (sa i))))))), (sa j, .inr (2, [.ref qa])), (qa, .inl (k 3, sn, .inl sf))] sz)) 0 0 (va_A [oX xa ra xi, (xa 3, .inl (k 6, 4, .inr (.inr (.inr (.inr (fun i => some (sa i))))))), (sa j, .inr (2, [.ref qa])), (qa, .inl (k 3, sn, .inl sf))] sz) := by
  refine wr_start (Qc := fun A => qcX0_bitBecomes_s1 D k xa ra sa qa j sn xi sf_o A) (by decide +kernel) (Nat.le_of_ble_eq_true rfl) ?_
  intro p e s m below meth c ls A hA hx hb hr hlk hml hown hts hP hK hD hl
  have hl : lv_has ls 11 [(0, .ref (xa 0)), (1, .int (nI j)), (2, .int p2), (3, .int p3), (4, .int p4)] := hl
  have hown : s.vm.findClass RX0 = some m.cls := hown
  have hS : va_S A s.heap s.heap [] := va_S.rf
  suffices hw : ∀ (H : Heap) (locs : List Loc), va_P D vwCl [oX xa ra xi, (xa 3, .inl (k 6, 4, .inr (.inr (.inr (.inr (fun i => some (sa i))))))), (sa j, .inr (2, [.ref qa])), (qa, .inl (k 3, sn, .inl sf))] H → va_S A s.heap H locs → gW p l e rmX0_bitBecomes_s1 s m [.ref (xa 0), .int (nI j), .int p2, .int p3, .int p4] below meth c (qcX0_bitBecomes_s1 D k xa ra sa qa j sn xi sf_o A) A 0 0 H locs 0 ls [] from hw s.heap [] hP hS
  clear hP hS
  intro H locs hP hS
  unfold fX0_bitBecomes_s1 at hf
  refine lv_aload_n hx hb dX0_bitBecomes_0 rfl (lv_at hl 0 rfl) ?_
  refine va_get (D := D) (cl := vwCl) (ci := 0) (v := .ref (xa 3)) (C := RX0) (T := TX0) (N := 15) hx hb hts in_X0 hown hK.1 hP 0 rfl rfl 12 (by decide) (hts _ q203) (fun _ h9 => h9) rfl dX0_bitBecomes_1 ?_
  refine lv_iload_n hx hb dX0_bitBecomes_4 rfl (lv_at hl 1 rfl) ?_
  refine x_aald hx hb hK hP 1 6 (j := j) (n := 4) rfl hj (by decide) rfl rfl rfl dX0_bitBecomes_5 ?_
  refine va_getN (D := D) (cl := vwCl) (ci := 2) (v := .ref qa) (C := RX2) (T := TX2) (N := 1) hx hb hts in_X2 hown hK.1 hP 2 rfl rfl 0 (by decide) (hK.nw 8 rfl) (fun _ h9 => h9) rfl dX0_bitBecomes_6 ?_
  refine lv_astore (lv' := [(5, .ref qa), (0, .ref (xa 0)), (1, .int (nI j)), (2, .int p2), (3, .int p3), (4, .int p4)]) hx hb dX0_bitBecomes_9 hl (by decide) rfl (fun ls hl => ?_)
  refine lv_iload_n hx hb dX0_bitBecomes_11 rfl (lv_at hl 4 rfl) ?_
  refine lv_iload_n hx hb dX0_bitBecomes_12 rfl (lv_at hl 3 rfl) ?_
  obtain ⟨v1, ev1, hf⟩ := ob hf
  refine rd_callS (As := [.int p2]) (rest := [.int p3]) ⟨hx, hb, hml, hown, hts⟩ (mX0_bitsOf l D k   p2 _ ev1) (va_cwS 1 hts (lw_S q899 q900 q90 q901) rfl rfl rfl hdX0_bitsOf ⟨Nat.le_of_ble_eq_true rfl, Nat.le_of_ble_eq_true rfl⟩) hK rfl hl.1 rfl (Nat.le_of_ble_eq_true rfl) dX0_bitBecomes_13 ⟨Nat.le_of_ble_eq_true rfl, Nat.le_of_ble_eq_true rfl⟩ ?_
  have c3 := on_z hf
  have hf := oi_f c3 hf
  refine lv_idiv hx hb dX0_bitBecomes_16 c3 ?_
  obtain ⟨y4, ey4, hf⟩ := ob hf
  refine x_asI ey4 ?_
  refine lv_istore (lv' := [(6, .int y4), (5, .ref qa), (0, .ref (xa 0)), (1, .int (nI j)), (2, .int p2), (3, .int p3), (4, .int p4)]) hx hb dX0_bitBecomes_17 hl (by decide) rfl (fun ls hl => ?_)
  refine lv_iload_n hx hb dX0_bitBecomes_19 rfl (lv_at hl 4 rfl) ?_
  have hB60 : ∀ (sf_60 : Nat → Int32) (x6_60 : Int32) (s0_60 : Int64), ∀ (H : Heap) (locs : List Loc), va_P D vwCl [oX xa ra xi, (xa 3, .inl (k 6, 4, .inr (.inr (.inr (.inr (fun i => some (sa i))))))), (sa j, .inr (2, [.ref qa])), (qa, .inl (k 3, sn, .inl sf_60))] H → va_D A [oX xa ra xi, (xa 3, .inl (k 6, 4, .inr (.inr (.inr (.inr (fun i => some (sa i))))))), (sa j, .inr (2, [.ref qa])), (qa, .inl (k 3, sn, .inl sf_60))] → va_S A s.heap H locs → fX0_bitBecomes_s1_B60 j sn p2 p3 p4 sf_60 x6_60 s0_60 = some sf_o → ∀ ls : Array Slot, lv_has ls 11 [(0, .ref (xa 0)), (1, .int (nI j)), (2, .int p2), (3, .int p3), (4, .int p4), (6, .int x6_60)] → gW p l e rmX0_bitBecomes_s1 s m [.ref (xa 0), .int (nI j), .int p2, .int p3, .int p4] below meth c (qcX0_bitBecomes_s1 D k xa ra sa qa j sn xi sf_o A) A 0 0 H locs 60 ls [.long s0_60] := by
    intro sf_60 x6_60 s0_60 H locs hP hD hS hf ls hl
    unfold fX0_bitBecomes_s1_B60 at hf
    refine lv_lstore (lv' := [(7, .long s0_60), (0, .ref (xa 0)), (1, .int (nI j)), (2, .int p2), (3, .int p3), (4, .int p4), (6, .int x6_60)]) hx hb dX0_bitBecomes_60 hl (by decide) rfl (fun ls hl => ?_)
    refine lv_lconst (v := 1) hx hb dX0_bitBecomes_62 (by decide) ?_
    refine lv_iload_n hx hb dX0_bitBecomes_63 rfl (lv_at hl 4 rfl) ?_
    refine lv_iload_n hx hb dX0_bitBecomes_64 rfl (lv_at hl 3 rfl) ?_
    obtain ⟨v6, ev6, hf⟩ := ob hf
    refine rd_callS (As := [.int p2]) (rest := [.int p3, .long (1 : Int64)]) ⟨hx, hb, hml, hown, hts⟩ (mX0_bitsOf l D k   p2 _ ev6) (va_cwS 1 hts (lw_S q899 q900 q90 q901) rfl rfl rfl hdX0_bitsOf ⟨Nat.le_of_ble_eq_true rfl, Nat.le_of_ble_eq_true rfl⟩) hK rfl hl.1 rfl (Nat.le_of_ble_eq_true rfl) dX0_bitBecomes_65 ⟨Nat.le_of_ble_eq_true rfl, Nat.le_of_ble_eq_true rfl⟩ ?_
    have c8 := on_z hf
    have hf := oi_f c8 hf
    refine lv_irem hx hb dX0_bitBecomes_68 c8 ?_
    refine lv_lshl hx hb dX0_bitBecomes_69 rfl ?_
    obtain ⟨y9, ey9, hf⟩ := ob hf
    refine x_asL ey9 ?_
    refine lv_lstore (lv' := [(9, .long y9), (7, .long s0_60), (0, .ref (xa 0)), (1, .int (nI j)), (2, .int p2), (3, .int p3), (4, .int p4), (6, .int x6_60)]) hx hb dX0_bitBecomes_70 hl (by decide) rfl (fun ls hl => ?_)
    refine lv_aload_n hx hb dX0_bitBecomes_72 rfl (lv_at hl 2 rfl) ?_
    refine lv_iload_n hx hb dX0_bitBecomes_73 rfl (lv_at hl 3 rfl) ?_
    refine lv_iload hx hb dX0_bitBecomes_74 (lv_at hl 7 rfl) ?_
    refine lv_iload hx hb dX0_bitBecomes_76 (lv_at hl 6 rfl) ?_
    have hB98 : ∀ (sf_98 : Nat → Int32) (s0_98 : Int64) (s1_98 : Int32), ∀ (H : Heap) (locs : List Loc), va_P D vwCl [oX xa ra xi, (xa 3, .inl (k 6, 4, .inr (.inr (.inr (.inr (fun i => some (sa i))))))), (sa j, .inr (2, [.ref qa])), (qa, .inl (k 3, sn, .inl sf_98))] H → va_D A [oX xa ra xi, (xa 3, .inl (k 6, 4, .inr (.inr (.inr (.inr (fun i => some (sa i))))))), (sa j, .inr (2, [.ref qa])), (qa, .inl (k 3, sn, .inl sf_98))] → va_S A s.heap H locs → fX0_bitBecomes_s1_B98 j sn p2 p3 p4 sf_98 s0_98 s1_98 = some sf_o → ∀ ls : Array Slot, lv_has ls 11 [] → gW p l e rmX0_bitBecomes_s1 s m [.ref (xa 0), .int (nI j), .int p2, .int p3, .int p4] below meth c (qcX0_bitBecomes_s1 D k xa ra sa qa j sn xi sf_o A) A 0 0 H locs 98 ls [.long s0_98, .int s1_98, .int (nI j), .ref (xa 0)] := by
      intro sf_98 s0_98 s1_98 H locs hP hD hS hf ls hl
      unfold fX0_bitBecomes_s1_B98 at hf
      obtain ⟨⟨v11, g12⟩, et13, hf⟩ := ob hf
      refine wr_callVW (As := [.int (nI j), .int s1_98, .long s0_98]) (rest := []) ⟨hx, hb, hml, hown, hts⟩ (mX0_lay_s1n l D k xa ra sa qa j sn hj hsn xi sf_98 s1_98 s0_98 _ _ _ et13) (vx_cwVW 3 hts (lw_VW q915 q822 q823 q90 q824) rfl rfl rfl ⟨rfl, hdX0_lay_s1n⟩ ⟨Nat.le_of_ble_eq_true rfl, Nat.le_of_ble_eq_true rfl⟩) hK hP hD hS hA [0, 1, 2, 3] [] [oX xa ra xi, (xa 3, .inl (k 6, 4, .inr (.inr (.inr (.inr (fun i => some (sa i))))))), (sa j, .inr (2, [.ref qa])), (qa, .inl (k 3, sn, .inl g12))] rfl rfl fm_n 4 rfl (by decide) (by decide) [(xa 0), (xa 3), (sa j), qa] rfl rfl 0 0 rfl rfl rfl hl.1 rfl (Nat.le_of_ble_eq_true rfl) dX0_bitBecomes_98 ⟨Nat.le_of_ble_eq_true rfl, Nat.le_of_ble_eq_true rfl⟩ (fun H locs hP hD hS => ?_)
      refine lv_pop hx hb dX0_bitBecomes_101 rfl ?_
      have he1 := Option.some.inj hf
      rw [he1] at hP
      exact wr_vret hx hb hr hlk hP hS dX0_bitBecomes_102
    refine lv_if_eq (tgt := 89) hx hb dX0_bitBecomes_78 (by decide) (fun c10 => ?_) (fun c10 => ?_)
    · have hf := oi_t c10 hf
      refine lv_lload hx hb dX0_bitBecomes_89 (lv_at hl 1 rfl) ?_
      refine lv_lload hx hb dX0_bitBecomes_91 (lv_at hl 0 rfl) ?_
      refine lv_ldc2 hx hb hown (hts _ q914) dX0_bitBecomes_93 ?_
      refine lv_lxor hx hb dX0_bitBecomes_96 ?_
      refine lv_land hx hb dX0_bitBecomes_97 ?_
      exact hB98 sf_60 (s0_60 &&& (y9 ^^^ (-1 : Int64))) x6_60 H locs hP hD hS hf ls (lv_sub hl [] rfl)
    · have hf := oi_f c10 hf
      refine lv_lload hx hb dX0_bitBecomes_81 (lv_at hl 1 rfl) ?_
      refine lv_lload hx hb dX0_bitBecomes_83 (lv_at hl 0 rfl) ?_
      refine lv_lor hx hb dX0_bitBecomes_85 ?_
      refine lv_goto (tgt := 98) hx hb dX0_bitBecomes_86 (by decide) ?_
      exact hB98 sf_60 (s0_60 ||| y9) x6_60 H locs hP hD hS hf ls (lv_sub hl [] rfl)
  refine lv_if_ne (tgt := 35) hx hb dX0_bitBecomes_20 (by decide) (fun c5 => ?_) (fun c5 => ?_)
  · have hf := oi_f c5 hf
    refine lv_iload_n hx hb dX0_bitBecomes_35 rfl (lv_at hl 4 rfl) ?_
    refine lv_iconst (v := 1) hx hb dX0_bitBecomes_36 (by decide) ?_
    refine lv_icmp_ne (tgt := 52) hx hb dX0_bitBecomes_37 (by decide) (fun c14 => ?_) (fun c14 => ?_)
    · have hf := oi_f c14 hf
      refine lv_aload hx hb dX0_bitBecomes_52 (lv_at hl 1 rfl) ?_
      cases hf
    · have hf := oi_t c14 hf
      refine lv_aload hx hb dX0_bitBecomes_40 (lv_at hl 1 rfl) ?_
      cases hf
  · have hf := oi_t c5 hf
    refine lv_aload hx hb dX0_bitBecomes_23 (lv_at hl 1 rfl) ?_
    refine x_castA hx hb hK hown (hts _ q869) hP 3 3 rfl rfl (by decide +kernel) dX0_bitBecomes_25 ?_
    refine lv_iload hx hb dX0_bitBecomes_28 (lv_at hl 0 rfl) ?_
    obtain ⟨v15, ev15, hf⟩ := ob hf
    refine x_bald hx hb hK hP 3 3 ev15 rfl rfl dX0_bitBecomes_30 ?_
    refine lv_i2l hx hb dX0_bitBecomes_31 rfl ?_
    refine lv_goto (tgt := 60) hx hb dX0_bitBecomes_32 (by decide) ?_
    exact hB60 sf y4 ((v15).toInt64) H locs hP hD hS hf ls (lv_sub hl [2, 3, 4, 5, 6, 0] rfl)

abbrev rmX0_bitBecomes_s1x : Room := { frames := 8, cells := 3, slots := 222, locals := 10248 }
theorem hdX0_bitBecomes_s1x : yX0_bitBecomes.cls ≠ "java/lang/invoke/MethodHandle" ∧ yX0_bitBecomes.cls ≠ "java/lang/invoke/VarHandle" ∧ (parseMethodDescriptor yX0_bitBecomes.desc).map (fun d => d.parameters.length) = some 4 := by decide +kernel
set_option maxHeartbeats 4000000 in
theorem mX0_bitBecomes_s1x (l : Launch) (hst : l.stackTraces = false) (D : va_G) (k : Nat → ClassId) (xa : Nat → Nat) (ra : Nat → Nat → Nat) (sa : Nat → Nat) (qa : Nat) (j : Nat) (sn : Nat) (hj : j < 4) (hsn : sn < 2 ^ 31) (xi : Nat → Int32) (sf : Nat → Int32) (p2 : Int32) (p3 : Int32) (p4 : Int32) (sz : Nat) (E : Nat) (hf : fX0_bitBecomes_s1x j sn sf p2 p3 p4 = some E) : vx_Met l yX0_bitBecomes (ws_ yX0_bitBecomes cX0_bitBecomes 11 none) rmX0_bitBecomes_s1x (wxP D k [oX xa ra xi, (xa 3, .inl (k 6, 4, .inr (.inr (.inr (.inr (fun i => some (sa i))))))), (sa j, .inr (2, [.ref qa])), (qa, .inl (k 3, sn, .inl sf))] sz [.ref (xa 0), .int (nI j), .int p2, .int p3, .int p4]) (va_Qv (fun (_ : Unit) => False) (fun _ _ => True) (va_A [oX xa ra xi, (xa 3, .inl (k 6, 4, .inr (.inr (.inr (.inr (fun i => some (sa i))))))), (sa j, .inr (2, [.ref qa])), (qa, .inl (k 3, sn, .inl sf))] sz)) (xcE D (exN E) [oX xa ra xi, (xa 3, .inl (k 6, 4, .inr (.inr (.inr (.inr (fun i => some (sa i))))))), (sa j, .inr (2, [.ref qa])), (qa, .inl (k 3, sn, .inl sf))] (va_A [oX xa ra xi, (xa 3, .inl (k 6, 4, .inr (.inr (.inr (.inr (fun i => some (sa i))))))), (sa j, .inr (2, [.ref qa])), (qa, .inl (k 3, sn, .inl sf))] sz)) 3 222 (va_A [oX xa ra xi, (xa 3, .inl (k 6, 4, .inr (.inr (.inr (.inr (fun i => some (sa i))))))), (sa j, .inr (2, [.ref qa])), (qa, .inl (k 3, sn, .inl sf))] sz) := by
  refine wx_startX (Qc := fun A => (va_Qv (fun (_ : Unit) => False) (fun _ _ => True) A)) (XC := fun A => xcE D (exN E) [oX xa ra xi, (xa 3, .inl (k 6, 4, .inr (.inr (.inr (.inr (fun i => some (sa i))))))), (sa j, .inr (2, [.ref qa])), (qa, .inl (k 3, sn, .inl sf))] A) (by decide +kernel) (Nat.le_of_ble_eq_true rfl) ?_
  intro p e s m below meth c ls A hA hx hb hr hlk hml hown hts hP hK hD hZ hex hl
  have hl : lv_has ls 11 [(0, .ref (xa 0)), (1, .int (nI j)), (2, .int p2), (3, .int p3), (4, .int p4)] := hl
  have hown : s.vm.findClass RX0 = some m.cls := hown
  have hS : va_S A s.heap s.heap [] := va_S.rf
  suffices hw : ∀ (H : Heap) (locs : List Loc), va_P D vwCl [oX xa ra xi, (xa 3, .inl (k 6, 4, .inr (.inr (.inr (.inr (fun i => some (sa i))))))), (sa j, .inr (2, [.ref qa])), (qa, .inl (k 3, sn, .inl sf))] H → va_S A s.heap H locs → gX p l e rmX0_bitBecomes_s1x s m [.ref (xa 0), .int (nI j), .int p2, .int p3, .int p4] below meth c (va_Qv (fun (_ : Unit) => False) (fun _ _ => True) A) (xcE D (exN E) [oX xa ra xi, (xa 3, .inl (k 6, 4, .inr (.inr (.inr (.inr (fun i => some (sa i))))))), (sa j, .inr (2, [.ref qa])), (qa, .inl (k 3, sn, .inl sf))] A) A 3 222 H locs 0 ls [] from hw s.heap [] hP hS
  clear hP hS
  intro H locs hP hS
  unfold fX0_bitBecomes_s1x at hf
  refine lv_aload_n hx hb dX0_bitBecomes_0 rfl (lv_at hl 0 rfl) ?_
  refine va_get (D := D) (cl := vwCl) (ci := 0) (v := .ref (xa 3)) (C := RX0) (T := TX0) (N := 15) hx hb hts in_X0 hown hK.1 hP 0 rfl rfl 12 (by decide) (hts _ q203) (fun _ h9 => h9) rfl dX0_bitBecomes_1 ?_
  refine lv_iload_n hx hb dX0_bitBecomes_4 rfl (lv_at hl 1 rfl) ?_
  refine x_aald hx hb hK hP 1 6 (j := j) (n := 4) rfl hj (by decide) rfl rfl rfl dX0_bitBecomes_5 ?_
  refine va_getN (D := D) (cl := vwCl) (ci := 2) (v := .ref qa) (C := RX2) (T := TX2) (N := 1) hx hb hts in_X2 hown hK.1 hP 2 rfl rfl 0 (by decide) (hK.nw 8 rfl) (fun _ h9 => h9) rfl dX0_bitBecomes_6 ?_
  refine lv_astore (lv' := [(5, .ref qa), (0, .ref (xa 0)), (1, .int (nI j)), (2, .int p2), (3, .int p3), (4, .int p4)]) hx hb dX0_bitBecomes_9 hl (by decide) rfl (fun ls hl => ?_)
  refine lv_iload_n hx hb dX0_bitBecomes_11 rfl (lv_at hl 4 rfl) ?_
  refine lv_iload_n hx hb dX0_bitBecomes_12 rfl (lv_at hl 3 rfl) ?_
  obtain ⟨v1, ev1, hf⟩ := ob hf
  refine rd_callS (As := [.int p2]) (rest := [.int p3]) ⟨hx, hb, hml, hown, hts⟩ (mX0_bitsOf l D k   p2 _ ev1) (va_cwS 1 hts (lw_S q899 q900 q90 q901) rfl rfl rfl hdX0_bitsOf ⟨Nat.le_of_ble_eq_true rfl, Nat.le_of_ble_eq_true rfl⟩) hK rfl hl.1 rfl (Nat.le_of_ble_eq_true rfl) dX0_bitBecomes_13 ⟨Nat.le_of_ble_eq_true rfl, Nat.le_of_ble_eq_true rfl⟩ ?_
  have c3 := on_z hf
  have hf := oi_f c3 hf
  refine lv_idiv hx hb dX0_bitBecomes_16 c3 ?_
  obtain ⟨y4, ey4, hf⟩ := ob hf
  refine x_asI ey4 ?_
  refine lv_istore (lv' := [(6, .int y4), (5, .ref qa), (0, .ref (xa 0)), (1, .int (nI j)), (2, .int p2), (3, .int p3), (4, .int p4)]) hx hb dX0_bitBecomes_17 hl (by decide) rfl (fun ls hl => ?_)
  refine lv_iload_n hx hb dX0_bitBecomes_19 rfl (lv_at hl 4 rfl) ?_
  have hB60 : ∀ (sf_60 : Nat → Int32) (x6_60 : Int32) (s0_60 : Int64), ∀ (H : Heap) (locs : List Loc), va_P D vwCl [oX xa ra xi, (xa 3, .inl (k 6, 4, .inr (.inr (.inr (.inr (fun i => some (sa i))))))), (sa j, .inr (2, [.ref qa])), (qa, .inl (k 3, sn, .inl sf_60))] H → va_D A [oX xa ra xi, (xa 3, .inl (k 6, 4, .inr (.inr (.inr (.inr (fun i => some (sa i))))))), (sa j, .inr (2, [.ref qa])), (qa, .inl (k 3, sn, .inl sf_60))] → va_S A s.heap H locs → fX0_bitBecomes_s1x_B60 j sn p2 p3 p4 sf_60 x6_60 s0_60 = some E → ∀ ls : Array Slot, lv_has ls 11 [(0, .ref (xa 0)), (1, .int (nI j)), (2, .int p2), (3, .int p3), (4, .int p4), (6, .int x6_60)] → gX p l e rmX0_bitBecomes_s1x s m [.ref (xa 0), .int (nI j), .int p2, .int p3, .int p4] below meth c (va_Qv (fun (_ : Unit) => False) (fun _ _ => True) A) (xcE D (exN E) [oX xa ra xi, (xa 3, .inl (k 6, 4, .inr (.inr (.inr (.inr (fun i => some (sa i))))))), (sa j, .inr (2, [.ref qa])), (qa, .inl (k 3, sn, .inl sf))] A) A 3 222 H locs 60 ls [.long s0_60] := by
    intro sf_60 x6_60 s0_60 H locs hP hD hS hf ls hl
    unfold fX0_bitBecomes_s1x_B60 at hf
    refine lv_lstore (lv' := [(7, .long s0_60), (0, .ref (xa 0)), (1, .int (nI j)), (2, .int p2), (3, .int p3), (4, .int p4), (6, .int x6_60)]) hx hb dX0_bitBecomes_60 hl (by decide) rfl (fun ls hl => ?_)
    refine lv_lconst (v := 1) hx hb dX0_bitBecomes_62 (by decide) ?_
    refine lv_iload_n hx hb dX0_bitBecomes_63 rfl (lv_at hl 4 rfl) ?_
    refine lv_iload_n hx hb dX0_bitBecomes_64 rfl (lv_at hl 3 rfl) ?_
    obtain ⟨v6, ev6, hf⟩ := ob hf
    refine rd_callS (As := [.int p2]) (rest := [.int p3, .long (1 : Int64)]) ⟨hx, hb, hml, hown, hts⟩ (mX0_bitsOf l D k   p2 _ ev6) (va_cwS 1 hts (lw_S q899 q900 q90 q901) rfl rfl rfl hdX0_bitsOf ⟨Nat.le_of_ble_eq_true rfl, Nat.le_of_ble_eq_true rfl⟩) hK rfl hl.1 rfl (Nat.le_of_ble_eq_true rfl) dX0_bitBecomes_65 ⟨Nat.le_of_ble_eq_true rfl, Nat.le_of_ble_eq_true rfl⟩ ?_
    have c8 := on_z hf
    have hf := oi_f c8 hf
    refine lv_irem hx hb dX0_bitBecomes_68 c8 ?_
    refine lv_lshl hx hb dX0_bitBecomes_69 rfl ?_
    obtain ⟨y9, ey9, hf⟩ := ob hf
    refine x_asL ey9 ?_
    refine lv_lstore (lv' := [(9, .long y9), (7, .long s0_60), (0, .ref (xa 0)), (1, .int (nI j)), (2, .int p2), (3, .int p3), (4, .int p4), (6, .int x6_60)]) hx hb dX0_bitBecomes_70 hl (by decide) rfl (fun ls hl => ?_)
    refine lv_aload_n hx hb dX0_bitBecomes_72 rfl (lv_at hl 2 rfl) ?_
    refine lv_iload_n hx hb dX0_bitBecomes_73 rfl (lv_at hl 3 rfl) ?_
    refine lv_iload hx hb dX0_bitBecomes_74 (lv_at hl 7 rfl) ?_
    refine lv_iload hx hb dX0_bitBecomes_76 (lv_at hl 6 rfl) ?_
    have hB98 : ∀ (sf_98 : Nat → Int32) (s0_98 : Int64) (s1_98 : Int32), ∀ (H : Heap) (locs : List Loc), va_P D vwCl [oX xa ra xi, (xa 3, .inl (k 6, 4, .inr (.inr (.inr (.inr (fun i => some (sa i))))))), (sa j, .inr (2, [.ref qa])), (qa, .inl (k 3, sn, .inl sf_98))] H → va_D A [oX xa ra xi, (xa 3, .inl (k 6, 4, .inr (.inr (.inr (.inr (fun i => some (sa i))))))), (sa j, .inr (2, [.ref qa])), (qa, .inl (k 3, sn, .inl sf_98))] → va_S A s.heap H locs → fX0_bitBecomes_s1x_B98 j sn p2 p3 p4 sf_98 s0_98 s1_98 = some E → ∀ ls : Array Slot, lv_has ls 11 [] → gX p l e rmX0_bitBecomes_s1x s m [.ref (xa 0), .int (nI j), .int p2, .int p3, .int p4] below meth c (va_Qv (fun (_ : Unit) => False) (fun _ _ => True) A) (xcE D (exN E) [oX xa ra xi, (xa 3, .inl (k 6, 4, .inr (.inr (.inr (.inr (fun i => some (sa i))))))), (sa j, .inr (2, [.ref qa])), (qa, .inl (k 3, sn, .inl sf))] A) A 3 222 H locs 98 ls [.long s0_98, .int s1_98, .int (nI j), .ref (xa 0)] := by
      intro sf_98 s0_98 s1_98 H locs hP hD hS hf ls hl
      unfold fX0_bitBecomes_s1x_B98 at hf
      obtain ⟨⟨v11, g12⟩, et13, hf⟩ := ob hf
      refine wr_callVW (As := [.int (nI j), .int s1_98, .long s0_98]) (rest := []) ⟨hx, hb, hml, hown, hts⟩ (mX0_lay_s1n l D k xa ra sa qa j sn hj hsn xi sf_98 s1_98 s0_98 _ _ _ et13) (vx_cwVW 3 hts (lw_VW q915 q822 q823 q90 q824) rfl rfl rfl ⟨rfl, hdX0_lay_s1n⟩ ⟨Nat.le_of_ble_eq_true rfl, Nat.le_of_ble_eq_true rfl⟩) hK hP hD hS hA [0, 1, 2, 3] [] [oX xa ra xi, (xa 3, .inl (k 6, 4, .inr (.inr (.inr (.inr (fun i => some (sa i))))))), (sa j, .inr (2, [.ref qa])), (qa, .inl (k 3, sn, .inl g12))] rfl rfl fm_n 4 rfl (by decide) (by decide) [(xa 0), (xa 3), (sa j), qa] rfl rfl 0 0 rfl rfl rfl hl.1 rfl (Nat.le_of_ble_eq_true rfl) dX0_bitBecomes_98 ⟨Nat.le_of_ble_eq_true rfl, Nat.le_of_ble_eq_true rfl⟩ (fun H locs hP hD hS => ?_)
      refine lv_pop hx hb dX0_bitBecomes_101 rfl ?_
      cases hf
    refine lv_if_eq (tgt := 89) hx hb dX0_bitBecomes_78 (by decide) (fun c10 => ?_) (fun c10 => ?_)
    · have hf := oi_t c10 hf
      refine lv_lload hx hb dX0_bitBecomes_89 (lv_at hl 1 rfl) ?_
      refine lv_lload hx hb dX0_bitBecomes_91 (lv_at hl 0 rfl) ?_
      refine lv_ldc2 hx hb hown (hts _ q914) dX0_bitBecomes_93 ?_
      refine lv_lxor hx hb dX0_bitBecomes_96 ?_
      refine lv_land hx hb dX0_bitBecomes_97 ?_
      exact hB98 sf_60 (s0_60 &&& (y9 ^^^ (-1 : Int64))) x6_60 H locs hP hD hS hf ls (lv_sub hl [] rfl)
    · have hf := oi_f c10 hf
      refine lv_lload hx hb dX0_bitBecomes_81 (lv_at hl 1 rfl) ?_
      refine lv_lload hx hb dX0_bitBecomes_83 (lv_at hl 0 rfl) ?_
      refine lv_lor hx hb dX0_bitBecomes_85 ?_
      refine lv_goto (tgt := 98) hx hb dX0_bitBecomes_86 (by decide) ?_
      exact hB98 sf_60 (s0_60 ||| y9) x6_60 H locs hP hD hS hf ls (lv_sub hl [] rfl)
  refine lv_if_ne (tgt := 35) hx hb dX0_bitBecomes_20 (by decide) (fun c5 => ?_) (fun c5 => ?_)
  · have hf := oi_f c5 hf
    refine lv_iload_n hx hb dX0_bitBecomes_35 rfl (lv_at hl 4 rfl) ?_
    refine lv_iconst (v := 1) hx hb dX0_bitBecomes_36 (by decide) ?_
    refine lv_icmp_ne (tgt := 52) hx hb dX0_bitBecomes_37 (by decide) (fun c14 => ?_) (fun c14 => ?_)
    · have hf := oi_f c14 hf
      refine lv_aload hx hb dX0_bitBecomes_52 (lv_at hl 1 rfl) ?_
      refine x_castX (na := "[B") hx hb hK hown (hts _ q871) hP 3 3 0 rfl rfl rfl (by decide +kernel) (by decide +kernel) (by decide +kernel) (by decide +kernel) (hK.nc 1 rfl) cce_BJ dX0_bitBecomes_54 (fun tx htx => ?_)
      refine x_noteC htx hx hst hts hK hP hZ hS (hl.1.trans hml.symm) (Nat.le_of_ble_eq_true rfl) (Nat.le_of_ble_eq_true rfl) (Nat.le_of_ble_eq_true rfl) (Nat.le_of_ble_eq_true rfl) hlk (fun H q9 ce hP hS hc9 hv9 hcl9 => ?_)
      cases hf
      exact wx_out hex hlk hc9 hv9 hcl9 hP hS (Nat.le_of_ble_eq_true rfl) (Nat.le_of_ble_eq_true rfl)
    · have hf := oi_t c14 hf
      refine lv_aload hx hb dX0_bitBecomes_40 (lv_at hl 1 rfl) ?_
      refine x_castX (na := "[B") hx hb hK hown (hts _ q870) hP 3 3 1 rfl rfl rfl (by decide +kernel) (by decide +kernel) (by decide +kernel) (by decide +kernel) (hK.nc 0 rfl) cce_BI dX0_bitBecomes_42 (fun tx htx => ?_)
      refine x_noteC htx hx hst hts hK hP hZ hS (hl.1.trans hml.symm) (Nat.le_of_ble_eq_true rfl) (Nat.le_of_ble_eq_true rfl) (Nat.le_of_ble_eq_true rfl) (Nat.le_of_ble_eq_true rfl) hlk (fun H q9 ce hP hS hc9 hv9 hcl9 => ?_)
      cases hf
      exact wx_out hex hlk hc9 hv9 hcl9 hP hS (Nat.le_of_ble_eq_true rfl) (Nat.le_of_ble_eq_true rfl)
  · have hf := oi_t c5 hf
    refine lv_aload hx hb dX0_bitBecomes_23 (lv_at hl 1 rfl) ?_
    refine x_castA hx hb hK hown (hts _ q869) hP 3 3 rfl rfl (by decide +kernel) dX0_bitBecomes_25 ?_
    refine lv_iload hx hb dX0_bitBecomes_28 (lv_at hl 0 rfl) ?_
    by_cases c15 : y4 < 0 ∨ sn ≤ (y4).toNatClampNeg
    · have hf := oi_t c15 hf
      refine vx_baldZ hx hb hK.1 hP 3 3 rfl rfl (fun z => z c15) dX0_bitBecomes_30 (fun tx htx => ?_)
      refine x_noteA htx hsn hx hst hts hK hP hZ hS (hl.1.trans hml.symm) (Nat.le_of_ble_eq_true rfl) (Nat.le_of_ble_eq_true rfl) (Nat.le_of_ble_eq_true rfl) (Nat.le_of_ble_eq_true rfl) hlk (fun H q9 ce hP hS hc9 hv9 hcl9 => ?_)
      cases hf
      exact wx_out hex hlk hc9 hv9 hcl9 hP hS (Nat.le_of_ble_eq_true rfl) (Nat.le_of_ble_eq_true rfl)
    have hf := oi_f c15 hf
    obtain ⟨v16, ev16, hf⟩ := ob hf
    refine x_bald hx hb hK hP 3 3 ev16 rfl rfl dX0_bitBecomes_30 ?_
    refine lv_i2l hx hb dX0_bitBecomes_31 rfl ?_
    refine lv_goto (tgt := 60) hx hb dX0_bitBecomes_32 (by decide) ?_
    exact hB60 sf y4 ((v16).toInt64) H locs hP hD hS hf ls (lv_sub hl [2, 3, 4, 5, 6, 0] rfl)

abbrev rmX0_lay_s1 : Room := { frames := 8, cells := 3, slots := 222, locals := 10248 }
theorem hdX0_lay_s1 : yX0_lay.cls ≠ "java/lang/invoke/MethodHandle" ∧ yX0_lay.cls ≠ "java/lang/invoke/VarHandle" ∧ (parseMethodDescriptor yX0_lay.desc).map (fun d => d.parameters.length) = some 3 := by decide +kernel
abbrev qcX0_lay_s1 (D : va_G) (k : Nat → ClassId) (xa : Nat → Nat) (ra : Nat → Nat → Nat) (sa : Nat → Nat) (qa : Nat) (j : Nat) (sn : Nat) (xi : Nat → Int32) (sf : Nat → Int32) (r : Int32) (A : Nat → Prop) : Array Value → State → Outcome → State → Prop := va_Qi (fun x (_ : Unit) => x = r) (fun _ t => va_P D vwCl [oX xa ra xi, (xa 3, .inl (k 6, 4, .inr (.inr (.inr (.inr (fun i => some (sa i))))))), (sa j, .inr (2, [.ref qa])), (qa, .inl (k 3, sn, .inl sf))] t.heap) A
set_option maxHeartbeats 4000000 in
theorem mX0_lay_s1 (l : Launch) (hst : l.stackTraces = false) (D : va_G) (k : Nat → ClassId) (xa : Nat → Nat) (ra : Nat → Nat → Nat) (sa : Nat → Nat) (qa : Nat) (j : Nat) (sn : Nat) (hj : j < 4) (hsn : sn < 2 ^ 31) (xi : Nat → Int32) (sf : Nat → Int32) (p2 : Int32) (p3 : Int64) (sz : Nat) (r : Int32) (sf_o : Nat → Int32) (hf : fX0_lay_s1 j sn sf p2 p3 = some (r, sf_o)) : Met l yX0_lay (wsW_ yX0_lay cX0_lay 7 (some .int) [(25, 75, 76, 324), (25, 75, 81, 326)]) rmX0_lay_s1 (wxP D k [oX xa ra xi, (xa 3, .inl (k 6, 4, .inr (.inr (.inr (.inr (fun i => some (sa i))))))), (sa j, .inr (2, [.ref qa])), (qa, .inl (k 3, sn, .inl sf))] sz [.ref (xa 0), .int (nI j), .int p2, .long p3]) (qcX0_lay_s1 D k xa ra sa qa j sn xi sf_o r (va_A [oX xa ra xi, (xa 3, .inl (k 6, 4, .inr (.inr (.inr (.inr (fun i => some (sa i))))))), (sa j, .inr (2, [.ref qa])), (qa, .inl (k 3, sn, .inl sf))] sz)) 3 222 (va_A [oX xa ra xi, (xa 3, .inl (k 6, 4, .inr (.inr (.inr (.inr (fun i => some (sa i))))))), (sa j, .inr (2, [.ref qa])), (qa, .inl (k 3, sn, .inl sf))] sz) := by
  refine wx_startW (Qc := fun A => qcX0_lay_s1 D k xa ra sa qa j sn xi sf_o r A) (by decide +kernel) (Nat.le_of_ble_eq_true rfl) ?_
  intro p e s m below meth c ls A hA hx hb hr hlk hml hown hts hP hK hD hZ hexc hl
  have hl : lv_has ls 7 [(0, .ref (xa 0)), (1, .int (nI j)), (2, .int p2), (3, .long p3)] := hl
  have hown : s.vm.findClass RX0 = some m.cls := hown
  have hS : va_S A s.heap s.heap [] := va_S.rf
  suffices hw : ∀ (H : Heap) (locs : List Loc), va_P D vwCl [oX xa ra xi, (xa 3, .inl (k 6, 4, .inr (.inr (.inr (.inr (fun i => some (sa i))))))), (sa j, .inr (2, [.ref qa])), (qa, .inl (k 3, sn, .inl sf))] H → va_S A s.heap H locs → gW p l e rmX0_lay_s1 s m [.ref (xa 0), .int (nI j), .int p2, .long p3] below meth c (qcX0_lay_s1 D k xa ra sa qa j sn xi sf_o r A) A 3 222 H locs 0 ls [] from hw s.heap [] hP hS
  clear hP hS
  intro H locs hP hS
  unfold fX0_lay_s1 at hf
  refine lv_iload_n hx hb dX0_lay_0 rfl (lv_at hl 1 rfl) ?_
  refine lv_i2l hx hb dX0_lay_1 rfl ?_
  refine lv_lconst (v := 0) hx hb dX0_lay_2 (by decide) ?_
  refine lv_ldc2 hx hb hown (hts _ q520) dX0_lay_3 ?_
  obtain ⟨v1, ev1, hf⟩ := ob hf
  refine rd_callSZ (As := [.long (((nI j)).toInt64), .long (0 : Int64), .long (3 : Int64)]) (rest := []) ⟨hx, hb, hml, hown, hts⟩ (mX0_in l D k   (((nI j)).toInt64) (0 : Int64) (3 : Int64) _ ev1) (va_cwS 3 hts (lw_S q242 q243 q90 q244) rfl rfl rfl hdX0_in ⟨Nat.le_of_ble_eq_true rfl, Nat.le_of_ble_eq_true rfl⟩) hK rfl hl.1 rfl (Nat.le_of_ble_eq_true rfl) dX0_lay_6 ⟨Nat.le_of_ble_eq_true rfl, Nat.le_of_ble_eq_true rfl⟩ (fun zv1 => ?_)
  refine lv_if_ne (tgt := 14) hx hb dX0_lay_9 (by decide) (fun c3 => ?_) (fun c3 => ?_)
  · have hf := oi_f c3 hf
    refine lv_aload_n hx hb dX0_lay_14 rfl (lv_at hl 0 rfl) ?_
    refine va_get (D := D) (cl := vwCl) (ci := 0) (v := .ref (xa 3)) (C := RX0) (T := TX0) (N := 15) hx hb hts in_X0 hown hK.1 hP 0 rfl rfl 12 (by decide) (hts _ q203) (fun _ h9 => h9) rfl dX0_lay_15 ?_
    refine lv_iload_n hx hb dX0_lay_18 rfl (lv_at hl 1 rfl) ?_
    refine x_aald hx hb hK hP 1 6 (j := j) (n := 4) rfl hj (by decide) rfl rfl rfl dX0_lay_19 ?_
    refine va_getN (D := D) (cl := vwCl) (ci := 2) (v := .ref qa) (C := RX2) (T := TX2) (N := 1) hx hb hts in_X2 hown hK.1 hP 2 rfl rfl 0 (by decide) (hK.nw 8 rfl) (fun _ h9 => h9) rfl dX0_lay_20 ?_
    refine lv_astore (lv' := [(5, .ref qa), (0, .ref (xa 0)), (1, .int (nI j)), (2, .int p2), (3, .long p3)]) hx hb dX0_lay_23 hl (by decide) rfl (fun ls hl => ?_)
    refine lv_aload hx hb dX0_lay_25 (lv_at hl 0 rfl) ?_
    refine x_instA hx hb hK hown (hts _ q869) hP 3 3 rfl rfl (by decide +kernel) dX0_lay_27 ?_
    refine lv_if_eq (tgt := 46) hx hb dX0_lay_30 (by decide) (fun c9 => absurd c9 (by decide)) (fun _ => ?_)
    refine lv_aload hx hb dX0_lay_33 (lv_at hl 0 rfl) ?_
    refine x_castA hx hb hK hown (hts _ q869) hP 3 3 rfl rfl (by decide +kernel) dX0_lay_35 ?_
    refine lv_iload_n hx hb dX0_lay_38 rfl (lv_at hl 3 rfl) ?_
    refine lv_lload_n hx hb dX0_lay_39 rfl (lv_at hl 4 rfl) ?_
    refine lv_l2i hx hb dX0_lay_40 rfl ?_
    refine lv_i2b hx hb dX0_lay_41 rfl ?_
    by_cases c4 : p2 < 0 ∨ sn ≤ (p2).toNatClampNeg
    · have hf := oi_t c4 hf
      refine vx_bastZ hx hb hK.1 hP 3 3 rfl rfl (fun z => z c4) dX0_lay_42 (fun tx htx => ?_)
      refine x_noteA htx hsn hx hst hts hK hP hZ hS (hl.1.trans hml.symm) (Nat.le_of_ble_eq_true rfl) (Nat.le_of_ble_eq_true rfl) (Nat.le_of_ble_eq_true rfl) (Nat.le_of_ble_eq_true rfl) hlk (fun H q9 ce hP hS hc9 hv9 hcl9 => ?_)
      refine vx_catch hown [_] _ _ (hexc.trans rfl) (fm_c (Or.inr ⟨by decide, "java/lang/NullPointerException", hts _ q825, hK.nc 6 rfl⟩) fm_n) rfl (by decide) (hts _ q850) (hK.nw 17 rfl) hc9 hv9 hcl9 ?_
      refine lv_astore (lv' := [(6, .ref q9), (5, .ref qa), (0, .ref (xa 0)), (1, .int (nI j)), (2, .int p2), (3, .long p3)]) hx hb dX0_lay_81 hl (by decide) rfl (fun ls hl => ?_)
      refine lv_bipush (v := (-12)) hx hb dX0_lay_83 (by decide) ?_
      obtain ⟨he1, he2⟩ := prod2 hf
      rw [he2] at hP
      refine W.widen (k := 3) (n := 222) (Nat.le_of_ble_eq_true rfl) (Nat.le_of_ble_eq_true rfl) ?_
      exact wr_iret hx hb hr hlk he1 hP hS dX0_lay_85
    have hf := oi_f c4 hf
    obtain ⟨u5, eu5, hf⟩ := ob hf
    refine x_bast hx hb hK hP hD hS 3 3 eu5 rfl rfl [oX xa ra xi, (xa 3, .inl (k 6, 4, .inr (.inr (.inr (.inr (fun i => some (sa i))))))), (sa j, .inr (2, [.ref qa])), (qa, .inl (k 3, sn, .inl u5))] rfl dX0_lay_42 (fun H locs hP hD hS => ?_)
    refine lv_goto (tgt := 74) hx hb dX0_lay_43 (by decide) ?_
    refine lv_iconst (v := 1) hx hb dX0_lay_74 (by decide) ?_
    obtain ⟨he1, he2⟩ := prod2 hf
    rw [he2] at hP
    refine W.widen (k := 3) (n := 222) (Nat.le_of_ble_eq_true rfl) (Nat.le_of_ble_eq_true rfl) ?_
    exact wr_iret hx hb hr hlk he1 hP hS dX0_lay_75
  · have hf := oi_t c3 hf
    refine lv_iconst (v := (-1)) hx hb dX0_lay_12 (by decide) ?_
    obtain ⟨he1, he2⟩ := prod2 hf
    rw [he2] at hP
    refine W.widen (k := 3) (n := 222) (Nat.le_of_ble_eq_true rfl) (Nat.le_of_ble_eq_true rfl) ?_
    exact wr_iret hx hb hr hlk he1 hP hS dX0_lay_13

abbrev rmX0_look_s1 : Room := { frames := 8, cells := 3, slots := 222, locals := 10248 }
theorem hdX0_look_s1 : yX0_look.cls ≠ "java/lang/invoke/MethodHandle" ∧ yX0_look.cls ≠ "java/lang/invoke/VarHandle" ∧ (parseMethodDescriptor yX0_look.desc).map (fun d => d.parameters.length) = some 2 := by decide +kernel
abbrev qcX0_look_s1 (D : va_G) (k : Nat → ClassId) (xa : Nat → Nat) (ra : Nat → Nat → Nat) (sa : Nat → Nat) (qa : Nat) (j : Nat) (sn : Nat) (xi : Nat → Int32) (sf : Nat → Int32) (r : Int64) (A : Nat → Prop) : Array Value → State → Outcome → State → Prop := va_Ql (fun x (_ : Unit) => x = r) (fun _ t => va_P D vwCl [oX xa ra xi, (xa 3, .inl (k 6, 4, .inr (.inr (.inr (.inr (fun i => some (sa i))))))), (sa j, .inr (2, [.ref qa])), (qa, .inl (k 3, sn, .inl sf))] t.heap) A
set_option maxHeartbeats 4000000 in
theorem mX0_look_s1 (l : Launch) (hst : l.stackTraces = false) (D : va_G) (k : Nat → ClassId) (xa : Nat → Nat) (ra : Nat → Nat → Nat) (sa : Nat → Nat) (qa : Nat) (j : Nat) (sn : Nat) (hj : j < 4) (hsn : sn < 2 ^ 31) (xi : Nat → Int32) (sf : Nat → Int32) (p2 : Int32) (sz : Nat) (r : Int64) (hf : fX0_look_s1 j sn sf p2 = some r) : Met l yX0_look (wsW_ yX0_look cX0_look 5 (some .long) [(24, 64, 65, 324), (24, 64, 65, 326)]) rmX0_look_s1 (wxP D k [oX xa ra xi, (xa 3, .inl (k 6, 4, .inr (.inr (.inr (.inr (fun i => some (sa i))))))), (sa j, .inr (2, [.ref qa])), (qa, .inl (k 3, sn, .inl sf))] sz [.ref (xa 0), .int (nI j), .int p2]) (qcX0_look_s1 D k xa ra sa qa j sn xi sf r (va_A [oX xa ra xi, (xa 3, .inl (k 6, 4, .inr (.inr (.inr (.inr (fun i => some (sa i))))))), (sa j, .inr (2, [.ref qa])), (qa, .inl (k 3, sn, .inl sf))] sz)) 3 222 (va_A [oX xa ra xi, (xa 3, .inl (k 6, 4, .inr (.inr (.inr (.inr (fun i => some (sa i))))))), (sa j, .inr (2, [.ref qa])), (qa, .inl (k 3, sn, .inl sf))] sz) := by
  refine wx_startW (Qc := fun A => qcX0_look_s1 D k xa ra sa qa j sn xi sf r A) (by decide +kernel) (Nat.le_of_ble_eq_true rfl) ?_
  intro p e s m below meth c ls A hA hx hb hr hlk hml hown hts hP hK hD hZ hexc hl
  have hl : lv_has ls 5 [(0, .ref (xa 0)), (1, .int (nI j)), (2, .int p2)] := hl
  have hown : s.vm.findClass RX0 = some m.cls := hown
  have hS : va_S A s.heap s.heap [] := va_S.rf
  suffices hw : ∀ (H : Heap) (locs : List Loc), va_P D vwCl [oX xa ra xi, (xa 3, .inl (k 6, 4, .inr (.inr (.inr (.inr (fun i => some (sa i))))))), (sa j, .inr (2, [.ref qa])), (qa, .inl (k 3, sn, .inl sf))] H → va_S A s.heap H locs → gW p l e rmX0_look_s1 s m [.ref (xa 0), .int (nI j), .int p2] below meth c (qcX0_look_s1 D k xa ra sa qa j sn xi sf r A) A 3 222 H locs 0 ls [] from hw s.heap [] hP hS
  clear hP hS
  intro H locs hP hS
  unfold fX0_look_s1 at hf
  refine lv_iload_n hx hb dX0_look_0 rfl (lv_at hl 1 rfl) ?_
  refine lv_i2l hx hb dX0_look_1 rfl ?_
  refine lv_lconst (v := 0) hx hb dX0_look_2 (by decide) ?_
  refine lv_ldc2 hx hb hown (hts _ q520) dX0_look_3 ?_
  obtain ⟨v1, ev1, hf⟩ := ob hf
  refine rd_callSZ (As := [.long (((nI j)).toInt64), .long (0 : Int64), .long (3 : Int64)]) (rest := []) ⟨hx, hb, hml, hown, hts⟩ (mX0_in l D k   (((nI j)).toInt64) (0 : Int64) (3 : Int64) _ ev1) (va_cwS 3 hts (lw_S q242 q243 q90 q244) rfl rfl rfl hdX0_in ⟨Nat.le_of_ble_eq_true rfl, Nat.le_of_ble_eq_true rfl⟩) hK rfl hl.1 rfl (Nat.le_of_ble_eq_true rfl) dX0_look_6 ⟨Nat.le_of_ble_eq_true rfl, Nat.le_of_ble_eq_true rfl⟩ (fun zv1 => ?_)
  refine lv_if_ne (tgt := 14) hx hb dX0_look_9 (by decide) (fun c3 => ?_) (fun c3 => ?_)
  · have hf := oi_f c3 hf
    refine lv_aload_n hx hb dX0_look_14 rfl (lv_at hl 0 rfl) ?_
    refine va_get (D := D) (cl := vwCl) (ci := 0) (v := .ref (xa 3)) (C := RX0) (T := TX0) (N := 15) hx hb hts in_X0 hown hK.1 hP 0 rfl rfl 12 (by decide) (hts _ q203) (fun _ h9 => h9) rfl dX0_look_15 ?_
    refine lv_iload_n hx hb dX0_look_18 rfl (lv_at hl 1 rfl) ?_
    refine x_aald hx hb hK hP 1 6 (j := j) (n := 4) rfl hj (by decide) rfl rfl rfl dX0_look_19 ?_
    refine va_getN (D := D) (cl := vwCl) (ci := 2) (v := .ref qa) (C := RX2) (T := TX2) (N := 1) hx hb hts in_X2 hown hK.1 hP 2 rfl rfl 0 (by decide) (hK.nw 8 rfl) (fun _ h9 => h9) rfl dX0_look_20 ?_
    refine lv_astore_n (lv' := [(3, .ref qa), (0, .ref (xa 0)), (1, .int (nI j)), (2, .int p2)]) hx hb dX0_look_23 rfl hl (by decide) rfl (fun ls hl => ?_)
    refine lv_aload_n hx hb dX0_look_24 rfl (lv_at hl 0 rfl) ?_
    refine x_instA hx hb hK hown (hts _ q869) hP 3 3 rfl rfl (by decide +kernel) dX0_look_25 ?_
    refine lv_if_eq (tgt := 41) hx hb dX0_look_28 (by decide) (fun c9 => absurd c9 (by decide)) (fun _ => ?_)
    refine lv_aload_n hx hb dX0_look_31 rfl (lv_at hl 0 rfl) ?_
    refine x_castA hx hb hK hown (hts _ q869) hP 3 3 rfl rfl (by decide +kernel) dX0_look_32 ?_
    refine lv_iload_n hx hb dX0_look_35 rfl (lv_at hl 3 rfl) ?_
    by_cases c4 : p2 < 0 ∨ sn ≤ (p2).toNatClampNeg
    · have hf := oi_t c4 hf
      refine vx_baldZ hx hb hK.1 hP 3 3 rfl rfl (fun z => z c4) dX0_look_36 (fun tx htx => ?_)
      refine x_noteA htx hsn hx hst hts hK hP hZ hS (hl.1.trans hml.symm) (Nat.le_of_ble_eq_true rfl) (Nat.le_of_ble_eq_true rfl) (Nat.le_of_ble_eq_true rfl) (Nat.le_of_ble_eq_true rfl) hlk (fun H q9 ce hP hS hc9 hv9 hcl9 => ?_)
      refine vx_catch hown [_] _ _ (hexc.trans rfl) (fm_c (Or.inr ⟨by decide, "java/lang/NullPointerException", hts _ q825, hK.nc 6 rfl⟩) fm_n) rfl (by decide) (hts _ q850) (hK.nw 17 rfl) hc9 hv9 hcl9 ?_
      refine lv_astore (lv' := [(4, .ref q9), (3, .ref qa), (0, .ref (xa 0)), (1, .int (nI j)), (2, .int p2)]) hx hb dX0_look_65 hl (by decide) rfl (fun ls hl => ?_)
      refine lv_lconst (v := 0) hx hb dX0_look_67 (by decide) ?_
      have he1 := Option.some.inj hf
      refine W.widen (k := 3) (n := 222) (Nat.le_of_ble_eq_true rfl) (Nat.le_of_ble_eq_true rfl) ?_
      exact wr_lret hx hb hr hlk he1 hP hS dX0_look_68
    have hf := oi_f c4 hf
    obtain ⟨v5, ev5, hf⟩ := ob hf
    refine x_bald hx hb hK hP 3 3 ev5 rfl rfl dX0_look_36 ?_
    refine lv_i2l hx hb dX0_look_37 rfl ?_
    refine lv_goto (tgt := 64) hx hb dX0_look_38 (by decide) ?_
    have he1 := Option.some.inj hf
    refine W.widen (k := 3) (n := 222) (Nat.le_of_ble_eq_true rfl) (Nat.le_of_ble_eq_true rfl) ?_
    exact wr_lret hx hb hr hlk he1 hP hS dX0_look_64
  · have hf := oi_t c3 hf
    refine lv_lconst (v := 0) hx hb dX0_look_12 (by decide) ?_
    have he1 := Option.some.inj hf
    refine W.widen (k := 3) (n := 222) (Nat.le_of_ble_eq_true rfl) (Nat.le_of_ble_eq_true rfl) ?_
    exact wr_lret hx hb hr hlk he1 hP hS dX0_look_13

abbrev rmX0_stow_s1 : Room := { frames := 9, cells := 3, slots := 222, locals := 10278 }
theorem hdX0_stow_s1 : yX0_stow.cls ≠ "java/lang/invoke/MethodHandle" ∧ yX0_stow.cls ≠ "java/lang/invoke/VarHandle" ∧ (parseMethodDescriptor yX0_stow.desc).map (fun d => d.parameters.length) = some 3 := by decide +kernel
abbrev qcX0_stow_s1 (D : va_G) (k : Nat → ClassId) (xa : Nat → Nat) (ra : Nat → Nat → Nat) (sa : Nat → Nat) (qa : Nat) (j : Nat) (sn : Nat) (xi : Nat → Int32) (rs : RS) (sf : Nat → Int32) (r : Int32) (A : Nat → Prop) : Array Value → State → Outcome → State → Prop := va_Qi (fun x (_ : Unit) => x = r) (fun _ t => va_P D vwCl (wN k xa ra xi rs ++ [(xa 3, .inl (k 6, 4, .inr (.inr (.inr (.inr (fun i => some (sa i))))))), (sa j, .inr (2, [.ref qa])), (qa, .inl (k 3, sn, .inl sf))]) t.heap) A
set_option maxHeartbeats 4000000 in
theorem mX0_stow_s1 (l : Launch) (hst : l.stackTraces = false) (D : va_G) (k : Nat → ClassId) (xa : Nat → Nat) (ra : Nat → Nat → Nat) (sa : Nat → Nat) (qa : Nat) (j : Nat) (sn : Nat) (hj : j < 4) (hsn : sn < 2 ^ 31) (xi : Nat → Int32) (rs : RS) (sf : Nat → Int32) (p2 : Int32) (p3 : Int32) (sz : Nat) (r : Int32) (xi_o : Nat → Int32) (sf_o : Nat → Int32) (hf : fX0_stow_s1 j sn xi rs sf p2 p3 = some (r, xi_o, sf_o)) : Met l yX0_stow (wsW_ yX0_stow cX0_stow 8 (some .int) [(20, 57, 66, 324), (20, 57, 80, 342), (20, 57, 94, 326), (20, 57, 108, 0), (66, 71, 108, 0), (80, 85, 108, 0), (94, 99, 108, 0), (108, 110, 108, 0)]) rmX0_stow_s1 (wxP D k (wN k xa ra xi rs ++ [(xa 3, .inl (k 6, 4, .inr (.inr (.inr (.inr (fun i => some (sa i))))))), (sa j, .inr (2, [.ref qa])), (qa, .inl (k 3, sn, .inl sf))]) sz [.ref (xa 0), .int (nI j), .int p2, .int p3]) (qcX0_stow_s1 D k xa ra sa qa j sn xi_o rs sf_o r (va_A (wN k xa ra xi rs ++ [(xa 3, .inl (k 6, 4, .inr (.inr (.inr (.inr (fun i => some (sa i))))))), (sa j, .inr (2, [.ref qa])), (qa, .inl (k 3, sn, .inl sf))]) sz)) 3 222 (va_A (wN k xa ra xi rs ++ [(xa 3, .inl (k 6, 4, .inr (.inr (.inr (.inr (fun i => some (sa i))))))), (sa j, .inr (2, [.ref qa])), (qa, .inl (k 3, sn, .inl sf))]) sz) := by
  refine wx_startW (Qc := fun A => qcX0_stow_s1 D k xa ra sa qa j sn xi_o rs sf_o r A) (by decide +kernel) (Nat.le_of_ble_eq_true rfl) ?_
  intro p e s m below meth c ls A hA hx hb hr hlk hml hown hts hP hK hD hZ hexc hl
  have hl : lv_has ls 8 [(0, .ref (xa 0)), (1, .int (nI j)), (2, .int p2), (3, .int p3)] := hl
  have hown : s.vm.findClass RX0 = some m.cls := hown
  have hS : va_S A s.heap s.heap [] := va_S.rf
  suffices hw : ∀ (H : Heap) (locs : List Loc), va_P D vwCl (wN k xa ra xi rs ++ [(xa 3, .inl (k 6, 4, .inr (.inr (.inr (.inr (fun i => some (sa i))))))), (sa j, .inr (2, [.ref qa])), (qa, .inl (k 3, sn, .inl sf))]) H → va_S A s.heap H locs → gW p l e rmX0_stow_s1 s m [.ref (xa 0), .int (nI j), .int p2, .int p3] below meth c (qcX0_stow_s1 D k xa ra sa qa j sn xi_o rs sf_o r A) A 3 222 H locs 0 ls [] from hw s.heap [] hP hS
  clear hP hS
  intro H locs hP hS
  unfold fX0_stow_s1 at hf
  refine lv_iload_n hx hb dX0_stow_0 rfl (lv_at hl 1 rfl) ?_
  refine lv_iload_n hx hb dX0_stow_1 rfl (lv_at hl 2 rfl) ?_
  obtain ⟨v1, ev1, hf⟩ := ob hf
  refine rd_callSZ (As := [.int (nI j), .int p2]) (rest := []) ⟨hx, hb, hml, hown, hts⟩ (mX0_isSheet l D k   (nI j) p2 _ ev1) (va_cwS 2 hts (lw_S q818 q819 q90 q820) rfl rfl rfl hdX0_isSheet ⟨Nat.le_of_ble_eq_true rfl, Nat.le_of_ble_eq_true rfl⟩) hK rfl hl.1 rfl (Nat.le_of_ble_eq_true rfl) dX0_stow_2 ⟨Nat.le_of_ble_eq_true rfl, Nat.le_of_ble_eq_true rfl⟩ (fun zv1 => ?_)
  refine lv_if_eq (tgt := 12) hx hb dX0_stow_5 (by decide) (fun c3 => ?_) (fun c3 => ?_)
  · have hf := oi_t c3 hf
    refine lv_iconst (v := (-1)) hx hb dX0_stow_12 (by decide) ?_
    obtain ⟨he1, he2, he3⟩ := prod3 hf
    rw [he2] at hP
    rw [he3] at hP
    refine W.widen (k := 3) (n := 222) (Nat.le_of_ble_eq_true rfl) (Nat.le_of_ble_eq_true rfl) ?_
    exact wr_iret hx hb hr hlk he1 hP hS dX0_stow_13
  · have hf := oi_f c3 hf
    refine lv_iload_n hx hb dX0_stow_8 rfl (lv_at hl 3 rfl) ?_
    refine lv_if_ge (tgt := 14) hx hb dX0_stow_9 (by decide) (fun c4 => ?_) (fun c4 => ?_)
    · have hf := oi_t c4 hf
      refine lv_iconst (v := 0) hx hb dX0_stow_14 (by decide) ?_
      refine lv_istore (lv' := [(4, .int (0 : Int32)), (0, .ref (xa 0)), (1, .int (nI j)), (2, .int p2), (3, .int p3)]) hx hb dX0_stow_15 hl (by decide) rfl (fun ls hl => ?_)
      refine lv_iconst (v := 0) hx hb dX0_stow_17 (by decide) ?_
      refine lv_istore (lv' := [(5, .int (0 : Int32)), (4, .int (0 : Int32)), (0, .ref (xa 0)), (1, .int (nI j)), (2, .int p2), (3, .int p3)]) hx hb dX0_stow_18 hl (by decide) rfl (fun ls hl => ?_)
      have hL20 : ∀ (nn : Nat) (xi_20 : Nat → Int32) (sf_20 : Nat → Int32) (x4_20 : Int32) (x5_20 : Int32), ∀ (H : Heap) (locs : List Loc), va_P D vwCl (wN k xa ra xi_20 rs ++ [(xa 3, .inl (k 6, 4, .inr (.inr (.inr (.inr (fun i => some (sa i))))))), (sa j, .inr (2, [.ref qa])), (qa, .inl (k 3, sn, .inl sf_20))]) H → va_D A (wN k xa ra xi_20 rs ++ [(xa 3, .inl (k 6, 4, .inr (.inr (.inr (.inr (fun i => some (sa i))))))), (sa j, .inr (2, [.ref qa])), (qa, .inl (k 3, sn, .inl sf_20))]) → va_S A s.heap H locs → fX0_stow_s1_L20 j sn rs p2 p3 nn xi_20 sf_20 x4_20 x5_20 = some (r, xi_o, sf_o) → ∀ ls : Array Slot, lv_has ls 8 [(0, .ref (xa 0)), (1, .int (nI j)), (2, .int p2), (3, .int p3), (4, .int x4_20), (5, .int x5_20)] → gW p l e rmX0_stow_s1 s m [.ref (xa 0), .int (nI j), .int p2, .int p3] below meth c (qcX0_stow_s1 D k xa ra sa qa j sn xi_o rs sf_o r A) A 3 222 H locs 20 ls [] := by
        intro nn20
        induction nn20 with
        | zero =>
          intro xi_20 sf_20 x4_20 x5_20 H locs hP hD hS hf
          rw [fX0_stow_s1_L20] at hf; cases hf
        | succ nn20 ih20 =>
          intro xi_20 sf_20 x4_20 x5_20 H locs hP hD hS hf ls hl
          rw [fX0_stow_s1_L20] at hf
          refine lv_iload hx hb dX0_stow_20 (lv_at hl 5 rfl) ?_
          refine lv_aload_n hx hb dX0_stow_22 rfl (lv_at hl 0 rfl) ?_
          refine va_get (D := D) (cl := vwCl) (ci := 0) (v := .ref (ra 0 0)) (C := RX0) (T := TX0) (N := 15) hx hb hts in_X0 hown hK.1 hP 0 rfl rfl 0 (by decide) (hts _ q190) (fun _ h9 => h9) rfl dX0_stow_23 ?_
          refine va_getN (D := D) (cl := vwCl) (ci := 1) (v := .int (rP rs)) (C := RX1) (T := TX1) (N := 6) hx hb hts in_X1 hown hK.1 hP 1 rfl rfl 1 (by decide) (hK.nw 2 rfl) (fun _ h9 => h9) rfl dX0_stow_26 ?_
          refine lv_icmp_ge (tgt := 57) hx hb dX0_stow_29 (by decide) (fun c5 => ?_) (fun c5 => ?_)
          · have hf := oi_t c5 hf
            refine lv_aload_n hx hb dX0_stow_57 rfl (lv_at hl 0 rfl) ?_
            refine lv_iload hx hb dX0_stow_58 (lv_at hl 4 rfl) ?_
            refine va_put (D := D) (cl := vwCl) (ci := 0) (v := .int x4_20) (ty := .int) (C := RX0) (T := TX0) (N := 15) hx hb hts in_X0 tyX0 tyX0_ok nmX0 hown hK.1 hP hD hS 0 rfl rfl 14 (by decide) (hts _ q205) (fun _ h9 => h9) rfl (by decide +kernel) rfl rfl (Nat.le_of_ble_eq_true rfl) dX0_stow_60 (fun H locs hP hD hS => ?_)
            have hP : va_P D vwCl (wN k xa ra (upd xi_20 8 x4_20) rs ++ [(xa 3, .inl (k 6, 4, .inr (.inr (.inr (.inr (fun i => some (sa i))))))), (sa j, .inr (2, [.ref qa])), (qa, .inl (k 3, sn, .inl sf_20))]) H := hP
            have hD : va_D A (wN k xa ra (upd xi_20 8 x4_20) rs ++ [(xa 3, .inl (k 6, 4, .inr (.inr (.inr (.inr (fun i => some (sa i))))))), (sa j, .inr (2, [.ref qa])), (qa, .inl (k 3, sn, .inl sf_20))]) := hD
            refine lv_goto (tgt := 119) hx hb dX0_stow_63 (by decide) ?_
            refine lv_iload hx hb dX0_stow_119 (lv_at hl 5 rfl) ?_
            obtain ⟨he1, he2, he3⟩ := prod3 hf
            rw [he2] at hP
            rw [he3] at hP
            refine W.widen (k := 3) (n := 222) (Nat.le_of_ble_eq_true rfl) (Nat.le_of_ble_eq_true rfl) ?_
            exact wr_iret hx hb hr hlk he1 hP hS dX0_stow_121
          · have hf := oi_f c5 hf
            refine lv_aload_n hx hb dX0_stow_32 rfl (lv_at hl 0 rfl) ?_
            refine lv_iload_n hx hb dX0_stow_33 rfl (lv_at hl 1 rfl) ?_
            refine lv_iload_n hx hb dX0_stow_34 rfl (lv_at hl 2 rfl) ?_
            refine lv_iload_n hx hb dX0_stow_35 rfl (lv_at hl 3 rfl) ?_
            refine lv_iload hx hb dX0_stow_36 (lv_at hl 5 rfl) ?_
            refine lv_iadd hx hb dX0_stow_38 ?_
            refine lv_aload_n hx hb dX0_stow_39 rfl (lv_at hl 0 rfl) ?_
            refine va_get (D := D) (cl := vwCl) (ci := 0) (v := .ref (ra 0 0)) (C := RX0) (T := TX0) (N := 15) hx hb hts in_X0 hown hK.1 hP 0 rfl rfl 0 (by decide) (hts _ q190) (fun _ h9 => h9) rfl dX0_stow_40 ?_
            refine lv_iload hx hb dX0_stow_43 (lv_at hl 5 rfl) ?_
            obtain ⟨v6, ev6, hf⟩ := ob hf
            refine rd_callVZ (As := [.int x5_20]) (rest := [.int (p3 + x5_20), .int p2, .int (nI j), .ref (xa 0)]) ⟨hx, hb, hml, hown, hts⟩ (mX1_isOpen l D k (ra 0) rs x5_20 _ ev6) (cwV 1 hts (lw_V q439 q184 q185 q91 q186) rfl rfl rfl ⟨rfl, hdX1_isOpen⟩ ⟨Nat.le_of_ble_eq_true rfl, Nat.le_of_ble_eq_true rfl⟩) hK hP [1, 2, 3, 4, 5, 6] rfl 1 1 rfl rfl rfl hl.1 rfl (Nat.le_of_ble_eq_true rfl) dX0_stow_45 ⟨Nat.le_of_ble_eq_true rfl, Nat.le_of_ble_eq_true rfl⟩ (fun zv6 => ?_)
            by_cases c8 : fX0_bitBecomes_s1x j sn sf_20 p2 (p3 + x5_20) v6 = some 3
            · have hf := oi_t c8 hf
              refine wx_excVv (As := [.int (nI j), .int p2, .int (p3 + x5_20), .int v6]) (rest := []) ⟨hx, hb, hml, hown, hts⟩ (mX0_bitBecomes_s1x l hst D k xa ra sa qa j sn hj hsn xi_20 sf_20 p2 (p3 + x5_20) v6 _ 3 c8) (cwV 4 hts (lw_V q910 q912 qs53 q90 q913) rfl rfl rfl ⟨rfl, hdX0_bitBecomes_s1x⟩ ⟨Nat.le_of_ble_eq_true rfl, Nat.le_of_ble_eq_true rfl⟩) hK hZ hP hD hS hA [0, 7, 8, 9] [1, 2, 3, 4, 5, 6] rfl 10 rfl (by decide) (by decide) 0 0 rfl rfl rfl hl.1 rfl (Nat.le_of_ble_eq_true rfl) dX0_stow_48 ⟨Nat.le_of_ble_eq_true rfl, Nat.le_of_ble_eq_true rfl⟩ (fun H locs q9 ce hP hD hS hc9 hv9 hcl9 => ?_)
              refine vx_catch hown [_] _ _ (hexc.trans rfl) (fm_c (Or.inr ⟨by decide, "java/lang/NullPointerException", hts _ q825, hK.nc 8 rfl⟩) fm_n) rfl (by decide) (hts _ q880) (hK.nw 18 rfl) hc9 hv9 hcl9 ?_
              refine lv_astore (lv' := [(6, .ref q9), (0, .ref (xa 0)), (1, .int (nI j)), (2, .int p2), (3, .int p3), (4, .int x4_20), (5, .int x5_20)]) hx hb dX0_stow_80 hl (by decide) rfl (fun ls hl => ?_)
              refine lv_iconst (v := 3) hx hb dX0_stow_82 (by decide) ?_
              refine lv_istore (lv' := [(4, .int (3 : Int32)), (6, .ref q9), (0, .ref (xa 0)), (1, .int (nI j)), (2, .int p2), (3, .int p3), (5, .int x5_20)]) hx hb dX0_stow_83 hl (by decide) rfl (fun ls hl => ?_)
              refine lv_aload_n hx hb dX0_stow_85 rfl (lv_at hl 2 rfl) ?_
              refine lv_iload hx hb dX0_stow_86 (lv_at hl 0 rfl) ?_
              refine va_put (D := D) (cl := vwCl) (ci := 0) (v := .int (3 : Int32)) (ty := .int) (C := RX0) (T := TX0) (N := 15) hx hb hts in_X0 tyX0 tyX0_ok nmX0 hown hK.1 hP hD hS 0 rfl rfl 14 (by decide) (hts _ q205) (fun _ h9 => h9) rfl (by decide +kernel) rfl rfl (Nat.le_of_ble_eq_true rfl) dX0_stow_88 (fun H locs hP hD hS => ?_)
              have hP : va_P D vwCl (wN k xa ra (upd xi_20 8 (3 : Int32)) rs ++ [(xa 3, .inl (k 6, 4, .inr (.inr (.inr (.inr (fun i => some (sa i))))))), (sa j, .inr (2, [.ref qa])), (qa, .inl (k 3, sn, .inl sf_20))]) H := hP
              have hD : va_D A (wN k xa ra (upd xi_20 8 (3 : Int32)) rs ++ [(xa 3, .inl (k 6, 4, .inr (.inr (.inr (.inr (fun i => some (sa i))))))), (sa j, .inr (2, [.ref qa])), (qa, .inl (k 3, sn, .inl sf_20))]) := hD
              refine lv_goto (tgt := 119) hx hb dX0_stow_91 (by decide) ?_
              refine lv_iload hx hb dX0_stow_119 (lv_at hl 6 rfl) ?_
              obtain ⟨he1, he2, he3⟩ := prod3 hf
              rw [he2] at hP
              rw [he3] at hP
              refine W.widen (k := 3) (n := 222) (Nat.le_of_ble_eq_true rfl) (Nat.le_of_ble_eq_true rfl) ?_
              exact wr_iret hx hb hr hlk he1 hP hS dX0_stow_121
            have hf := oi_f c8 hf
            by_cases c9 : fX0_bitBecomes_s1x j sn sf_20 p2 (p3 + x5_20) v6 = some 2
            · have hf := oi_t c9 hf
              refine wx_excVv (As := [.int (nI j), .int p2, .int (p3 + x5_20), .int v6]) (rest := []) ⟨hx, hb, hml, hown, hts⟩ (mX0_bitBecomes_s1x l hst D k xa ra sa qa j sn hj hsn xi_20 sf_20 p2 (p3 + x5_20) v6 _ 2 c9) (cwV 4 hts (lw_V q910 q912 qs53 q90 q913) rfl rfl rfl ⟨rfl, hdX0_bitBecomes_s1x⟩ ⟨Nat.le_of_ble_eq_true rfl, Nat.le_of_ble_eq_true rfl⟩) hK hZ hP hD hS hA [0, 7, 8, 9] [1, 2, 3, 4, 5, 6] rfl 10 rfl (by decide) (by decide) 0 0 rfl rfl rfl hl.1 rfl (Nat.le_of_ble_eq_true rfl) dX0_stow_48 ⟨Nat.le_of_ble_eq_true rfl, Nat.le_of_ble_eq_true rfl⟩ (fun H locs q9 ce hP hD hS hc9 hv9 hcl9 => ?_)
              refine vx_catch hown [_, _] _ _ (hexc.trans rfl) (fm_c (Or.inr ⟨by decide, "java/lang/NullPointerException", hts _ q825, hK.nc 6 rfl⟩) (fm_c (Or.inr ⟨by decide, "java/lang/ClassCastException", hts _ q880, hK.nc 7 rfl⟩) fm_n)) rfl (by decide) (hts _ q850) (hK.nw 17 rfl) hc9 hv9 hcl9 ?_
              refine lv_astore (lv' := [(6, .ref q9), (0, .ref (xa 0)), (1, .int (nI j)), (2, .int p2), (3, .int p3), (4, .int x4_20), (5, .int x5_20)]) hx hb dX0_stow_94 hl (by decide) rfl (fun ls hl => ?_)
              refine lv_iconst (v := 2) hx hb dX0_stow_96 (by decide) ?_
              refine lv_istore (lv' := [(4, .int (2 : Int32)), (6, .ref q9), (0, .ref (xa 0)), (1, .int (nI j)), (2, .int p2), (3, .int p3), (5, .int x5_20)]) hx hb dX0_stow_97 hl (by decide) rfl (fun ls hl => ?_)
              refine lv_aload_n hx hb dX0_stow_99 rfl (lv_at hl 2 rfl) ?_
              refine lv_iload hx hb dX0_stow_100 (lv_at hl 0 rfl) ?_
              refine va_put (D := D) (cl := vwCl) (ci := 0) (v := .int (2 : Int32)) (ty := .int) (C := RX0) (T := TX0) (N := 15) hx hb hts in_X0 tyX0 tyX0_ok nmX0 hown hK.1 hP hD hS 0 rfl rfl 14 (by decide) (hts _ q205) (fun _ h9 => h9) rfl (by decide +kernel) rfl rfl (Nat.le_of_ble_eq_true rfl) dX0_stow_102 (fun H locs hP hD hS => ?_)
              have hP : va_P D vwCl (wN k xa ra (upd xi_20 8 (2 : Int32)) rs ++ [(xa 3, .inl (k 6, 4, .inr (.inr (.inr (.inr (fun i => some (sa i))))))), (sa j, .inr (2, [.ref qa])), (qa, .inl (k 3, sn, .inl sf_20))]) H := hP
              have hD : va_D A (wN k xa ra (upd xi_20 8 (2 : Int32)) rs ++ [(xa 3, .inl (k 6, 4, .inr (.inr (.inr (.inr (fun i => some (sa i))))))), (sa j, .inr (2, [.ref qa])), (qa, .inl (k 3, sn, .inl sf_20))]) := hD
              refine lv_goto (tgt := 119) hx hb dX0_stow_105 (by decide) ?_
              refine lv_iload hx hb dX0_stow_119 (lv_at hl 6 rfl) ?_
              obtain ⟨he1, he2, he3⟩ := prod3 hf
              rw [he2] at hP
              rw [he3] at hP
              refine W.widen (k := 3) (n := 222) (Nat.le_of_ble_eq_true rfl) (Nat.le_of_ble_eq_true rfl) ?_
              exact wr_iret hx hb hr hlk he1 hP hS dX0_stow_121
            have hf := oi_f c9 hf
            obtain ⟨g10, et11, hf⟩ := ob hf
            refine wr_callVv (As := [.int (nI j), .int p2, .int (p3 + x5_20), .int v6]) (rest := []) ⟨hx, hb, hml, hown, hts⟩ (mX0_bitBecomes_s1 l D k xa ra sa qa j sn hj hsn xi_20 sf_20 p2 (p3 + x5_20) v6 _ _ et11) (cwV 4 hts (lw_V q910 q912 qs53 q90 q913) rfl rfl rfl ⟨rfl, hdX0_bitBecomes_s1⟩ ⟨Nat.le_of_ble_eq_true rfl, Nat.le_of_ble_eq_true rfl⟩) hK hP hD hS hA [0, 7, 8, 9] [1, 2, 3, 4, 5, 6] (wN k xa ra xi_20 rs ++ [(xa 3, .inl (k 6, 4, .inr (.inr (.inr (.inr (fun i => some (sa i))))))), (sa j, .inr (2, [.ref qa])), (qa, .inl (k 3, sn, .inl g10))]) rfl rfl (fm_c (fm_e _ rfl rfl) (fm_c (fm_e _ rfl rfl) (fm_c (fm_e _ rfl rfl) (fm_c (fm_e _ rfl rfl) (fm_c (fm_e _ rfl rfl) (fm_c (fm_e _ rfl rfl) fm_n)))))) 10 rfl (by decide) (by decide) [(xa 0), (ra 0 0), (ra 0 1), (ra 0 2), (ra 0 3), (ra 0 4), (ra 0 5), (xa 3), (sa j), qa] rfl rfl 0 0 rfl rfl rfl hl.1 rfl (Nat.le_of_ble_eq_true rfl) dX0_stow_48 ⟨Nat.le_of_ble_eq_true rfl, Nat.le_of_ble_eq_true rfl⟩ (fun H locs hP hD hS => ?_)
            refine lv_iinc (v := (x5_20 + 1)) (lv' := [(5, .int (x5_20 + 1)), (0, .ref (xa 0)), (1, .int (nI j)), (2, .int p2), (3, .int p3), (4, .int x4_20)]) hx hb dX0_stow_51 hl (k := 5) rfl rfl (by decide) rfl (fun ls hl => ?_)
            refine lv_goto (tgt := 20) hx hb dX0_stow_54 (by decide) ?_
            exact ih20 xi_20 g10 x4_20 (x5_20 + 1) H locs hP hD hS hf ls (lv_sub hl [1, 2, 3, 4, 5, 0] rfl)
      exact hL20 FU xi sf (0 : Int32) (0 : Int32) H locs hP hD hS hf ls (lv_sub hl [2, 3, 4, 5, 1, 0] rfl)
    · have hf := oi_f c4 hf
      refine lv_iconst (v := (-1)) hx hb dX0_stow_12 (by decide) ?_
      obtain ⟨he1, he2, he3⟩ := prod3 hf
      rw [he2] at hP
      rw [he3] at hP
      refine W.widen (k := 3) (n := 222) (Nat.le_of_ble_eq_true rfl) (Nat.le_of_ble_eq_true rfl) ?_
      exact wr_iret hx hb hr hlk he1 hP hS dX0_stow_13

abbrev rmX0_read_s1 : Room := { frames := 9, cells := 3, slots := 222, locals := 10275 }
theorem hdX0_read_s1 : yX0_read.cls ≠ "java/lang/invoke/MethodHandle" ∧ yX0_read.cls ≠ "java/lang/invoke/VarHandle" ∧ (parseMethodDescriptor yX0_read.desc).map (fun d => d.parameters.length) = some 4 := by decide +kernel
abbrev qcX0_read_s1 (D : va_G) (k : Nat → ClassId) (xa : Nat → Nat) (ra : Nat → Nat → Nat) (sa : Nat → Nat) (qa : Nat) (j : Nat) (sn : Nat) (xi : Nat → Int32) (rs : RS) (rt : RS) (sf : Nat → Int32) (r : Int32) (A : Nat → Prop) : Array Value → State → Outcome → State → Prop := va_Qi (fun x (_ : Unit) => x = r) (fun _ t => va_P D vwCl (wN k xa ra xi rs ++ (wR k (ra 4) rt ++ [(xa 3, .inl (k 6, 4, .inr (.inr (.inr (.inr (fun i => some (sa i))))))), (sa j, .inr (2, [.ref qa])), (qa, .inl (k 3, sn, .inl sf))])) t.heap) A
set_option maxHeartbeats 4000000 in
theorem mX0_read_s1 (l : Launch) (hst : l.stackTraces = false) (D : va_G) (k : Nat → ClassId) (xa : Nat → Nat) (ra : Nat → Nat → Nat) (sa : Nat → Nat) (qa : Nat) (j : Nat) (sn : Nat) (hj : j < 4) (hsn : sn < 2 ^ 31) (xi : Nat → Int32) (rs : RS) (rt : RS) (sf : Nat → Int32) (p2 : Int32) (p3 : Int32) (p4 : Int32) (sz : Nat) (r : Int32) (rs_o : RS) (rt_o : RS) (hf : fX0_read_s1 j sn rs rt sf p2 p3 p4 = some (r, rs_o, rt_o)) : Met l yX0_read (wsW_ yX0_read cX0_read 6 (some .int) [(47, 82, 85, 324), (47, 82, 90, 342), (47, 82, 95, 326)]) rmX0_read_s1 (wxP D k (wN k xa ra xi rs ++ (wR k (ra 4) rt ++ [(xa 3, .inl (k 6, 4, .inr (.inr (.inr (.inr (fun i => some (sa i))))))), (sa j, .inr (2, [.ref qa])), (qa, .inl (k 3, sn, .inl sf))])) sz [.ref (xa 0), .int (nI j), .int p2, .int p3, .int p4]) (qcX0_read_s1 D k xa ra sa qa j sn xi rs_o rt_o sf r (va_A (wN k xa ra xi rs ++ (wR k (ra 4) rt ++ [(xa 3, .inl (k 6, 4, .inr (.inr (.inr (.inr (fun i => some (sa i))))))), (sa j, .inr (2, [.ref qa])), (qa, .inl (k 3, sn, .inl sf))])) sz)) 3 222 (va_A (wN k xa ra xi rs ++ (wR k (ra 4) rt ++ [(xa 3, .inl (k 6, 4, .inr (.inr (.inr (.inr (fun i => some (sa i))))))), (sa j, .inr (2, [.ref qa])), (qa, .inl (k 3, sn, .inl sf))])) sz) := by
  refine wx_startW (Qc := fun A => qcX0_read_s1 D k xa ra sa qa j sn xi rs_o rt_o sf r A) (by decide +kernel) (Nat.le_of_ble_eq_true rfl) ?_
  intro p e s m below meth c ls A hA hx hb hr hlk hml hown hts hP hK hD hZ hexc hl
  have hl : lv_has ls 6 [(0, .ref (xa 0)), (1, .int (nI j)), (2, .int p2), (3, .int p3), (4, .int p4)] := hl
  have hown : s.vm.findClass RX0 = some m.cls := hown
  have hS : va_S A s.heap s.heap [] := va_S.rf
  suffices hw : ∀ (H : Heap) (locs : List Loc), va_P D vwCl (wN k xa ra xi rs ++ (wR k (ra 4) rt ++ [(xa 3, .inl (k 6, 4, .inr (.inr (.inr (.inr (fun i => some (sa i))))))), (sa j, .inr (2, [.ref qa])), (qa, .inl (k 3, sn, .inl sf))])) H → va_S A s.heap H locs → gW p l e rmX0_read_s1 s m [.ref (xa 0), .int (nI j), .int p2, .int p3, .int p4] below meth c (qcX0_read_s1 D k xa ra sa qa j sn xi rs_o rt_o sf r A) A 3 222 H locs 0 ls [] from hw s.heap [] hP hS
  clear hP hS
  intro H locs hP hS
  unfold fX0_read_s1 at hf
  refine lv_iload_n hx hb dX0_read_0 rfl (lv_at hl 1 rfl) ?_
  refine lv_iload_n hx hb dX0_read_1 rfl (lv_at hl 2 rfl) ?_
  obtain ⟨v1, ev1, hf⟩ := ob hf
  refine rd_callSZ (As := [.int (nI j), .int p2]) (rest := []) ⟨hx, hb, hml, hown, hts⟩ (mX0_isSheet l D k   (nI j) p2 _ ev1) (va_cwS 2 hts (lw_S q818 q819 q90 q820) rfl rfl rfl hdX0_isSheet ⟨Nat.le_of_ble_eq_true rfl, Nat.le_of_ble_eq_true rfl⟩) hK rfl hl.1 rfl (Nat.le_of_ble_eq_true rfl) dX0_read_2 ⟨Nat.le_of_ble_eq_true rfl, Nat.le_of_ble_eq_true rfl⟩ (fun zv1 => ?_)
  refine lv_if_eq (tgt := 25) hx hb dX0_read_5 (by decide) (fun c3 => ?_) (fun c3 => ?_)
  · have hf := oi_t c3 hf
    refine lv_iconst (v := (-1)) hx hb dX0_read_25 (by decide) ?_
    obtain ⟨he1, he2, he3⟩ := prod3 hf
    rw [he2] at hP
    rw [he3] at hP
    refine W.widen (k := 3) (n := 222) (Nat.le_of_ble_eq_true rfl) (Nat.le_of_ble_eq_true rfl) ?_
    exact wr_iret hx hb hr hlk he1 hP hS dX0_read_26
  · have hf := oi_f c3 hf
    refine lv_iload hx hb dX0_read_8 (lv_at hl 4 rfl) ?_
    refine lv_i2l hx hb dX0_read_10 rfl ?_
    refine lv_lconst (v := 0) hx hb dX0_read_11 (by decide) ?_
    refine lv_ldc2 hx hb hown (hts _ q894) dX0_read_12 ?_
    obtain ⟨v4, ev4, hf⟩ := ob hf
    refine rd_callSZ (As := [.long ((p4).toInt64), .long (0 : Int64), .long (128 : Int64)]) (rest := []) ⟨hx, hb, hml, hown, hts⟩ (mX0_in l D k   ((p4).toInt64) (0 : Int64) (128 : Int64) _ ev4) (va_cwS 3 hts (lw_S q242 q243 q90 q244) rfl rfl rfl hdX0_in ⟨Nat.le_of_ble_eq_true rfl, Nat.le_of_ble_eq_true rfl⟩) hK rfl hl.1 rfl (Nat.le_of_ble_eq_true rfl) dX0_read_15 ⟨Nat.le_of_ble_eq_true rfl, Nat.le_of_ble_eq_true rfl⟩ (fun zv4 => ?_)
    refine lv_if_eq (tgt := 25) hx hb dX0_read_18 (by decide) (fun c6 => ?_) (fun c6 => ?_)
    · have hf := oi_t c6 hf
      refine lv_iconst (v := (-1)) hx hb dX0_read_25 (by decide) ?_
      obtain ⟨he1, he2, he3⟩ := prod3 hf
      rw [he2] at hP
      rw [he3] at hP
      refine W.widen (k := 3) (n := 222) (Nat.le_of_ble_eq_true rfl) (Nat.le_of_ble_eq_true rfl) ?_
      exact wr_iret hx hb hr hlk he1 hP hS dX0_read_26
    · have hf := oi_f c6 hf
      refine lv_iload_n hx hb dX0_read_21 rfl (lv_at hl 3 rfl) ?_
      refine lv_if_ge (tgt := 27) hx hb dX0_read_22 (by decide) (fun c7 => ?_) (fun c7 => ?_)
      · have hf := oi_t c7 hf
        refine lv_aload_n hx hb dX0_read_27 rfl (lv_at hl 0 rfl) ?_
        refine va_get (D := D) (cl := vwCl) (ci := 0) (v := .ref (ra 4 0)) (C := RX0) (T := TX0) (N := 15) hx hb hts in_X0 hown hK.1 hP 0 rfl rfl 13 (by decide) (hts _ q204) (fun _ h9 => h9) rfl dX0_read_28 ?_
        refine va_getN (D := D) (cl := vwCl) (ci := 1) (v := .ref (ra 4 1)) (C := RX1) (T := TX1) (N := 6) hx hb hts in_X1 hown hK.1 hP 7 rfl rfl 0 (by decide) (hK.nw 1 rfl) (fun _ h9 => h9) rfl dX0_read_31 ?_
        refine lv_lconst (v := 0) hx hb dX0_read_34 (by decide) ?_
        obtain ⟨g8, et9, hf⟩ := ob hf
        refine wr_callSv (As := [.ref (ra 4 1), .long (0 : Int64)]) (rest := []) ⟨hx, hb, hml, hown, hts⟩ (mJ7_fill l D k (ra 4 1) (rW rt) (0 : Int64) _ _ et9) (va_cwS 2 hts (lw_S q784 q785 q104 q786) rfl rfl rfl hdJ7_fill ⟨Nat.le_of_ble_eq_true rfl, Nat.le_of_ble_eq_true rfl⟩) hK hP hD hS hA [8] [0, 1, 2, 3, 4, 5, 6, 7, 9, 10, 11, 12, 13, 14, 15] (wN k xa ra xi rs ++ (wR k (ra 4) (rsW rt g8) ++ [(xa 3, .inl (k 6, 4, .inr (.inr (.inr (.inr (fun i => some (sa i))))))), (sa j, .inr (2, [.ref qa])), (qa, .inl (k 3, sn, .inl sf))])) rfl rfl (fm_c (fm_e _ rfl rfl) (fm_c (fm_e _ rfl rfl) (fm_c (fm_e _ rfl rfl) (fm_c (fm_e _ rfl rfl) (fm_c (fm_e _ rfl rfl) (fm_c (fm_e _ rfl rfl) (fm_c (fm_e _ rfl rfl) (fm_c (fm_e _ rfl rfl) (fm_c (fm_e _ rfl rfl) (fm_c (fm_e _ rfl rfl) (fm_c (fm_e _ rfl rfl) (fm_c (fm_e _ rfl rfl) (fm_c (fm_e _ rfl rfl) (fm_c (fm_e _ rfl rfl) (fm_c (fm_e _ rfl rfl) fm_n))))))))))))))) 16 rfl (by decide) (by decide) [(xa 0), (ra 0 0), (ra 0 1), (ra 0 2), (ra 0 3), (ra 0 4), (ra 0 5), (ra 4 0), (ra 4 1), (ra 4 2), (ra 4 3), (ra 4 4), (ra 4 5), (xa 3), (sa j), qa] rfl rfl rfl hl.1 rfl (Nat.le_of_ble_eq_true rfl) dX0_read_35 ⟨Nat.le_of_ble_eq_true rfl, Nat.le_of_ble_eq_true rfl⟩ (fun H locs hP hD hS => ?_)
        refine lv_aload_n hx hb dX0_read_38 rfl (lv_at hl 0 rfl) ?_
        refine va_get (D := D) (cl := vwCl) (ci := 0) (v := .ref (ra 4 0)) (C := RX0) (T := TX0) (N := 15) hx hb hts in_X0 hown hK.1 hP 0 rfl rfl 13 (by decide) (hts _ q204) (fun _ h9 => h9) rfl dX0_read_39 ?_
        refine lv_iload hx hb dX0_read_42 (lv_at hl 4 rfl) ?_
        refine va_putN (D := D) (cl := vwCl) (ci := 1) (v := .int p4) (ty := .int) (C := RX1) (T := TX1) (N := 6) hx hb hts in_X1 tyX1 tyX1_ok nmX1 hown hK.1 hP hD hS 7 rfl rfl 1 (by decide) (hK.nw 2 rfl) (fun _ h9 => h9) rfl (by decide +kernel) rfl rfl (Nat.le_of_ble_eq_true rfl) dX0_read_44 (fun H locs hP hD hS => ?_)
        have hP : va_P D vwCl (wN k xa ra xi rs ++ (wR k (ra 4) (rsP (rsW rt g8) p4) ++ [(xa 3, .inl (k 6, 4, .inr (.inr (.inr (.inr (fun i => some (sa i))))))), (sa j, .inr (2, [.ref qa])), (qa, .inl (k 3, sn, .inl sf))])) H := hP
        have hD : va_D A (wN k xa ra xi rs ++ (wR k (ra 4) (rsP (rsW rt g8) p4) ++ [(xa 3, .inl (k 6, 4, .inr (.inr (.inr (.inr (fun i => some (sa i))))))), (sa j, .inr (2, [.ref qa])), (qa, .inl (k 3, sn, .inl sf))])) := hD
        refine lv_iconst (v := 0) hx hb dX0_read_47 (by decide) ?_
        refine lv_istore (lv' := [(5, .int (0 : Int32)), (0, .ref (xa 0)), (1, .int (nI j)), (2, .int p2), (3, .int p3), (4, .int p4)]) hx hb dX0_read_48 hl (by decide) rfl (fun ls hl => ?_)
        have hL50 : ∀ (nn : Nat) (rs_50 : RS) (rt_50 : RS) (x5_50 : Int32), ∀ (H : Heap) (locs : List Loc), va_P D vwCl (wN k xa ra xi rs_50 ++ (wR k (ra 4) rt_50 ++ [(xa 3, .inl (k 6, 4, .inr (.inr (.inr (.inr (fun i => some (sa i))))))), (sa j, .inr (2, [.ref qa])), (qa, .inl (k 3, sn, .inl sf))])) H → va_D A (wN k xa ra xi rs_50 ++ (wR k (ra 4) rt_50 ++ [(xa 3, .inl (k 6, 4, .inr (.inr (.inr (.inr (fun i => some (sa i))))))), (sa j, .inr (2, [.ref qa])), (qa, .inl (k 3, sn, .inl sf))])) → va_S A s.heap H locs → fX0_read_s1_L50 j sn sf p2 p3 p4 nn rs_50 rt_50 x5_50 = some (r, rs_o, rt_o) → ∀ ls : Array Slot, lv_has ls 6 [(0, .ref (xa 0)), (1, .int (nI j)), (2, .int p2), (3, .int p3), (4, .int p4), (5, .int x5_50)] → gW p l e rmX0_read_s1 s m [.ref (xa 0), .int (nI j), .int p2, .int p3, .int p4] below meth c (qcX0_read_s1 D k xa ra sa qa j sn xi rs_o rt_o sf r A) A 3 222 H locs 50 ls [] := by
          intro nn50
          induction nn50 with
          | zero =>
            intro rs_50 rt_50 x5_50 H locs hP hD hS hf
            rw [fX0_read_s1_L50] at hf; cases hf
          | succ nn50 ih50 =>
            intro rs_50 rt_50 x5_50 H locs hP hD hS hf ls hl
            rw [fX0_read_s1_L50] at hf
            refine lv_iload hx hb dX0_read_50 (lv_at hl 5 rfl) ?_
            refine lv_iload hx hb dX0_read_52 (lv_at hl 4 rfl) ?_
            refine lv_icmp_ge (tgt := 82) hx hb dX0_read_54 (by decide) (fun c10 => ?_) (fun c10 => ?_)
            · have hf := oi_t c10 hf
              refine lv_goto (tgt := 100) hx hb dX0_read_82 (by decide) ?_
              refine lv_aload_n hx hb dX0_read_100 rfl (lv_at hl 0 rfl) ?_
              obtain ⟨v11, ev11, hf⟩ := ob hf
              refine rd_callVZ (As := []) (rest := []) ⟨hx, hb, hml, hown, hts⟩ (mX0_isTree l D k xa ra xi rt_50  _ ev11) (cwV 0 hts (lw_V q902 q904 qs52 q90 q905) rfl rfl rfl ⟨rfl, hdX0_isTree⟩ ⟨Nat.le_of_ble_eq_true rfl, Nat.le_of_ble_eq_true rfl⟩) hK hP [0, 7, 8, 9, 10, 11, 12] rfl 0 0 rfl rfl rfl hl.1 rfl (Nat.le_of_ble_eq_true rfl) dX0_read_101 ⟨Nat.le_of_ble_eq_true rfl, Nat.le_of_ble_eq_true rfl⟩ (fun zv11 => ?_)
              refine lv_if_ne (tgt := 110) hx hb dX0_read_104 (by decide) (fun c13 => ?_) (fun c13 => ?_)
              · have hf := oi_f c13 hf
                refine lv_aload_n hx hb dX0_read_110 rfl (lv_at hl 0 rfl) ?_
                refine va_get (D := D) (cl := vwCl) (ci := 0) (v := .ref (ra 4 0)) (C := RX0) (T := TX0) (N := 15) hx hb hts in_X0 hown hK.1 hP 0 rfl rfl 13 (by decide) (hts _ q204) (fun _ h9 => h9) rfl dX0_read_111 ?_
                obtain ⟨g14, et15, hf⟩ := ob hf
                refine wr_callVv (As := []) (rest := []) ⟨hx, hb, hml, hown, hts⟩ (mX1_summariseAll l D k (ra 4) rt_50  _ _ et15) (cwV 0 hts (lw_V q168 q169 q170 q91 q171) rfl rfl rfl ⟨rfl, hdX1_summariseAll⟩ ⟨Nat.le_of_ble_eq_true rfl, Nat.le_of_ble_eq_true rfl⟩) hK hP hD hS hA [7, 8, 9, 10, 11, 12] [0, 1, 2, 3, 4, 5, 6, 13, 14, 15] (wN k xa ra xi rs_50 ++ (wR k (ra 4) g14 ++ [(xa 3, .inl (k 6, 4, .inr (.inr (.inr (.inr (fun i => some (sa i))))))), (sa j, .inr (2, [.ref qa])), (qa, .inl (k 3, sn, .inl sf))])) rfl rfl (fm_c (fm_e _ rfl rfl) (fm_c (fm_e _ rfl rfl) (fm_c (fm_e _ rfl rfl) (fm_c (fm_e _ rfl rfl) (fm_c (fm_e _ rfl rfl) (fm_c (fm_e _ rfl rfl) (fm_c (fm_e _ rfl rfl) (fm_c (fm_e _ rfl rfl) (fm_c (fm_e _ rfl rfl) (fm_c (fm_e _ rfl rfl) fm_n)))))))))) 16 rfl (by decide) (by decide) [(xa 0), (ra 0 0), (ra 0 1), (ra 0 2), (ra 0 3), (ra 0 4), (ra 0 5), (ra 4 0), (ra 4 1), (ra 4 2), (ra 4 3), (ra 4 4), (ra 4 5), (xa 3), (sa j), qa] rfl rfl 7 1 rfl rfl rfl hl.1 rfl (Nat.le_of_ble_eq_true rfl) dX0_read_114 ⟨Nat.le_of_ble_eq_true rfl, Nat.le_of_ble_eq_true rfl⟩ (fun H locs hP hD hS => ?_)
                refine lv_aload_n hx hb dX0_read_117 rfl (lv_at hl 0 rfl) ?_
                refine va_get (D := D) (cl := vwCl) (ci := 0) (v := .ref (ra 0 0)) (C := RX0) (T := TX0) (N := 15) hx hb hts in_X0 hown hK.1 hP 0 rfl rfl 0 (by decide) (hts _ q190) (fun _ h9 => h9) rfl dX0_read_118 ?_
                refine lv_aload_n hx hb dX0_read_121 rfl (lv_at hl 0 rfl) ?_
                refine va_get (D := D) (cl := vwCl) (ci := 0) (v := .ref (ra 4 0)) (C := RX0) (T := TX0) (N := 15) hx hb hts in_X0 hown hK.1 hP 0 rfl rfl 13 (by decide) (hts _ q204) (fun _ h9 => h9) rfl dX0_read_122 ?_
                obtain ⟨g16, et17, hf⟩ := ob hf
                refine wr_callVv (As := [.ref (ra 4 0)]) (rest := []) ⟨hx, hb, hml, hown, hts⟩ (mX1_as l D k (ra 0) (ra 4) rs_50 g14  _ _ et17) (cwV 1 hts (lw_V q406 q407 q408 q91 q409) rfl rfl rfl ⟨rfl, hdX1_as⟩ ⟨Nat.le_of_ble_eq_true rfl, Nat.le_of_ble_eq_true rfl⟩) hK hP hD hS hA [1, 2, 3, 4, 5, 6, 7, 8, 9, 10, 11, 12] [0, 13, 14, 15] (wN k xa ra xi g16 ++ (wR k (ra 4) g14 ++ [(xa 3, .inl (k 6, 4, .inr (.inr (.inr (.inr (fun i => some (sa i))))))), (sa j, .inr (2, [.ref qa])), (qa, .inl (k 3, sn, .inl sf))])) rfl rfl (fm_c (fm_e _ rfl rfl) (fm_c (fm_e _ rfl rfl) (fm_c (fm_e _ rfl rfl) (fm_c (fm_e _ rfl rfl) fm_n)))) 16 rfl (by decide) (by decide) [(xa 0), (ra 0 0), (ra 0 1), (ra 0 2), (ra 0 3), (ra 0 4), (ra 0 5), (ra 4 0), (ra 4 1), (ra 4 2), (ra 4 3), (ra 4 4), (ra 4 5), (xa 3), (sa j), qa] rfl rfl 1 1 rfl rfl rfl hl.1 rfl (Nat.le_of_ble_eq_true rfl) dX0_read_125 ⟨Nat.le_of_ble_eq_true rfl, Nat.le_of_ble_eq_true rfl⟩ (fun H locs hP hD hS => ?_)
                refine lv_aload_n hx hb dX0_read_128 rfl (lv_at hl 0 rfl) ?_
                obtain ⟨v18, ev18, hf⟩ := ob hf
                refine rd_callV (As := []) (rest := []) ⟨hx, hb, hml, hown, hts⟩ (mX0_nodes l D k xa ra xi g16  _ ev18) (cwV 0 hts (lw_V q421 q423 qs7 q90 q424) rfl rfl rfl ⟨rfl, hdX0_nodes⟩ ⟨Nat.le_of_ble_eq_true rfl, Nat.le_of_ble_eq_true rfl⟩) hK hP [0, 1, 2, 3, 4, 5, 6] rfl 0 0 rfl rfl rfl hl.1 rfl (Nat.le_of_ble_eq_true rfl) dX0_read_129 ⟨Nat.le_of_ble_eq_true rfl, Nat.le_of_ble_eq_true rfl⟩ ?_
                obtain ⟨he1, he2, he3⟩ := prod3 hf
                rw [he2] at hP
                rw [he3] at hP
                refine W.widen (k := 3) (n := 222) (Nat.le_of_ble_eq_true rfl) (Nat.le_of_ble_eq_true rfl) ?_
                exact wr_iret hx hb hr hlk he1 hP hS dX0_read_132
              · have hf := oi_t c13 hf
                refine lv_bipush (v := (-2)) hx hb dX0_read_107 (by decide) ?_
                obtain ⟨he1, he2, he3⟩ := prod3 hf
                rw [he2] at hP
                rw [he3] at hP
                refine W.widen (k := 3) (n := 222) (Nat.le_of_ble_eq_true rfl) (Nat.le_of_ble_eq_true rfl) ?_
                exact wr_iret hx hb hr hlk he1 hP hS dX0_read_109
            · have hf := oi_f c10 hf
              refine lv_aload_n hx hb dX0_read_57 rfl (lv_at hl 0 rfl) ?_
              refine va_get (D := D) (cl := vwCl) (ci := 0) (v := .ref (ra 4 0)) (C := RX0) (T := TX0) (N := 15) hx hb hts in_X0 hown hK.1 hP 0 rfl rfl 13 (by decide) (hts _ q204) (fun _ h9 => h9) rfl dX0_read_58 ?_
              refine lv_iload hx hb dX0_read_61 (lv_at hl 5 rfl) ?_
              refine lv_aload_n hx hb dX0_read_63 rfl (lv_at hl 0 rfl) ?_
              refine lv_iload_n hx hb dX0_read_64 rfl (lv_at hl 1 rfl) ?_
              refine lv_iload_n hx hb dX0_read_65 rfl (lv_at hl 2 rfl) ?_
              refine lv_iload_n hx hb dX0_read_66 rfl (lv_at hl 3 rfl) ?_
              refine lv_iload hx hb dX0_read_67 (lv_at hl 5 rfl) ?_
              refine lv_iadd hx hb dX0_read_69 ?_
              by_cases c20 : fX0_isBit_s1x j sn sf p2 (p3 + x5_50) = some 3
              · have hf := oi_t c20 hf
                refine wx_excV (As := [.int (nI j), .int p2, .int (p3 + x5_50)]) (rest := [.int x5_50, .ref (ra 4 0)]) ⟨hx, hb, hml, hown, hts⟩ (mX0_isBit_s1x l hst D k xa ra sa qa j sn hj hsn xi sf p2 (p3 + x5_50) _ 3 c20) (cwV 3 hts (lw_V q895 q897 qs51 q90 q898) rfl rfl rfl ⟨rfl, hdX0_isBit_s1x⟩ ⟨Nat.le_of_ble_eq_true rfl, Nat.le_of_ble_eq_true rfl⟩) hK hZ hP hD hS hA [0, 13, 14, 15] [1, 2, 3, 4, 5, 6, 7, 8, 9, 10, 11, 12] rfl 16 rfl (by decide) (by decide) 0 0 rfl rfl rfl hl.1 rfl (Nat.le_of_ble_eq_true rfl) dX0_read_70 ⟨Nat.le_of_ble_eq_true rfl, Nat.le_of_ble_eq_true rfl⟩ (fun H locs q9 ce hP hD hS hc9 hv9 hcl9 => ?_)
                refine vx_catch hown [_] _ _ (hexc.trans rfl) (fm_c (Or.inr ⟨by decide, "java/lang/NullPointerException", hts _ q825, hK.nc 8 rfl⟩) fm_n) rfl (by decide) (hts _ q880) (hK.nw 18 rfl) hc9 hv9 hcl9 ?_
                refine lv_astore (lv' := [(5, .ref q9), (0, .ref (xa 0)), (1, .int (nI j)), (2, .int p2), (3, .int p3), (4, .int p4)]) hx hb dX0_read_90 hl (by decide) rfl (fun ls hl => ?_)
                refine lv_bipush (v := (-13)) hx hb dX0_read_92 (by decide) ?_
                obtain ⟨he1, he2, he3⟩ := prod3 hf
                rw [he2] at hP
                rw [he3] at hP
                refine W.widen (k := 3) (n := 222) (Nat.le_of_ble_eq_true rfl) (Nat.le_of_ble_eq_true rfl) ?_
                exact wr_iret hx hb hr hlk he1 hP hS dX0_read_94
              have hf := oi_f c20 hf
              by_cases c21 : fX0_isBit_s1x j sn sf p2 (p3 + x5_50) = some 2
              · have hf := oi_t c21 hf
                refine wx_excV (As := [.int (nI j), .int p2, .int (p3 + x5_50)]) (rest := [.int x5_50, .ref (ra 4 0)]) ⟨hx, hb, hml, hown, hts⟩ (mX0_isBit_s1x l hst D k xa ra sa qa j sn hj hsn xi sf p2 (p3 + x5_50) _ 2 c21) (cwV 3 hts (lw_V q895 q897 qs51 q90 q898) rfl rfl rfl ⟨rfl, hdX0_isBit_s1x⟩ ⟨Nat.le_of_ble_eq_true rfl, Nat.le_of_ble_eq_true rfl⟩) hK hZ hP hD hS hA [0, 13, 14, 15] [1, 2, 3, 4, 5, 6, 7, 8, 9, 10, 11, 12] rfl 16 rfl (by decide) (by decide) 0 0 rfl rfl rfl hl.1 rfl (Nat.le_of_ble_eq_true rfl) dX0_read_70 ⟨Nat.le_of_ble_eq_true rfl, Nat.le_of_ble_eq_true rfl⟩ (fun H locs q9 ce hP hD hS hc9 hv9 hcl9 => ?_)
                refine vx_catch hown [_, _] _ _ (hexc.trans rfl) (fm_c (Or.inr ⟨by decide, "java/lang/NullPointerException", hts _ q825, hK.nc 6 rfl⟩) (fm_c (Or.inr ⟨by decide, "java/lang/ClassCastException", hts _ q880, hK.nc 7 rfl⟩) fm_n)) rfl (by decide) (hts _ q850) (hK.nw 17 rfl) hc9 hv9 hcl9 ?_
                refine lv_astore (lv' := [(5, .ref q9), (0, .ref (xa 0)), (1, .int (nI j)), (2, .int p2), (3, .int p3), (4, .int p4)]) hx hb dX0_read_95 hl (by decide) rfl (fun ls hl => ?_)
                refine lv_bipush (v := (-12)) hx hb dX0_read_97 (by decide) ?_
                obtain ⟨he1, he2, he3⟩ := prod3 hf
                rw [he2] at hP
                rw [he3] at hP
                refine W.widen (k := 3) (n := 222) (Nat.le_of_ble_eq_true rfl) (Nat.le_of_ble_eq_true rfl) ?_
                exact wr_iret hx hb hr hlk he1 hP hS dX0_read_99
              have hf := oi_f c21 hf
              obtain ⟨v22, ev22, hf⟩ := ob hf
              refine rd_callVZ (As := [.int (nI j), .int p2, .int (p3 + x5_50)]) (rest := [.int x5_50, .ref (ra 4 0)]) ⟨hx, hb, hml, hown, hts⟩ (mX0_isBit_s1 l D k xa ra sa qa j sn hj hsn xi sf p2 (p3 + x5_50) _ ev22) (cwV 3 hts (lw_V q895 q897 qs51 q90 q898) rfl rfl rfl ⟨rfl, hdX0_isBit_s1⟩ ⟨Nat.le_of_ble_eq_true rfl, Nat.le_of_ble_eq_true rfl⟩) hK hP [0, 13, 14, 15] rfl 0 0 rfl rfl rfl hl.1 rfl (Nat.le_of_ble_eq_true rfl) dX0_read_70 ⟨Nat.le_of_ble_eq_true rfl, Nat.le_of_ble_eq_true rfl⟩ (fun zv22 => ?_)
              obtain ⟨g24, et25, hf⟩ := ob hf
              refine wr_callVv (As := [.int x5_50, .int v22]) (rest := []) ⟨hx, hb, hml, hown, hts⟩ (mX1_becomes l D k (ra 4) rt_50 x5_50 v22 _ _ et25) (cwV 2 hts (lw_V q725 q397 q398 q91 q399) rfl rfl rfl ⟨rfl, hdX1_becomes⟩ ⟨Nat.le_of_ble_eq_true rfl, Nat.le_of_ble_eq_true rfl⟩) hK hP hD hS hA [7, 8, 9, 10, 11, 12] [0, 1, 2, 3, 4, 5, 6, 13, 14, 15] (wN k xa ra xi rs_50 ++ (wR k (ra 4) g24 ++ [(xa 3, .inl (k 6, 4, .inr (.inr (.inr (.inr (fun i => some (sa i))))))), (sa j, .inr (2, [.ref qa])), (qa, .inl (k 3, sn, .inl sf))])) rfl rfl (fm_c (fm_e _ rfl rfl) (fm_c (fm_e _ rfl rfl) (fm_c (fm_e _ rfl rfl) (fm_c (fm_e _ rfl rfl) (fm_c (fm_e _ rfl rfl) (fm_c (fm_e _ rfl rfl) (fm_c (fm_e _ rfl rfl) (fm_c (fm_e _ rfl rfl) (fm_c (fm_e _ rfl rfl) (fm_c (fm_e _ rfl rfl) fm_n)))))))))) 16 rfl (by decide) (by decide) [(xa 0), (ra 0 0), (ra 0 1), (ra 0 2), (ra 0 3), (ra 0 4), (ra 0 5), (ra 4 0), (ra 4 1), (ra 4 2), (ra 4 3), (ra 4 4), (ra 4 5), (xa 3), (sa j), qa] rfl rfl 7 1 rfl rfl rfl hl.1 rfl (Nat.le_of_ble_eq_true rfl) dX0_read_73 ⟨Nat.le_of_ble_eq_true rfl, Nat.le_of_ble_eq_true rfl⟩ (fun H locs hP hD hS => ?_)
              refine lv_iinc (v := (x5_50 + 1)) (lv' := [(5, .int (x5_50 + 1)), (0, .ref (xa 0)), (1, .int (nI j)), (2, .int p2), (3, .int p3), (4, .int p4)]) hx hb dX0_read_76 hl (k := 5) rfl rfl (by decide) rfl (fun ls hl => ?_)
              refine lv_goto (tgt := 50) hx hb dX0_read_79 (by decide) ?_
              exact ih50 rs_50 g24 (x5_50 + 1) H locs hP hD hS hf ls (lv_sub hl [1, 2, 3, 4, 5, 0] rfl)
        exact hL50 FU rs (rsP (rsW rt g8) p4) (0 : Int32) H locs hP hD hS hf ls (lv_sub hl [1, 2, 3, 4, 5, 0] rfl)
      · have hf := oi_f c7 hf
        refine lv_iconst (v := (-1)) hx hb dX0_read_25 (by decide) ?_
        obtain ⟨he1, he2, he3⟩ := prod3 hf
        rw [he2] at hP
        rw [he3] at hP
        refine W.widen (k := 3) (n := 222) (Nat.le_of_ble_eq_true rfl) (Nat.le_of_ble_eq_true rfl) ?_
        exact wr_iret hx hb hr hlk he1 hP hS dX0_read_26

abbrev rmX0_count_s1 : Room := { frames := 1, cells := 0, slots := 0, locals := 21 }
theorem hdX0_count_s1 : yX0_count.cls ≠ "java/lang/invoke/MethodHandle" ∧ yX0_count.cls ≠ "java/lang/invoke/VarHandle" ∧ (parseMethodDescriptor yX0_count.desc).map (fun d => d.parameters.length) = some 1 := by decide +kernel
set_option maxHeartbeats 4000000 in
theorem mX0_count_s1 (l : Launch) (D : va_G) (k : Nat → ClassId) (xa : Nat → Nat) (ra : Nat → Nat → Nat) (sa : Nat → Nat) (qa : Nat) (sn : Nat) (hsn : sn < 2 ^ 31) (xi : Nat → Int32) (rs : RS) (sf : Nat → Int32) (p1 : Int32) (r : Int32) (hf : fX0_count_s1 sn xi rs p1 = some r) : CtI l yX0_count cX0_count 10 rmX0_count_s1 [.ref (xa 0), .int p1] D k (wN k xa ra xi rs ++ [(xa 3, .inl (k 6, 4, .inr (.inr (.inr (.inr (fun i => some (sa i))))))), (sa 0, .inr (2, [.ref qa])), (qa, .inl (k 3, sn, .inl sf))]) r := by
  refine rd_start (by decide +kernel) (Nat.le_of_ble_eq_true rfl) ?_
  intro p e s m below meth c ls hx hb hr hlk hml hown hts hP hK hl
  have hl : lv_has ls 10 [(0, .ref (xa 0)), (1, .int p1)] := hl
  have hown : s.vm.findClass RX0 = some m.cls := hown
  unfold fX0_count_s1 at hf
  refine lv_aload_n hx hb dX0_count_0 rfl (lv_at hl 0 rfl) ?_
  refine va_get (D := D) (cl := vwCl) (ci := 0) (v := .ref (xa 3)) (C := RX0) (T := TX0) (N := 15) hx hb hts in_X0 hown hK.1 hP 0 rfl rfl 12 (by decide) (hts _ q203) (fun _ h9 => h9) rfl dX0_count_1 ?_
  refine lv_iconst (v := 0) hx hb dX0_count_4 (by decide) ?_
  refine x_aald hx hb hK hP 7 6 (j := 0) (n := 4) rfl (by decide) (by decide) rfl rfl rfl dX0_count_5 ?_
  refine va_getN (D := D) (cl := vwCl) (ci := 2) (v := .ref qa) (C := RX2) (T := TX2) (N := 1) hx hb hts in_X2 hown hK.1 hP 8 rfl rfl 0 (by decide) (hK.nw 8 rfl) (fun _ h9 => h9) rfl dX0_count_6 ?_
  refine lv_astore_n (lv' := [(2, .ref qa), (0, .ref (xa 0)), (1, .int p1)]) hx hb dX0_count_9 rfl hl (by decide) rfl (fun ls hl => ?_)
  refine lv_aload_n hx hb dX0_count_10 rfl (lv_at hl 0 rfl) ?_
  refine x_instA hx hb hK hown (hts _ q869) hP 9 3 rfl rfl (by decide +kernel) dX0_count_11 ?_
  refine lv_if_eq (tgt := 25) hx hb dX0_count_14 (by decide) (fun c9 => absurd c9 (by decide)) (fun _ => ?_)
  refine lv_aload_n hx hb dX0_count_17 rfl (lv_at hl 0 rfl) ?_
  refine x_castA hx hb hK hown (hts _ q869) hP 9 3 rfl rfl (by decide +kernel) dX0_count_18 ?_
  refine va_alen hx hb hK.1 hP 9 3 rfl rfl rfl dX0_count_21 ?_
  refine lv_goto (tgt := 57) hx hb dX0_count_22 (by decide) ?_
  have hB57 : ∀ (s0_57 : Int32), fX0_count_s1_B57 sn xi rs p1 s0_57 = some r → ∀ ls : Array Slot, lv_has ls 10 [(0, .ref (xa 0)), (1, .int p1)] → gR p l e rmX0_count_s1 s m [.ref (xa 0), .int p1] below meth c (vp_Si (fun x => x = r)) 57 ls [.int s0_57] := by
    intro s0_57 hf ls hl
    unfold fX0_count_s1_B57 at hf
    refine lv_istore_n (lv' := [(3, .int s0_57), (0, .ref (xa 0)), (1, .int p1)]) hx hb dX0_count_57 rfl hl (by decide) rfl (fun ls hl => ?_)
    refine lv_iconst (v := 0) hx hb dX0_count_58 (by decide) ?_
    refine lv_istore (lv' := [(4, .int (0 : Int32)), (3, .int s0_57), (0, .ref (xa 0)), (1, .int p1)]) hx hb dX0_count_59 hl (by decide) rfl (fun ls hl => ?_)
    refine lv_aload_n hx hb dX0_count_61 rfl (lv_at hl 2 rfl) ?_
    refine va_get (D := D) (cl := vwCl) (ci := 0) (v := .ref (ra 0 0)) (C := RX0) (T := TX0) (N := 15) hx hb hts in_X0 hown hK.1 hP 0 rfl rfl 0 (by decide) (hts _ q190) (fun _ h9 => h9) rfl dX0_count_62 ?_
    refine va_getN (D := D) (cl := vwCl) (ci := 1) (v := .ref (ra 0 1)) (C := RX1) (T := TX1) (N := 6) hx hb hts in_X1 hown hK.1 hP 1 rfl rfl 0 (by decide) (hK.nw 1 rfl) (fun _ h9 => h9) rfl dX0_count_65 ?_
    refine lv_astore (lv' := [(5, .ref (ra 0 1)), (4, .int (0 : Int32)), (3, .int s0_57), (0, .ref (xa 0)), (1, .int p1)]) hx hb dX0_count_68 hl (by decide) rfl (fun ls hl => ?_)
    refine lv_aload hx hb dX0_count_70 (lv_at hl 0 rfl) ?_
    refine va_alen hx hb hK.1 hP 2 0 rfl rfl rfl dX0_count_72 ?_
    refine lv_istore (lv' := [(6, .int (2 : Int32)), (5, .ref (ra 0 1)), (4, .int (0 : Int32)), (3, .int s0_57), (0, .ref (xa 0)), (1, .int p1)]) hx hb dX0_count_73 hl (by decide) rfl (fun ls hl => ?_)
    refine lv_iconst (v := 0) hx hb dX0_count_75 (by decide) ?_
    refine lv_istore (lv' := [(7, .int (0 : Int32)), (6, .int (2 : Int32)), (5, .ref (ra 0 1)), (4, .int (0 : Int32)), (3, .int s0_57), (0, .ref (xa 0)), (1, .int p1)]) hx hb dX0_count_76 hl (by decide) rfl (fun ls hl => ?_)
    have hL78 : ∀ (nn : Nat) (x3_78 : Int32) (x4_78 : Int32) (x6_78 : Int32) (x7_78 : Int32), fX0_count_s1_L78 sn xi rs p1 nn x3_78 x4_78 x6_78 x7_78 = some r → ∀ ls : Array Slot, lv_has ls 10 [(0, .ref (xa 0)), (1, .int p1), (3, .int x3_78), (4, .int x4_78), (5, .ref (ra 0 1)), (6, .int x6_78), (7, .int x7_78)] → gR p l e rmX0_count_s1 s m [.ref (xa 0), .int p1] below meth c (vp_Si (fun x => x = r)) 78 ls [] := by
      intro nn78
      induction nn78 with
      | zero =>
        intro x3_78 x4_78 x6_78 x7_78 hf
        rw [fX0_count_s1_L78] at hf; cases hf
      | succ nn78 ih78 =>
        intro x3_78 x4_78 x6_78 x7_78 hf ls hl
        rw [fX0_count_s1_L78] at hf
        refine lv_iload hx hb dX0_count_78 (lv_at hl 6 rfl) ?_
        refine lv_iload hx hb dX0_count_80 (lv_at hl 5 rfl) ?_
        refine lv_icmp_ge (tgt := 112) hx hb dX0_count_82 (by decide) (fun c1 => ?_) (fun c1 => ?_)
        · have hf := oi_t c1 hf
          refine lv_iload_n hx hb dX0_count_112 rfl (lv_at hl 1 rfl) ?_
          by_cases c2 : p1 = 0
          · have hf := oi_t c2 hf
            refine lv_tableIn (off := 31) (tgt := 144) hx hb dX0_count_113 (by rw [c2]; decide) (by rw [c2]; decide) (by rw [c2]; rfl) (by decide) ?_
            refine lv_aload_n hx hb dX0_count_144 rfl (lv_at hl 0 rfl) ?_
            refine va_get (D := D) (cl := vwCl) (ci := 0) (v := .int (xi 0)) (C := RX0) (T := TX0) (N := 15) hx hb hts in_X0 hown hK.1 hP 0 rfl rfl 2 (by decide) (hts _ q192) (fun _ h9 => h9) rfl dX0_count_145 ?_
            obtain ⟨v3, ev3, hf⟩ := ob hf
            refine rd_callS (As := [.int (xi 0)]) (rest := []) ⟨hx, hb, hml, hown, hts⟩ (mJ13_bitCount l D k   (xi 0) _ ev3) (va_cwS 1 hts (lw_S q926 q927 q110 q928) rfl rfl rfl hdJ13_bitCount ⟨Nat.le_of_ble_eq_true rfl, Nat.le_of_ble_eq_true rfl⟩) hK rfl hl.1 rfl (Nat.le_of_ble_eq_true rfl) dX0_count_148 ⟨Nat.le_of_ble_eq_true rfl, Nat.le_of_ble_eq_true rfl⟩ ?_
            exact rd_iret hx hb hr hlk (Option.some.inj hf) dX0_count_151
          have hf := oi_f c2 hf
          by_cases c5 : p1 = 1
          · have hf := oi_t c5 hf
            refine lv_tableIn (off := 39) (tgt := 152) hx hb dX0_count_113 (by rw [c5]; decide) (by rw [c5]; decide) (by rw [c5]; rfl) (by decide) ?_
            refine lv_aload_n hx hb dX0_count_152 rfl (lv_at hl 0 rfl) ?_
            refine va_get (D := D) (cl := vwCl) (ci := 0) (v := .int (xi 6)) (C := RX0) (T := TX0) (N := 15) hx hb hts in_X0 hown hK.1 hP 0 rfl rfl 9 (by decide) (hts _ q200) (fun _ h9 => h9) rfl dX0_count_153 ?_
            exact rd_iret hx hb hr hlk (Option.some.inj hf) dX0_count_156
          have hf := oi_f c5 hf
          by_cases c6 : p1 = 2
          · have hf := oi_t c6 hf
            refine lv_tableIn (off := 44) (tgt := 157) hx hb dX0_count_113 (by rw [c6]; decide) (by rw [c6]; decide) (by rw [c6]; rfl) (by decide) ?_
            refine lv_iload_n hx hb dX0_count_157 rfl (lv_at hl 2 rfl) ?_
            exact rd_iret hx hb hr hlk (Option.some.inj hf) dX0_count_158
          have hf := oi_f c6 hf
          by_cases c7 : p1 = 3
          · have hf := oi_t c7 hf
            refine lv_tableIn (off := 46) (tgt := 159) hx hb dX0_count_113 (by rw [c7]; decide) (by rw [c7]; decide) (by rw [c7]; rfl) (by decide) ?_
            refine lv_iload hx hb dX0_count_159 (lv_at hl 3 rfl) ?_
            exact rd_iret hx hb hr hlk (Option.some.inj hf) dX0_count_161
          have hf := oi_f c7 hf
          refine lv_tableOut (tgt := 162) hx hb dX0_count_113 (tb_out4 c2 c5 c6 c7) (by decide) ?_
          refine lv_iconst (v := (-1)) hx hb dX0_count_162 (by decide) ?_
          exact rd_iret hx hb hr hlk (Option.some.inj hf) dX0_count_163
        · have hf := oi_f c1 hf
          refine lv_aload hx hb dX0_count_85 (lv_at hl 4 rfl) ?_
          refine lv_iload hx hb dX0_count_87 (lv_at hl 6 rfl) ?_
          obtain ⟨v8, ev8, hf⟩ := ob hf
          refine x_lald hx hb hK hP 2 0 ev8 rfl rfl dX0_count_89 ?_
          refine lv_lstore (lv' := [(8, .long v8), (0, .ref (xa 0)), (1, .int p1), (3, .int x3_78), (4, .int x4_78), (5, .ref (ra 0 1)), (6, .int x6_78), (7, .int x7_78)]) hx hb dX0_count_90 hl (by decide) rfl (fun ls hl => ?_)
          refine lv_iload hx hb dX0_count_92 (lv_at hl 4 rfl) ?_
          refine lv_lload hx hb dX0_count_94 (lv_at hl 0 rfl) ?_
          refine lv_ldc2 hx hb hown (hts _ q924) dX0_count_96 ?_
          refine lv_land hx hb dX0_count_99 ?_
          obtain ⟨v9, ev9, hf⟩ := ob hf
          refine rd_callS (As := [.long (v8 &&& (-6148914691236517206 : Int64))]) (rest := [.int x4_78]) ⟨hx, hb, hml, hown, hts⟩ (mJ3_bitCount l D k   (v8 &&& (-6148914691236517206 : Int64)) _ ev9) (va_cwS 1 hts (lw_S q925 q434 q100 q435) rfl rfl rfl hdJ3_bitCount ⟨Nat.le_of_ble_eq_true rfl, Nat.le_of_ble_eq_true rfl⟩) hK rfl hl.1 rfl (Nat.le_of_ble_eq_true rfl) dX0_count_100 ⟨Nat.le_of_ble_eq_true rfl, Nat.le_of_ble_eq_true rfl⟩ ?_
          refine lv_iadd hx hb dX0_count_103 ?_
          obtain ⟨y11, ey11, hf⟩ := ob hf
          refine x_asI ey11 ?_
          refine lv_istore (lv' := [(4, .int y11), (8, .long v8), (0, .ref (xa 0)), (1, .int p1), (3, .int x3_78), (5, .ref (ra 0 1)), (6, .int x6_78), (7, .int x7_78)]) hx hb dX0_count_104 hl (by decide) rfl (fun ls hl => ?_)
          refine lv_iinc (v := (x7_78 + 1)) (lv' := [(7, .int (x7_78 + 1)), (4, .int y11), (8, .long v8), (0, .ref (xa 0)), (1, .int p1), (3, .int x3_78), (5, .ref (ra 0 1)), (6, .int x6_78)]) hx hb dX0_count_106 hl (k := 7) rfl rfl (by decide) rfl (fun ls hl => ?_)
          refine lv_goto (tgt := 78) hx hb dX0_count_109 (by decide) ?_
          exact ih78 x3_78 y11 x6_78 (x7_78 + 1) hf ls (lv_sub hl [3, 4, 5, 1, 6, 7, 0] rfl)
    exact hL78 FU s0_57 (0 : Int32) (2 : Int32) (0 : Int32) hf ls (lv_sub hl [5, 6, 4, 3, 2, 1, 0] rfl)
  exact hB57 (Int32.ofNat sn) hf ls (lv_sub hl [1, 2] rfl)

abbrev rmX0_lay_s2n : Room := { frames := 1, cells := 0, slots := 0, locals := 25 }
theorem hdX0_lay_s2n : yX0_lay.cls ≠ "java/lang/invoke/MethodHandle" ∧ yX0_lay.cls ≠ "java/lang/invoke/VarHandle" ∧ (parseMethodDescriptor yX0_lay.desc).map (fun d => d.parameters.length) = some 3 := by decide +kernel
abbrev qcX0_lay_s2n (D : va_G) (k : Nat → ClassId) (xa : Nat → Nat) (ra : Nat → Nat → Nat) (sa : Nat → Nat) (qa : Nat) (j : Nat) (sn : Nat) (xi : Nat → Int32) (sf : Nat → Int32) (r : Int32) (A : Nat → Prop) : Array Value → State → Outcome → State → Prop := va_Qi (fun x (_ : Unit) => x = r) (fun _ t => va_P D vwCl [oX xa ra xi, (xa 3, .inl (k 6, 4, .inr (.inr (.inr (.inr (fun i => some (sa i))))))), (sa j, .inr (2, [.ref qa])), (qa, .inl (k 1, sn, .inl sf))] t.heap) A
set_option maxHeartbeats 4000000 in
theorem mX0_lay_s2n (l : Launch) (D : va_G) (k : Nat → ClassId) (xa : Nat → Nat) (ra : Nat → Nat → Nat) (sa : Nat → Nat) (qa : Nat) (j : Nat) (sn : Nat) (hj : j < 4) (hsn : sn < 2 ^ 31) (xi : Nat → Int32) (sf : Nat → Int32) (p2 : Int32) (p3 : Int64) (sz : Nat) (r : Int32) (sf_o : Nat → Int32) (hf : fX0_lay_s2n j sn sf p2 p3 = some (r, sf_o)) : Met l yX0_lay (wsW_ yX0_lay cX0_lay 7 (some .int) [(25, 75, 76, 324), (25, 75, 81, 326)]) rmX0_lay_s2n (wrP D k [oX xa ra xi, (xa 3, .inl (k 6, 4, .inr (.inr (.inr (.inr (fun i => some (sa i))))))), (sa j, .inr (2, [.ref qa])), (qa, .inl (k 1, sn, .inl sf))] sz [.ref (xa 0), .int (nI j), .int p2, .long p3]) (qcX0_lay_s2n D k xa ra sa qa j sn xi sf_o r (va_A [oX xa ra xi, (xa 3, .inl (k 6, 4, .inr (.inr (.inr (.inr (fun i => some (sa i))))))), (sa j, .inr (2, [.ref qa])), (qa, .inl (k 1, sn, .inl sf))] sz)) 0 0 (va_A [oX xa ra xi, (xa 3, .inl (k 6, 4, .inr (.inr (.inr (.inr (fun i => some (sa i))))))), (sa j, .inr (2, [.ref qa])), (qa, .inl (k 1, sn, .inl sf))] sz) := by
  refine wr_startW (Qc := fun A => qcX0_lay_s2n D k xa ra sa qa j sn xi sf_o r A) (by decide +kernel) (Nat.le_of_ble_eq_true rfl) ?_
  intro p e s m below meth c ls A hA hx hb hr hlk hml hown hts hP hK hD hl
  have hl : lv_has ls 7 [(0, .ref (xa 0)), (1, .int (nI j)), (2, .int p2), (3, .long p3)] := hl
  have hown : s.vm.findClass RX0 = some m.cls := hown
  have hS : va_S A s.heap s.heap [] := va_S.rf
  suffices hw : ∀ (H : Heap) (locs : List Loc), va_P D vwCl [oX xa ra xi, (xa 3, .inl (k 6, 4, .inr (.inr (.inr (.inr (fun i => some (sa i))))))), (sa j, .inr (2, [.ref qa])), (qa, .inl (k 1, sn, .inl sf))] H → va_S A s.heap H locs → gW p l e rmX0_lay_s2n s m [.ref (xa 0), .int (nI j), .int p2, .long p3] below meth c (qcX0_lay_s2n D k xa ra sa qa j sn xi sf_o r A) A 0 0 H locs 0 ls [] from hw s.heap [] hP hS
  clear hP hS
  intro H locs hP hS
  unfold fX0_lay_s2n at hf
  refine lv_iload_n hx hb dX0_lay_0 rfl (lv_at hl 1 rfl) ?_
  refine lv_i2l hx hb dX0_lay_1 rfl ?_
  refine lv_lconst (v := 0) hx hb dX0_lay_2 (by decide) ?_
  refine lv_ldc2 hx hb hown (hts _ q520) dX0_lay_3 ?_
  obtain ⟨v1, ev1, hf⟩ := ob hf
  refine rd_callSZ (As := [.long (((nI j)).toInt64), .long (0 : Int64), .long (3 : Int64)]) (rest := []) ⟨hx, hb, hml, hown, hts⟩ (mX0_in l D k   (((nI j)).toInt64) (0 : Int64) (3 : Int64) _ ev1) (va_cwS 3 hts (lw_S q242 q243 q90 q244) rfl rfl rfl hdX0_in ⟨Nat.le_of_ble_eq_true rfl, Nat.le_of_ble_eq_true rfl⟩) hK rfl hl.1 rfl (Nat.le_of_ble_eq_true rfl) dX0_lay_6 ⟨Nat.le_of_ble_eq_true rfl, Nat.le_of_ble_eq_true rfl⟩ (fun zv1 => ?_)
  refine lv_if_ne (tgt := 14) hx hb dX0_lay_9 (by decide) (fun c3 => ?_) (fun c3 => ?_)
  · have hf := oi_f c3 hf
    refine lv_aload_n hx hb dX0_lay_14 rfl (lv_at hl 0 rfl) ?_
    refine va_get (D := D) (cl := vwCl) (ci := 0) (v := .ref (xa 3)) (C := RX0) (T := TX0) (N := 15) hx hb hts in_X0 hown hK.1 hP 0 rfl rfl 12 (by decide) (hts _ q203) (fun _ h9 => h9) rfl dX0_lay_15 ?_
    refine lv_iload_n hx hb dX0_lay_18 rfl (lv_at hl 1 rfl) ?_
    refine x_aald hx hb hK hP 1 6 (j := j) (n := 4) rfl hj (by decide) rfl rfl rfl dX0_lay_19 ?_
    refine va_getN (D := D) (cl := vwCl) (ci := 2) (v := .ref qa) (C := RX2) (T := TX2) (N := 1) hx hb hts in_X2 hown hK.1 hP 2 rfl rfl 0 (by decide) (hK.nw 8 rfl) (fun _ h9 => h9) rfl dX0_lay_20 ?_
    refine lv_astore (lv' := [(5, .ref qa), (0, .ref (xa 0)), (1, .int (nI j)), (2, .int p2), (3, .long p3)]) hx hb dX0_lay_23 hl (by decide) rfl (fun ls hl => ?_)
    refine lv_aload hx hb dX0_lay_25 (lv_at hl 0 rfl) ?_
    refine x_instN (na := "[I") hx hb hK hown (hts _ q869) hP 3 1 rfl rfl (by decide +kernel) (hK.nc 2 rfl) dX0_lay_27 ?_
    refine lv_if_eq (tgt := 46) hx hb dX0_lay_30 (by decide) (fun _ => ?_) (fun c9 => absurd c9 (by decide))
    refine lv_aload hx hb dX0_lay_46 (lv_at hl 0 rfl) ?_
    refine x_instA hx hb hK hown (hts _ q870) hP 3 1 rfl rfl (by decide +kernel) dX0_lay_48 ?_
    refine lv_if_eq (tgt := 66) hx hb dX0_lay_51 (by decide) (fun c9 => absurd c9 (by decide)) (fun _ => ?_)
    refine lv_aload hx hb dX0_lay_54 (lv_at hl 0 rfl) ?_
    refine x_castA hx hb hK hown (hts _ q870) hP 3 1 rfl rfl (by decide +kernel) dX0_lay_56 ?_
    refine lv_iload_n hx hb dX0_lay_59 rfl (lv_at hl 3 rfl) ?_
    refine lv_lload_n hx hb dX0_lay_60 rfl (lv_at hl 4 rfl) ?_
    refine lv_l2i hx hb dX0_lay_61 rfl ?_
    obtain ⟨u4, eu4, hf⟩ := ob hf
    refine x_iast hx hb hK hP hD hS 3 1 eu4 rfl rfl [oX xa ra xi, (xa 3, .inl (k 6, 4, .inr (.inr (.inr (.inr (fun i => some (sa i))))))), (sa j, .inr (2, [.ref qa])), (qa, .inl (k 1, sn, .inl u4))] rfl dX0_lay_62 (fun H locs hP hD hS => ?_)
    refine lv_goto (tgt := 74) hx hb dX0_lay_63 (by decide) ?_
    refine lv_iconst (v := 1) hx hb dX0_lay_74 (by decide) ?_
    obtain ⟨he1, he2⟩ := prod2 hf
    rw [he2] at hP
    exact wr_iret hx hb hr hlk he1 hP hS dX0_lay_75
  · have hf := oi_t c3 hf
    refine lv_iconst (v := (-1)) hx hb dX0_lay_12 (by decide) ?_
    obtain ⟨he1, he2⟩ := prod2 hf
    rw [he2] at hP
    exact wr_iret hx hb hr hlk he1 hP hS dX0_lay_13

abbrev rmX0_isBit_s2 : Room := { frames := 1, cells := 0, slots := 0, locals := 20 }
theorem hdX0_isBit_s2 : yX0_isBit.cls ≠ "java/lang/invoke/MethodHandle" ∧ yX0_isBit.cls ≠ "java/lang/invoke/VarHandle" ∧ (parseMethodDescriptor yX0_isBit.desc).map (fun d => d.parameters.length) = some 3 := by decide +kernel
set_option maxHeartbeats 4000000 in
theorem mX0_isBit_s2 (l : Launch) (D : va_G) (k : Nat → ClassId) (xa : Nat → Nat) (ra : Nat → Nat → Nat) (sa : Nat → Nat) (qa : Nat) (j : Nat) (sn : Nat) (hj : j < 4) (hsn : sn < 2 ^ 31) (xi : Nat → Int32) (sf : Nat → Int32) (p2 : Int32) (p3 : Int32) (r : Int32) (hf : fX0_isBit_s2 j sn sf p2 p3 = some r) : CtZ l yX0_isBit cX0_isBit 8 rmX0_isBit_s2 [.ref (xa 0), .int (nI j), .int p2, .int p3] D k [oX xa ra xi, (xa 3, .inl (k 6, 4, .inr (.inr (.inr (.inr (fun i => some (sa i))))))), (sa j, .inr (2, [.ref qa])), (qa, .inl (k 1, sn, .inl sf))] r := by
  refine rd_start (by decide +kernel) (Nat.le_of_ble_eq_true rfl) ?_
  intro p e s m below meth c ls hx hb hr hlk hml hown hts hP hK hl
  have hl : lv_has ls 8 [(0, .ref (xa 0)), (1, .int (nI j)), (2, .int p2), (3, .int p3)] := hl
  have hown : s.vm.findClass RX0 = some m.cls := hown
  unfold fX0_isBit_s2 at hf
  refine lv_aload_n hx hb dX0_isBit_0 rfl (lv_at hl 0 rfl) ?_
  refine va_get (D := D) (cl := vwCl) (ci := 0) (v := .ref (xa 3)) (C := RX0) (T := TX0) (N := 15) hx hb hts in_X0 hown hK.1 hP 0 rfl rfl 12 (by decide) (hts _ q203) (fun _ h9 => h9) rfl dX0_isBit_1 ?_
  refine lv_iload_n hx hb dX0_isBit_4 rfl (lv_at hl 1 rfl) ?_
  refine x_aald hx hb hK hP 1 6 (j := j) (n := 4) rfl hj (by decide) rfl rfl rfl dX0_isBit_5 ?_
  refine va_getN (D := D) (cl := vwCl) (ci := 2) (v := .ref qa) (C := RX2) (T := TX2) (N := 1) hx hb hts in_X2 hown hK.1 hP 2 rfl rfl 0 (by decide) (hK.nw 8 rfl) (fun _ h9 => h9) rfl dX0_isBit_6 ?_
  refine lv_astore (lv' := [(4, .ref qa), (0, .ref (xa 0)), (1, .int (nI j)), (2, .int p2), (3, .int p3)]) hx hb dX0_isBit_9 hl (by decide) rfl (fun ls hl => ?_)
  refine lv_iload_n hx hb dX0_isBit_11 rfl (lv_at hl 4 rfl) ?_
  refine lv_iload_n hx hb dX0_isBit_12 rfl (lv_at hl 3 rfl) ?_
  obtain ⟨v1, ev1, hf⟩ := ob hf
  refine rd_callS (As := [.int p2]) (rest := [.int p3]) ⟨hx, hb, hml, hown, hts⟩ (mX0_bitsOf l D k   p2 _ ev1) (va_cwS 1 hts (lw_S q899 q900 q90 q901) rfl rfl rfl hdX0_bitsOf ⟨Nat.le_of_ble_eq_true rfl, Nat.le_of_ble_eq_true rfl⟩) hK rfl hl.1 rfl (Nat.le_of_ble_eq_true rfl) dX0_isBit_13 ⟨Nat.le_of_ble_eq_true rfl, Nat.le_of_ble_eq_true rfl⟩ ?_
  have c3 := on_z hf
  have hf := oi_f c3 hf
  refine lv_idiv hx hb dX0_isBit_16 c3 ?_
  obtain ⟨y4, ey4, hf⟩ := ob hf
  refine x_asI ey4 ?_
  refine lv_istore (lv' := [(5, .int y4), (4, .ref qa), (0, .ref (xa 0)), (1, .int (nI j)), (2, .int p2), (3, .int p3)]) hx hb dX0_isBit_17 hl (by decide) rfl (fun ls hl => ?_)
  refine lv_iload_n hx hb dX0_isBit_19 rfl (lv_at hl 4 rfl) ?_
  have hB60 : ∀ (s0_60 : Int64), fX0_isBit_s2_B60 j sn sf p2 p3 s0_60 = some r → ∀ ls : Array Slot, lv_has ls 8 [(2, .int p2), (3, .int p3)] → gR p l e rmX0_isBit_s2 s m [.ref (xa 0), .int (nI j), .int p2, .int p3] below meth c (vp_Si (fun x => x = r ∧ zb x)) 60 ls [.long s0_60] := by
    intro s0_60 hf ls hl
    unfold fX0_isBit_s2_B60 at hf
    refine lv_lstore (lv' := [(6, .long s0_60), (2, .int p2), (3, .int p3)]) hx hb dX0_isBit_60 hl (by decide) rfl (fun ls hl => ?_)
    refine lv_lload hx hb dX0_isBit_62 (lv_at hl 0 rfl) ?_
    refine lv_iload_n hx hb dX0_isBit_64 rfl (lv_at hl 2 rfl) ?_
    refine lv_iload_n hx hb dX0_isBit_65 rfl (lv_at hl 1 rfl) ?_
    obtain ⟨v6, ev6, hf⟩ := ob hf
    refine rd_callS (As := [.int p2]) (rest := [.int p3, .long s0_60]) ⟨hx, hb, hml, hown, hts⟩ (mX0_bitsOf l D k   p2 _ ev6) (va_cwS 1 hts (lw_S q899 q900 q90 q901) rfl rfl rfl hdX0_bitsOf ⟨Nat.le_of_ble_eq_true rfl, Nat.le_of_ble_eq_true rfl⟩) hK rfl hl.1 rfl (Nat.le_of_ble_eq_true rfl) dX0_isBit_66 ⟨Nat.le_of_ble_eq_true rfl, Nat.le_of_ble_eq_true rfl⟩ ?_
    have c8 := on_z hf
    have hf := oi_f c8 hf
    refine lv_irem hx hb dX0_isBit_69 c8 ?_
    refine lv_lshr hx hb dX0_isBit_70 rfl ?_
    refine lv_lconst (v := 1) hx hb dX0_isBit_71 (by decide) ?_
    refine lv_land hx hb dX0_isBit_72 ?_
    refine lv_lconst (v := 1) hx hb dX0_isBit_73 (by decide) ?_
    refine W.lcmp hx hb dX0_isBit_74 ?_
    refine lv_if_ne (tgt := 82) hx hb dX0_isBit_75 (by decide) (fun c9 => ?_) (fun c9 => ?_)
    · have hf := oi_f c9 hf
      refine lv_iconst (v := 0) hx hb dX0_isBit_82 (by decide) ?_
      exact rd_zret hx hb hr hlk (Or.inl rfl) (Option.some.inj hf) dX0_isBit_83
    · have hf := oi_t c9 hf
      refine lv_iconst (v := 1) hx hb dX0_isBit_78 (by decide) ?_
      refine lv_goto (tgt := 83) hx hb dX0_isBit_79 (by decide) ?_
      exact rd_zret hx hb hr hlk (Or.inr rfl) (Option.some.inj hf) dX0_isBit_83
  refine lv_if_ne (tgt := 35) hx hb dX0_isBit_20 (by decide) (fun c5 => ?_) (fun c5 => ?_)
  · have hf := oi_f c5 hf
    refine lv_iload_n hx hb dX0_isBit_35 rfl (lv_at hl 4 rfl) ?_
    refine lv_iconst (v := 1) hx hb dX0_isBit_36 (by decide) ?_
    refine lv_icmp_ne (tgt := 52) hx hb dX0_isBit_37 (by decide) (fun c10 => ?_) (fun c10 => ?_)
    · have hf := oi_f c10 hf
      refine lv_aload hx hb dX0_isBit_52 (lv_at hl 1 rfl) ?_
      cases hf
    · have hf := oi_t c10 hf
      refine lv_aload hx hb dX0_isBit_40 (lv_at hl 1 rfl) ?_
      refine x_castA hx hb hK hown (hts _ q870) hP 3 1 rfl rfl (by decide +kernel) dX0_isBit_42 ?_
      refine lv_iload hx hb dX0_isBit_45 (lv_at hl 0 rfl) ?_
      obtain ⟨v11, ev11, hf⟩ := ob hf
      refine x_iald hx hb hK hP 3 1 ev11 rfl rfl dX0_isBit_47 ?_
      refine lv_i2l hx hb dX0_isBit_48 rfl ?_
      refine lv_goto (tgt := 60) hx hb dX0_isBit_49 (by decide) ?_
      exact hB60 ((v11).toInt64) hf ls (lv_sub hl [4, 5] rfl)
  · have hf := oi_t c5 hf
    refine lv_aload hx hb dX0_isBit_23 (lv_at hl 1 rfl) ?_
    cases hf

abbrev rmX0_isBit_s2x : Room := { frames := 8, cells := 3, slots := 222, locals := 10248 }
theorem hdX0_isBit_s2x : yX0_isBit.cls ≠ "java/lang/invoke/MethodHandle" ∧ yX0_isBit.cls ≠ "java/lang/invoke/VarHandle" ∧ (parseMethodDescriptor yX0_isBit.desc).map (fun d => d.parameters.length) = some 3 := by decide +kernel
set_option maxHeartbeats 4000000 in
theorem mX0_isBit_s2x (l : Launch) (hst : l.stackTraces = false) (D : va_G) (k : Nat → ClassId) (xa : Nat → Nat) (ra : Nat → Nat → Nat) (sa : Nat → Nat) (qa : Nat) (j : Nat) (sn : Nat) (hj : j < 4) (hsn : sn < 2 ^ 31) (xi : Nat → Int32) (sf : Nat → Int32) (p2 : Int32) (p3 : Int32) (sz : Nat) (E : Nat) (hf : fX0_isBit_s2x j sn sf p2 p3 = some E) : vx_Met l yX0_isBit (ws_ yX0_isBit cX0_isBit 8 (some .boolean)) rmX0_isBit_s2x (wxP D k [oX xa ra xi, (xa 3, .inl (k 6, 4, .inr (.inr (.inr (.inr (fun i => some (sa i))))))), (sa j, .inr (2, [.ref qa])), (qa, .inl (k 1, sn, .inl sf))] sz [.ref (xa 0), .int (nI j), .int p2, .int p3]) (va_Qi (fun (_ : Int32) (_ : Unit) => False) (fun _ _ => True) (va_A [oX xa ra xi, (xa 3, .inl (k 6, 4, .inr (.inr (.inr (.inr (fun i => some (sa i))))))), (sa j, .inr (2, [.ref qa])), (qa, .inl (k 1, sn, .inl sf))] sz)) (xcE D (exN E) [oX xa ra xi, (xa 3, .inl (k 6, 4, .inr (.inr (.inr (.inr (fun i => some (sa i))))))), (sa j, .inr (2, [.ref qa])), (qa, .inl (k 1, sn, .inl sf))] (va_A [oX xa ra xi, (xa 3, .inl (k 6, 4, .inr (.inr (.inr (.inr (fun i => some (sa i))))))), (sa j, .inr (2, [.ref qa])), (qa, .inl (k 1, sn, .inl sf))] sz)) 3 222 (va_A [oX xa ra xi, (xa 3, .inl (k 6, 4, .inr (.inr (.inr (.inr (fun i => some (sa i))))))), (sa j, .inr (2, [.ref qa])), (qa, .inl (k 1, sn, .inl sf))] sz) := by
  refine wx_startX (Qc := fun A => (va_Qi (fun (_ : Int32) (_ : Unit) => False) (fun _ _ => True) A)) (XC := fun A => xcE D (exN E) [oX xa ra xi, (xa 3, .inl (k 6, 4, .inr (.inr (.inr (.inr (fun i => some (sa i))))))), (sa j, .inr (2, [.ref qa])), (qa, .inl (k 1, sn, .inl sf))] A) (by decide +kernel) (Nat.le_of_ble_eq_true rfl) ?_
  intro p e s m below meth c ls A hA hx hb hr hlk hml hown hts hP hK hD hZ hex hl
  have hl : lv_has ls 8 [(0, .ref (xa 0)), (1, .int (nI j)), (2, .int p2), (3, .int p3)] := hl
  have hown : s.vm.findClass RX0 = some m.cls := hown
  have hS : va_S A s.heap s.heap [] := va_S.rf
  suffices hw : ∀ (H : Heap) (locs : List Loc), va_P D vwCl [oX xa ra xi, (xa 3, .inl (k 6, 4, .inr (.inr (.inr (.inr (fun i => some (sa i))))))), (sa j, .inr (2, [.ref qa])), (qa, .inl (k 1, sn, .inl sf))] H → va_S A s.heap H locs → gX p l e rmX0_isBit_s2x s m [.ref (xa 0), .int (nI j), .int p2, .int p3] below meth c (va_Qi (fun (_ : Int32) (_ : Unit) => False) (fun _ _ => True) A) (xcE D (exN E) [oX xa ra xi, (xa 3, .inl (k 6, 4, .inr (.inr (.inr (.inr (fun i => some (sa i))))))), (sa j, .inr (2, [.ref qa])), (qa, .inl (k 1, sn, .inl sf))] A) A 3 222 H locs 0 ls [] from hw s.heap [] hP hS
  clear hP hS
  intro H locs hP hS
  unfold fX0_isBit_s2x at hf
  refine lv_aload_n hx hb dX0_isBit_0 rfl (lv_at hl 0 rfl) ?_
  refine va_get (D := D) (cl := vwCl) (ci := 0) (v := .ref (xa 3)) (C := RX0) (T := TX0) (N := 15) hx hb hts in_X0 hown hK.1 hP 0 rfl rfl 12 (by decide) (hts _ q203) (fun _ h9 => h9) rfl dX0_isBit_1 ?_
  refine lv_iload_n hx hb dX0_isBit_4 rfl (lv_at hl 1 rfl) ?_
  refine x_aald hx hb hK hP 1 6 (j := j) (n := 4) rfl hj (by decide) rfl rfl rfl dX0_isBit_5 ?_
  refine va_getN (D := D) (cl := vwCl) (ci := 2) (v := .ref qa) (C := RX2) (T := TX2) (N := 1) hx hb hts in_X2 hown hK.1 hP 2 rfl rfl 0 (by decide) (hK.nw 8 rfl) (fun _ h9 => h9) rfl dX0_isBit_6 ?_
  refine lv_astore (lv' := [(4, .ref qa), (0, .ref (xa 0)), (1, .int (nI j)), (2, .int p2), (3, .int p3)]) hx hb dX0_isBit_9 hl (by decide) rfl (fun ls hl => ?_)
  refine lv_iload_n hx hb dX0_isBit_11 rfl (lv_at hl 4 rfl) ?_
  refine lv_iload_n hx hb dX0_isBit_12 rfl (lv_at hl 3 rfl) ?_
  obtain ⟨v1, ev1, hf⟩ := ob hf
  refine rd_callS (As := [.int p2]) (rest := [.int p3]) ⟨hx, hb, hml, hown, hts⟩ (mX0_bitsOf l D k   p2 _ ev1) (va_cwS 1 hts (lw_S q899 q900 q90 q901) rfl rfl rfl hdX0_bitsOf ⟨Nat.le_of_ble_eq_true rfl, Nat.le_of_ble_eq_true rfl⟩) hK rfl hl.1 rfl (Nat.le_of_ble_eq_true rfl) dX0_isBit_13 ⟨Nat.le_of_ble_eq_true rfl, Nat.le_of_ble_eq_true rfl⟩ ?_
  have c3 := on_z hf
  have hf := oi_f c3 hf
  refine lv_idiv hx hb dX0_isBit_16 c3 ?_
  obtain ⟨y4, ey4, hf⟩ := ob hf
  refine x_asI ey4 ?_
  refine lv_istore (lv' := [(5, .int y4), (4, .ref qa), (0, .ref (xa 0)), (1, .int (nI j)), (2, .int p2), (3, .int p3)]) hx hb dX0_isBit_17 hl (by decide) rfl (fun ls hl => ?_)
  refine lv_iload_n hx hb dX0_isBit_19 rfl (lv_at hl 4 rfl) ?_
  have hB60 : ∀ (s0_60 : Int64), ∀ (H : Heap) (locs : List Loc), va_P D vwCl [oX xa ra xi, (xa 3, .inl (k 6, 4, .inr (.inr (.inr (.inr (fun i => some (sa i))))))), (sa j, .inr (2, [.ref qa])), (qa, .inl (k 1, sn, .inl sf))] H → va_D A [oX xa ra xi, (xa 3, .inl (k 6, 4, .inr (.inr (.inr (.inr (fun i => some (sa i))))))), (sa j, .inr (2, [.ref qa])), (qa, .inl (k 1, sn, .inl sf))] → va_S A s.heap H locs → fX0_isBit_s2x_B60 j sn sf p2 p3 s0_60 = some E → ∀ ls : Array Slot, lv_has ls 8 [(2, .int p2), (3, .int p3)] → gX p l e rmX0_isBit_s2x s m [.ref (xa 0), .int (nI j), .int p2, .int p3] below meth c (va_Qi (fun (_ : Int32) (_ : Unit) => False) (fun _ _ => True) A) (xcE D (exN E) [oX xa ra xi, (xa 3, .inl (k 6, 4, .inr (.inr (.inr (.inr (fun i => some (sa i))))))), (sa j, .inr (2, [.ref qa])), (qa, .inl (k 1, sn, .inl sf))] A) A 3 222 H locs 60 ls [.long s0_60] := by
    intro s0_60 H locs hP hD hS hf ls hl
    unfold fX0_isBit_s2x_B60 at hf
    refine lv_lstore (lv' := [(6, .long s0_60), (2, .int p2), (3, .int p3)]) hx hb dX0_isBit_60 hl (by decide) rfl (fun ls hl => ?_)
    refine lv_lload hx hb dX0_isBit_62 (lv_at hl 0 rfl) ?_
    refine lv_iload_n hx hb dX0_isBit_64 rfl (lv_at hl 2 rfl) ?_
    refine lv_iload_n hx hb dX0_isBit_65 rfl (lv_at hl 1 rfl) ?_
    obtain ⟨v6, ev6, hf⟩ := ob hf
    refine rd_callS (As := [.int p2]) (rest := [.int p3, .long s0_60]) ⟨hx, hb, hml, hown, hts⟩ (mX0_bitsOf l D k   p2 _ ev6) (va_cwS 1 hts (lw_S q899 q900 q90 q901) rfl rfl rfl hdX0_bitsOf ⟨Nat.le_of_ble_eq_true rfl, Nat.le_of_ble_eq_true rfl⟩) hK rfl hl.1 rfl (Nat.le_of_ble_eq_true rfl) dX0_isBit_66 ⟨Nat.le_of_ble_eq_true rfl, Nat.le_of_ble_eq_true rfl⟩ ?_
    have c8 := on_z hf
    have hf := oi_f c8 hf
    refine lv_irem hx hb dX0_isBit_69 c8 ?_
    refine lv_lshr hx hb dX0_isBit_70 rfl ?_
    refine lv_lconst (v := 1) hx hb dX0_isBit_71 (by decide) ?_
    refine lv_land hx hb dX0_isBit_72 ?_
    refine lv_lconst (v := 1) hx hb dX0_isBit_73 (by decide) ?_
    refine W.lcmp hx hb dX0_isBit_74 ?_
    refine lv_if_ne (tgt := 82) hx hb dX0_isBit_75 (by decide) (fun c9 => ?_) (fun c9 => ?_)
    · have hf := oi_f c9 hf
      refine lv_iconst (v := 0) hx hb dX0_isBit_82 (by decide) ?_
      cases hf
    · have hf := oi_t c9 hf
      refine lv_iconst (v := 1) hx hb dX0_isBit_78 (by decide) ?_
      refine lv_goto (tgt := 83) hx hb dX0_isBit_79 (by decide) ?_
      cases hf
  refine lv_if_ne (tgt := 35) hx hb dX0_isBit_20 (by decide) (fun c5 => ?_) (fun c5 => ?_)
  · have hf := oi_f c5 hf
    refine lv_iload_n hx hb dX0_isBit_35 rfl (lv_at hl 4 rfl) ?_
    refine lv_iconst (v := 1) hx hb dX0_isBit_36 (by decide) ?_
    refine lv_icmp_ne (tgt := 52) hx hb dX0_isBit_37 (by decide) (fun c10 => ?_) (fun c10 => ?_)
    · have hf := oi_f c10 hf
      refine lv_aload hx hb dX0_isBit_52 (lv_at hl 1 rfl) ?_
      refine x_castX (na := "[I") hx hb hK hown (hts _ q871) hP 3 1 0 rfl rfl rfl (by decide +kernel) (by decide +kernel) (by decide +kernel) (by decide +kernel) (hK.nc 3 rfl) cce_IJ dX0_isBit_54 (fun tx htx => ?_)
      refine x_noteC htx hx hst hts hK hP hZ hS (hl.1.trans hml.symm) (Nat.le_of_ble_eq_true rfl) (Nat.le_of_ble_eq_true rfl) (Nat.le_of_ble_eq_true rfl) (Nat.le_of_ble_eq_true rfl) hlk (fun H q9 ce hP hS hc9 hv9 hcl9 => ?_)
      cases hf
      exact wx_out hex hlk hc9 hv9 hcl9 hP hS (Nat.le_of_ble_eq_true rfl) (Nat.le_of_ble_eq_true rfl)
    · have hf := oi_t c10 hf
      refine lv_aload hx hb dX0_isBit_40 (lv_at hl 1 rfl) ?_
      refine x_castA hx hb hK hown (hts _ q870) hP 3 1 rfl rfl (by decide +kernel) dX0_isBit_42 ?_
      refine lv_iload hx hb dX0_isBit_45 (lv_at hl 0 rfl) ?_
      by_cases c11 : y4 < 0 ∨ sn ≤ (y4).toNatClampNeg
      · have hf := oi_t c11 hf
        refine vx_ialdZ hx hb hK.1 hP 3 1 rfl rfl (fun z => z c11) dX0_isBit_47 (fun tx htx => ?_)
        refine x_noteA htx hsn hx hst hts hK hP hZ hS (hl.1.trans hml.symm) (Nat.le_of_ble_eq_true rfl) (Nat.le_of_ble_eq_true rfl) (Nat.le_of_ble_eq_true rfl) (Nat.le_of_ble_eq_true rfl) hlk (fun H q9 ce hP hS hc9 hv9 hcl9 => ?_)
        cases hf
        exact wx_out hex hlk hc9 hv9 hcl9 hP hS (Nat.le_of_ble_eq_true rfl) (Nat.le_of_ble_eq_true rfl)
      have hf := oi_f c11 hf
      obtain ⟨v12, ev12, hf⟩ := ob hf
      refine x_iald hx hb hK hP 3 1 ev12 rfl rfl dX0_isBit_47 ?_
      refine lv_i2l hx hb dX0_isBit_48 rfl ?_
      refine lv_goto (tgt := 60) hx hb dX0_isBit_49 (by decide) ?_
      exact hB60 ((v12).toInt64) H locs hP hD hS hf ls (lv_sub hl [4, 5] rfl)
  · have hf := oi_t c5 hf
    refine lv_aload hx hb dX0_isBit_23 (lv_at hl 1 rfl) ?_
    refine x_castX (na := "[I") hx hb hK hown (hts _ q869) hP 3 1 3 rfl rfl rfl (by decide +kernel) (by decide +kernel) (by decide +kernel) (by decide +kernel) (hK.nc 2 rfl) cce_IB dX0_isBit_25 (fun tx htx => ?_)
    refine x_noteC htx hx hst hts hK hP hZ hS (hl.1.trans hml.symm) (Nat.le_of_ble_eq_true rfl) (Nat.le_of_ble_eq_true rfl) (Nat.le_of_ble_eq_true rfl) (Nat.le_of_ble_eq_true rfl) hlk (fun H q9 ce hP hS hc9 hv9 hcl9 => ?_)
    cases hf
    exact wx_out hex hlk hc9 hv9 hcl9 hP hS (Nat.le_of_ble_eq_true rfl) (Nat.le_of_ble_eq_true rfl)

abbrev rmX0_bitBecomes_s2 : Room := { frames := 2, cells := 0, slots := 0, locals := 51 }
theorem hdX0_bitBecomes_s2 : yX0_bitBecomes.cls ≠ "java/lang/invoke/MethodHandle" ∧ yX0_bitBecomes.cls ≠ "java/lang/invoke/VarHandle" ∧ (parseMethodDescriptor yX0_bitBecomes.desc).map (fun d => d.parameters.length) = some 4 := by decide +kernel
abbrev qcX0_bitBecomes_s2 (D : va_G) (k : Nat → ClassId) (xa : Nat → Nat) (ra : Nat → Nat → Nat) (sa : Nat → Nat) (qa : Nat) (j : Nat) (sn : Nat) (xi : Nat → Int32) (sf : Nat → Int32) (A : Nat → Prop) : Array Value → State → Outcome → State → Prop := va_Qv (fun (_ : Unit) => True) (fun _ t => va_P D vwCl [oX xa ra xi, (xa 3, .inl (k 6, 4, .inr (.inr (.inr (.inr (fun i => some (sa i))))))), (sa j, .inr (2, [.ref qa])), (qa, .inl (k 1, sn, .inl sf))] t.heap) A
set_option maxHeartbeats 4000000 in
theorem mX0_bitBecomes_s2 (l : Launch) (D : va_G) (k : Nat → ClassId) (xa : Nat → Nat) (ra : Nat → Nat → Nat) (sa : Nat → Nat) (qa : Nat) (j : Nat) (sn : Nat) (hj : j < 4) (hsn : sn < 2 ^ 31) (xi : Nat → Int32) (sf : Nat → Int32) (p2 : Int32) (p3 : Int32) (p4 : Int32) (sz : Nat) (sf_o : Nat → Int32) (hf : fX0_bitBecomes_s2 j sn sf p2 p3 p4 = some sf_o) : Met l yX0_bitBecomes (ws_ yX0_bitBecomes cX0_bitBecomes 11 none) rmX0_bitBecomes_s2 (wrP D k [oX xa ra xi, (xa 3, .inl (k 6, 4, .inr (.inr (.inr (.inr (fun i => some (sa i))))))), (sa j, .inr (2, [.ref qa])), (qa, .inl (k 1, sn, .inl sf))] sz [.ref (xa 0), .int (nI j), .int p2, .int p3, .int p4]) (qcX0_bitBecomes_s2 D k xa ra sa qa j sn xi sf_o (va_A [oX xa ra xi, (xa 3, .inl (k 6, 4, .inr (.inr (.inr (.inr (fun i => some (sa i))))))), (sa j, .inr (2, [.ref qa])), (qa, .inl (k 1, sn, .inl sf))] sz)) 0 0 (va_A [oX xa ra xi, (xa 3, .inl (k 6, 4, .inr (.inr (.inr (.inr (fun i => some (sa i))))))), (sa j, .inr (2, [.ref qa])), (qa, .inl (k 1, sn, .inl sf))] sz) := by
  refine wr_start (Qc := fun A => qcX0_bitBecomes_s2 D k xa ra sa qa j sn xi sf_o A) (by decide +kernel) (Nat.le_of_ble_eq_true rfl) ?_
  intro p e s m below meth c ls A hA hx hb hr hlk hml hown hts hP hK hD hl
  have hl : lv_has ls 11 [(0, .ref (xa 0)), (1, .int (nI j)), (2, .int p2), (3, .int p3), (4, .int p4)] := hl
  have hown : s.vm.findClass RX0 = some m.cls := hown
  have hS : va_S A s.heap s.heap [] := va_S.rf
  suffices hw : ∀ (H : Heap) (locs : List Loc), va_P D vwCl [oX xa ra xi, (xa 3, .inl (k 6, 4, .inr (.inr (.inr (.inr (fun i => some (sa i))))))), (sa j, .inr (2, [.ref qa])), (qa, .inl (k 1, sn, .inl sf))] H → va_S A s.heap H locs → gW p l e rmX0_bitBecomes_s2 s m [.ref (xa 0), .int (nI j), .int p2, .int p3, .int p4] below meth c (qcX0_bitBecomes_s2 D k xa ra sa qa j sn xi sf_o A) A 0 0 H locs 0 ls [] from hw s.heap [] hP hS
  clear hP hS
  intro H locs hP hS
  unfold fX0_bitBecomes_s2 at hf
  refine lv_aload_n hx hb dX0_bitBecomes_0 rfl (lv_at hl 0 rfl) ?_
  refine va_get (D := D) (cl := vwCl) (ci := 0) (v := .ref (xa 3)) (C := RX0) (T := TX0) (N := 15) hx hb hts in_X0 hown hK.1 hP 0 rfl rfl 12 (by decide) (hts _ q203) (fun _ h9 => h9) rfl dX0_bitBecomes_1 ?_
  refine lv_iload_n hx hb dX0_bitBecomes_4 rfl (lv_at hl 1 rfl) ?_
  refine x_aald hx hb hK hP 1 6 (j := j) (n := 4) rfl hj (by decide) rfl rfl rfl dX0_bitBecomes_5 ?_
  refine va_getN (D := D) (cl := vwCl) (ci := 2) (v := .ref qa) (C := RX2) (T := TX2) (N := 1) hx hb hts in_X2 hown hK.1 hP 2 rfl rfl 0 (by decide) (hK.nw 8 rfl) (fun _ h9 => h9) rfl dX0_bitBecomes_6 ?_
  refine lv_astore (lv' := [(5, .ref qa), (0, .ref (xa 0)), (1, .int (nI j)), (2, .int p2), (3, .int p3), (4, .int p4)]) hx hb dX0_bitBecomes_9 hl (by decide) rfl (fun ls hl => ?_)
  refine lv_iload_n hx hb dX0_bitBecomes_11 rfl (lv_at hl 4 rfl) ?_
  refine lv_iload_n hx hb dX0_bitBecomes_12 rfl (lv_at hl 3 rfl) ?_
  obtain ⟨v1, ev1, hf⟩ := ob hf
  refine rd_callS (As := [.int p2]) (rest := [.int p3]) ⟨hx, hb, hml, hown, hts⟩ (mX0_bitsOf l D k   p2 _ ev1) (va_cwS 1 hts (lw_S q899 q900 q90 q901) rfl rfl rfl hdX0_bitsOf ⟨Nat.le_of_ble_eq_true rfl, Nat.le_of_ble_eq_true rfl⟩) hK rfl hl.1 rfl (Nat.le_of_ble_eq_true rfl) dX0_bitBecomes_13 ⟨Nat.le_of_ble_eq_true rfl, Nat.le_of_ble_eq_true rfl⟩ ?_
  have c3 := on_z hf
  have hf := oi_f c3 hf
  refine lv_idiv hx hb dX0_bitBecomes_16 c3 ?_
  obtain ⟨y4, ey4, hf⟩ := ob hf
  refine x_asI ey4 ?_
  refine lv_istore (lv' := [(6, .int y4), (5, .ref qa), (0, .ref (xa 0)), (1, .int (nI j)), (2, .int p2), (3, .int p3), (4, .int p4)]) hx hb dX0_bitBecomes_17 hl (by decide) rfl (fun ls hl => ?_)
  refine lv_iload_n hx hb dX0_bitBecomes_19 rfl (lv_at hl 4 rfl) ?_
  have hB60 : ∀ (sf_60 : Nat → Int32) (x6_60 : Int32) (s0_60 : Int64), ∀ (H : Heap) (locs : List Loc), va_P D vwCl [oX xa ra xi, (xa 3, .inl (k 6, 4, .inr (.inr (.inr (.inr (fun i => some (sa i))))))), (sa j, .inr (2, [.ref qa])), (qa, .inl (k 1, sn, .inl sf_60))] H → va_D A [oX xa ra xi, (xa 3, .inl (k 6, 4, .inr (.inr (.inr (.inr (fun i => some (sa i))))))), (sa j, .inr (2, [.ref qa])), (qa, .inl (k 1, sn, .inl sf_60))] → va_S A s.heap H locs → fX0_bitBecomes_s2_B60 j sn p2 p3 p4 sf_60 x6_60 s0_60 = some sf_o → ∀ ls : Array Slot, lv_has ls 11 [(0, .ref (xa 0)), (1, .int (nI j)), (2, .int p2), (3, .int p3), (4, .int p4), (6, .int x6_60)] → gW p l e rmX0_bitBecomes_s2 s m [.ref (xa 0), .int (nI j), .int p2, .int p3, .int p4] below meth c (qcX0_bitBecomes_s2 D k xa ra sa qa j sn xi sf_o A) A 0 0 H locs 60 ls [.long s0_60] := by
    intro sf_60 x6_60 s0_60 H locs hP hD hS hf ls hl
    unfold fX0_bitBecomes_s2_B60 at hf
    refine lv_lstore (lv' := [(7, .long s0_60), (0, .ref (xa 0)), (1, .int (nI j)), (2, .int p2), (3, .int p3), (4, .int p4), (6, .int x6_60)]) hx hb dX0_bitBecomes_60 hl (by decide) rfl (fun ls hl => ?_)
    refine lv_lconst (v := 1) hx hb dX0_bitBecomes_62 (by decide) ?_
    refine lv_iload_n hx hb dX0_bitBecomes_63 rfl (lv_at hl 4 rfl) ?_
    refine lv_iload_n hx hb dX0_bitBecomes_64 rfl (lv_at hl 3 rfl) ?_
    obtain ⟨v6, ev6, hf⟩ := ob hf
    refine rd_callS (As := [.int p2]) (rest := [.int p3, .long (1 : Int64)]) ⟨hx, hb, hml, hown, hts⟩ (mX0_bitsOf l D k   p2 _ ev6) (va_cwS 1 hts (lw_S q899 q900 q90 q901) rfl rfl rfl hdX0_bitsOf ⟨Nat.le_of_ble_eq_true rfl, Nat.le_of_ble_eq_true rfl⟩) hK rfl hl.1 rfl (Nat.le_of_ble_eq_true rfl) dX0_bitBecomes_65 ⟨Nat.le_of_ble_eq_true rfl, Nat.le_of_ble_eq_true rfl⟩ ?_
    have c8 := on_z hf
    have hf := oi_f c8 hf
    refine lv_irem hx hb dX0_bitBecomes_68 c8 ?_
    refine lv_lshl hx hb dX0_bitBecomes_69 rfl ?_
    obtain ⟨y9, ey9, hf⟩ := ob hf
    refine x_asL ey9 ?_
    refine lv_lstore (lv' := [(9, .long y9), (7, .long s0_60), (0, .ref (xa 0)), (1, .int (nI j)), (2, .int p2), (3, .int p3), (4, .int p4), (6, .int x6_60)]) hx hb dX0_bitBecomes_70 hl (by decide) rfl (fun ls hl => ?_)
    refine lv_aload_n hx hb dX0_bitBecomes_72 rfl (lv_at hl 2 rfl) ?_
    refine lv_iload_n hx hb dX0_bitBecomes_73 rfl (lv_at hl 3 rfl) ?_
    refine lv_iload hx hb dX0_bitBecomes_74 (lv_at hl 7 rfl) ?_
    refine lv_iload hx hb dX0_bitBecomes_76 (lv_at hl 6 rfl) ?_
    have hB98 : ∀ (sf_98 : Nat → Int32) (s0_98 : Int64) (s1_98 : Int32), ∀ (H : Heap) (locs : List Loc), va_P D vwCl [oX xa ra xi, (xa 3, .inl (k 6, 4, .inr (.inr (.inr (.inr (fun i => some (sa i))))))), (sa j, .inr (2, [.ref qa])), (qa, .inl (k 1, sn, .inl sf_98))] H → va_D A [oX xa ra xi, (xa 3, .inl (k 6, 4, .inr (.inr (.inr (.inr (fun i => some (sa i))))))), (sa j, .inr (2, [.ref qa])), (qa, .inl (k 1, sn, .inl sf_98))] → va_S A s.heap H locs → fX0_bitBecomes_s2_B98 j sn p2 p3 p4 sf_98 s0_98 s1_98 = some sf_o → ∀ ls : Array Slot, lv_has ls 11 [] → gW p l e rmX0_bitBecomes_s2 s m [.ref (xa 0), .int (nI j), .int p2, .int p3, .int p4] below meth c (qcX0_bitBecomes_s2 D k xa ra sa qa j sn xi sf_o A) A 0 0 H locs 98 ls [.long s0_98, .int s1_98, .int (nI j), .ref (xa 0)] := by
      intro sf_98 s0_98 s1_98 H locs hP hD hS hf ls hl
      unfold fX0_bitBecomes_s2_B98 at hf
      obtain ⟨⟨v11, g12⟩, et13, hf⟩ := ob hf
      refine wr_callVW (As := [.int (nI j), .int s1_98, .long s0_98]) (rest := []) ⟨hx, hb, hml, hown, hts⟩ (mX0_lay_s2n l D k xa ra sa qa j sn hj hsn xi sf_98 s1_98 s0_98 _ _ _ et13) (vx_cwVW 3 hts (lw_VW q915 q822 q823 q90 q824) rfl rfl rfl ⟨rfl, hdX0_lay_s2n⟩ ⟨Nat.le_of_ble_eq_true rfl, Nat.le_of_ble_eq_true rfl⟩) hK hP hD hS hA [0, 1, 2, 3] [] [oX xa ra xi, (xa 3, .inl (k 6, 4, .inr (.inr (.inr (.inr (fun i => some (sa i))))))), (sa j, .inr (2, [.ref qa])), (qa, .inl (k 1, sn, .inl g12))] rfl rfl fm_n 4 rfl (by decide) (by decide) [(xa 0), (xa 3), (sa j), qa] rfl rfl 0 0 rfl rfl rfl hl.1 rfl (Nat.le_of_ble_eq_true rfl) dX0_bitBecomes_98 ⟨Nat.le_of_ble_eq_true rfl, Nat.le_of_ble_eq_true rfl⟩ (fun H locs hP hD hS => ?_)
      refine lv_pop hx hb dX0_bitBecomes_101 rfl ?_
      have he1 := Option.some.inj hf
      rw [he1] at hP
      exact wr_vret hx hb hr hlk hP hS dX0_bitBecomes_102
    refine lv_if_eq (tgt := 89) hx hb dX0_bitBecomes_78 (by decide) (fun c10 => ?_) (fun c10 => ?_)
    · have hf := oi_t c10 hf
      refine lv_lload hx hb dX0_bitBecomes_89 (lv_at hl 1 rfl) ?_
      refine lv_lload hx hb dX0_bitBecomes_91 (lv_at hl 0 rfl) ?_
      refine lv_ldc2 hx hb hown (hts _ q914) dX0_bitBecomes_93 ?_
      refine lv_lxor hx hb dX0_bitBecomes_96 ?_
      refine lv_land hx hb dX0_bitBecomes_97 ?_
      exact hB98 sf_60 (s0_60 &&& (y9 ^^^ (-1 : Int64))) x6_60 H locs hP hD hS hf ls (lv_sub hl [] rfl)
    · have hf := oi_f c10 hf
      refine lv_lload hx hb dX0_bitBecomes_81 (lv_at hl 1 rfl) ?_
      refine lv_lload hx hb dX0_bitBecomes_83 (lv_at hl 0 rfl) ?_
      refine lv_lor hx hb dX0_bitBecomes_85 ?_
      refine lv_goto (tgt := 98) hx hb dX0_bitBecomes_86 (by decide) ?_
      exact hB98 sf_60 (s0_60 ||| y9) x6_60 H locs hP hD hS hf ls (lv_sub hl [] rfl)
  refine lv_if_ne (tgt := 35) hx hb dX0_bitBecomes_20 (by decide) (fun c5 => ?_) (fun c5 => ?_)
  · have hf := oi_f c5 hf
    refine lv_iload_n hx hb dX0_bitBecomes_35 rfl (lv_at hl 4 rfl) ?_
    refine lv_iconst (v := 1) hx hb dX0_bitBecomes_36 (by decide) ?_
    refine lv_icmp_ne (tgt := 52) hx hb dX0_bitBecomes_37 (by decide) (fun c14 => ?_) (fun c14 => ?_)
    · have hf := oi_f c14 hf
      refine lv_aload hx hb dX0_bitBecomes_52 (lv_at hl 1 rfl) ?_
      cases hf
    · have hf := oi_t c14 hf
      refine lv_aload hx hb dX0_bitBecomes_40 (lv_at hl 1 rfl) ?_
      refine x_castA hx hb hK hown (hts _ q870) hP 3 1 rfl rfl (by decide +kernel) dX0_bitBecomes_42 ?_
      refine lv_iload hx hb dX0_bitBecomes_45 (lv_at hl 0 rfl) ?_
      obtain ⟨v15, ev15, hf⟩ := ob hf
      refine x_iald hx hb hK hP 3 1 ev15 rfl rfl dX0_bitBecomes_47 ?_
      refine lv_i2l hx hb dX0_bitBecomes_48 rfl ?_
      refine lv_goto (tgt := 60) hx hb dX0_bitBecomes_49 (by decide) ?_
      exact hB60 sf y4 ((v15).toInt64) H locs hP hD hS hf ls (lv_sub hl [2, 3, 4, 5, 6, 0] rfl)
  · have hf := oi_t c5 hf
    refine lv_aload hx hb dX0_bitBecomes_23 (lv_at hl 1 rfl) ?_
    cases hf

abbrev rmX0_bitBecomes_s2x : Room := { frames := 8, cells := 3, slots := 222, locals := 10248 }
theorem hdX0_bitBecomes_s2x : yX0_bitBecomes.cls ≠ "java/lang/invoke/MethodHandle" ∧ yX0_bitBecomes.cls ≠ "java/lang/invoke/VarHandle" ∧ (parseMethodDescriptor yX0_bitBecomes.desc).map (fun d => d.parameters.length) = some 4 := by decide +kernel
set_option maxHeartbeats 4000000 in
theorem mX0_bitBecomes_s2x (l : Launch) (hst : l.stackTraces = false) (D : va_G) (k : Nat → ClassId) (xa : Nat → Nat) (ra : Nat → Nat → Nat) (sa : Nat → Nat) (qa : Nat) (j : Nat) (sn : Nat) (hj : j < 4) (hsn : sn < 2 ^ 31) (xi : Nat → Int32) (sf : Nat → Int32) (p2 : Int32) (p3 : Int32) (p4 : Int32) (sz : Nat) (E : Nat) (hf : fX0_bitBecomes_s2x j sn sf p2 p3 p4 = some E) : vx_Met l yX0_bitBecomes (ws_ yX0_bitBecomes cX0_bitBecomes 11 none) rmX0_bitBecomes_s2x (wxP D k [oX xa ra xi, (xa 3, .inl (k 6, 4, .inr (.inr (.inr (.inr (fun i => some (sa i))))))), (sa j, .inr (2, [.ref qa])), (qa, .inl (k 1, sn, .inl sf))] sz [.ref (xa 0), .int (nI j), .int p2, .int p3, .int p4]) (va_Qv (fun (_ : Unit) => False) (fun _ _ => True) (va_A [oX xa ra xi, (xa 3, .inl (k 6, 4, .inr (.inr (.inr (.inr (fun i => some (sa i))))))), (sa j, .inr (2, [.ref qa])), (qa, .inl (k 1, sn, .inl sf))] sz)) (xcE D (exN E) [oX xa ra xi, (xa 3, .inl (k 6, 4, .inr (.inr (.inr (.inr (fun i => some (sa i))))))), (sa j, .inr (2, [.ref qa])), (qa, .inl (k 1, sn, .inl sf))] (va_A [oX xa ra xi, (xa 3, .inl (k 6, 4, .inr (.inr (.inr (.inr (fun i => some (sa i))))))), (sa j, .inr (2, [.ref qa])), (qa, .inl (k 1, sn, .inl sf))] sz)) 3 222 (va_A [oX xa ra xi, (xa 3, .inl (k 6, 4, .inr (.inr (.inr (.inr (fun i => some (sa i))))))), (sa j, .inr (2, [.ref qa])), (qa, .inl (k 1, sn, .inl sf))] sz) := by
  refine wx_startX (Qc := fun A => (va_Qv (fun (_ : Unit) => False) (fun _ _ => True) A)) (XC := fun A => xcE D (exN E) [oX xa ra xi, (xa 3, .inl (k 6, 4, .inr (.inr (.inr (.inr (fun i => some (sa i))))))), (sa j, .inr (2, [.ref qa])), (qa, .inl (k 1, sn, .inl sf))] A) (by decide +kernel) (Nat.le_of_ble_eq_true rfl) ?_
  intro p e s m below meth c ls A hA hx hb hr hlk hml hown hts hP hK hD hZ hex hl
  have hl : lv_has ls 11 [(0, .ref (xa 0)), (1, .int (nI j)), (2, .int p2), (3, .int p3), (4, .int p4)] := hl
  have hown : s.vm.findClass RX0 = some m.cls := hown
  have hS : va_S A s.heap s.heap [] := va_S.rf
  suffices hw : ∀ (H : Heap) (locs : List Loc), va_P D vwCl [oX xa ra xi, (xa 3, .inl (k 6, 4, .inr (.inr (.inr (.inr (fun i => some (sa i))))))), (sa j, .inr (2, [.ref qa])), (qa, .inl (k 1, sn, .inl sf))] H → va_S A s.heap H locs → gX p l e rmX0_bitBecomes_s2x s m [.ref (xa 0), .int (nI j), .int p2, .int p3, .int p4] below meth c (va_Qv (fun (_ : Unit) => False) (fun _ _ => True) A) (xcE D (exN E) [oX xa ra xi, (xa 3, .inl (k 6, 4, .inr (.inr (.inr (.inr (fun i => some (sa i))))))), (sa j, .inr (2, [.ref qa])), (qa, .inl (k 1, sn, .inl sf))] A) A 3 222 H locs 0 ls [] from hw s.heap [] hP hS
  clear hP hS
  intro H locs hP hS
  unfold fX0_bitBecomes_s2x at hf
  refine lv_aload_n hx hb dX0_bitBecomes_0 rfl (lv_at hl 0 rfl) ?_
  refine va_get (D := D) (cl := vwCl) (ci := 0) (v := .ref (xa 3)) (C := RX0) (T := TX0) (N := 15) hx hb hts in_X0 hown hK.1 hP 0 rfl rfl 12 (by decide) (hts _ q203) (fun _ h9 => h9) rfl dX0_bitBecomes_1 ?_
  refine lv_iload_n hx hb dX0_bitBecomes_4 rfl (lv_at hl 1 rfl) ?_
  refine x_aald hx hb hK hP 1 6 (j := j) (n := 4) rfl hj (by decide) rfl rfl rfl dX0_bitBecomes_5 ?_
  refine va_getN (D := D) (cl := vwCl) (ci := 2) (v := .ref qa) (C := RX2) (T := TX2) (N := 1) hx hb hts in_X2 hown hK.1 hP 2 rfl rfl 0 (by decide) (hK.nw 8 rfl) (fun _ h9 => h9) rfl dX0_bitBecomes_6 ?_
  refine lv_astore (lv' := [(5, .ref qa), (0, .ref (xa 0)), (1, .int (nI j)), (2, .int p2), (3, .int p3), (4, .int p4)]) hx hb dX0_bitBecomes_9 hl (by decide) rfl (fun ls hl => ?_)
  refine lv_iload_n hx hb dX0_bitBecomes_11 rfl (lv_at hl 4 rfl) ?_
  refine lv_iload_n hx hb dX0_bitBecomes_12 rfl (lv_at hl 3 rfl) ?_
  obtain ⟨v1, ev1, hf⟩ := ob hf
  refine rd_callS (As := [.int p2]) (rest := [.int p3]) ⟨hx, hb, hml, hown, hts⟩ (mX0_bitsOf l D k   p2 _ ev1) (va_cwS 1 hts (lw_S q899 q900 q90 q901) rfl rfl rfl hdX0_bitsOf ⟨Nat.le_of_ble_eq_true rfl, Nat.le_of_ble_eq_true rfl⟩) hK rfl hl.1 rfl (Nat.le_of_ble_eq_true rfl) dX0_bitBecomes_13 ⟨Nat.le_of_ble_eq_true rfl, Nat.le_of_ble_eq_true rfl⟩ ?_
  have c3 := on_z hf
  have hf := oi_f c3 hf
  refine lv_idiv hx hb dX0_bitBecomes_16 c3 ?_
  obtain ⟨y4, ey4, hf⟩ := ob hf
  refine x_asI ey4 ?_
  refine lv_istore (lv' := [(6, .int y4), (5, .ref qa), (0, .ref (xa 0)), (1, .int (nI j)), (2, .int p2), (3, .int p3), (4, .int p4)]) hx hb dX0_bitBecomes_17 hl (by decide) rfl (fun ls hl => ?_)
  refine lv_iload_n hx hb dX0_bitBecomes_19 rfl (lv_at hl 4 rfl) ?_
  have hB60 : ∀ (sf_60 : Nat → Int32) (x6_60 : Int32) (s0_60 : Int64), ∀ (H : Heap) (locs : List Loc), va_P D vwCl [oX xa ra xi, (xa 3, .inl (k 6, 4, .inr (.inr (.inr (.inr (fun i => some (sa i))))))), (sa j, .inr (2, [.ref qa])), (qa, .inl (k 1, sn, .inl sf_60))] H → va_D A [oX xa ra xi, (xa 3, .inl (k 6, 4, .inr (.inr (.inr (.inr (fun i => some (sa i))))))), (sa j, .inr (2, [.ref qa])), (qa, .inl (k 1, sn, .inl sf_60))] → va_S A s.heap H locs → fX0_bitBecomes_s2x_B60 j sn p2 p3 p4 sf_60 x6_60 s0_60 = some E → ∀ ls : Array Slot, lv_has ls 11 [(0, .ref (xa 0)), (1, .int (nI j)), (2, .int p2), (3, .int p3), (4, .int p4), (6, .int x6_60)] → gX p l e rmX0_bitBecomes_s2x s m [.ref (xa 0), .int (nI j), .int p2, .int p3, .int p4] below meth c (va_Qv (fun (_ : Unit) => False) (fun _ _ => True) A) (xcE D (exN E) [oX xa ra xi, (xa 3, .inl (k 6, 4, .inr (.inr (.inr (.inr (fun i => some (sa i))))))), (sa j, .inr (2, [.ref qa])), (qa, .inl (k 1, sn, .inl sf))] A) A 3 222 H locs 60 ls [.long s0_60] := by
    intro sf_60 x6_60 s0_60 H locs hP hD hS hf ls hl
    unfold fX0_bitBecomes_s2x_B60 at hf
    refine lv_lstore (lv' := [(7, .long s0_60), (0, .ref (xa 0)), (1, .int (nI j)), (2, .int p2), (3, .int p3), (4, .int p4), (6, .int x6_60)]) hx hb dX0_bitBecomes_60 hl (by decide) rfl (fun ls hl => ?_)
    refine lv_lconst (v := 1) hx hb dX0_bitBecomes_62 (by decide) ?_
    refine lv_iload_n hx hb dX0_bitBecomes_63 rfl (lv_at hl 4 rfl) ?_
    refine lv_iload_n hx hb dX0_bitBecomes_64 rfl (lv_at hl 3 rfl) ?_
    obtain ⟨v6, ev6, hf⟩ := ob hf
    refine rd_callS (As := [.int p2]) (rest := [.int p3, .long (1 : Int64)]) ⟨hx, hb, hml, hown, hts⟩ (mX0_bitsOf l D k   p2 _ ev6) (va_cwS 1 hts (lw_S q899 q900 q90 q901) rfl rfl rfl hdX0_bitsOf ⟨Nat.le_of_ble_eq_true rfl, Nat.le_of_ble_eq_true rfl⟩) hK rfl hl.1 rfl (Nat.le_of_ble_eq_true rfl) dX0_bitBecomes_65 ⟨Nat.le_of_ble_eq_true rfl, Nat.le_of_ble_eq_true rfl⟩ ?_
    have c8 := on_z hf
    have hf := oi_f c8 hf
    refine lv_irem hx hb dX0_bitBecomes_68 c8 ?_
    refine lv_lshl hx hb dX0_bitBecomes_69 rfl ?_
    obtain ⟨y9, ey9, hf⟩ := ob hf
    refine x_asL ey9 ?_
    refine lv_lstore (lv' := [(9, .long y9), (7, .long s0_60), (0, .ref (xa 0)), (1, .int (nI j)), (2, .int p2), (3, .int p3), (4, .int p4), (6, .int x6_60)]) hx hb dX0_bitBecomes_70 hl (by decide) rfl (fun ls hl => ?_)
    refine lv_aload_n hx hb dX0_bitBecomes_72 rfl (lv_at hl 2 rfl) ?_
    refine lv_iload_n hx hb dX0_bitBecomes_73 rfl (lv_at hl 3 rfl) ?_
    refine lv_iload hx hb dX0_bitBecomes_74 (lv_at hl 7 rfl) ?_
    refine lv_iload hx hb dX0_bitBecomes_76 (lv_at hl 6 rfl) ?_
    have hB98 : ∀ (sf_98 : Nat → Int32) (s0_98 : Int64) (s1_98 : Int32), ∀ (H : Heap) (locs : List Loc), va_P D vwCl [oX xa ra xi, (xa 3, .inl (k 6, 4, .inr (.inr (.inr (.inr (fun i => some (sa i))))))), (sa j, .inr (2, [.ref qa])), (qa, .inl (k 1, sn, .inl sf_98))] H → va_D A [oX xa ra xi, (xa 3, .inl (k 6, 4, .inr (.inr (.inr (.inr (fun i => some (sa i))))))), (sa j, .inr (2, [.ref qa])), (qa, .inl (k 1, sn, .inl sf_98))] → va_S A s.heap H locs → fX0_bitBecomes_s2x_B98 j sn p2 p3 p4 sf_98 s0_98 s1_98 = some E → ∀ ls : Array Slot, lv_has ls 11 [] → gX p l e rmX0_bitBecomes_s2x s m [.ref (xa 0), .int (nI j), .int p2, .int p3, .int p4] below meth c (va_Qv (fun (_ : Unit) => False) (fun _ _ => True) A) (xcE D (exN E) [oX xa ra xi, (xa 3, .inl (k 6, 4, .inr (.inr (.inr (.inr (fun i => some (sa i))))))), (sa j, .inr (2, [.ref qa])), (qa, .inl (k 1, sn, .inl sf))] A) A 3 222 H locs 98 ls [.long s0_98, .int s1_98, .int (nI j), .ref (xa 0)] := by
      intro sf_98 s0_98 s1_98 H locs hP hD hS hf ls hl
      unfold fX0_bitBecomes_s2x_B98 at hf
      obtain ⟨⟨v11, g12⟩, et13, hf⟩ := ob hf
      refine wr_callVW (As := [.int (nI j), .int s1_98, .long s0_98]) (rest := []) ⟨hx, hb, hml, hown, hts⟩ (mX0_lay_s2n l D k xa ra sa qa j sn hj hsn xi sf_98 s1_98 s0_98 _ _ _ et13) (vx_cwVW 3 hts (lw_VW q915 q822 q823 q90 q824) rfl rfl rfl ⟨rfl, hdX0_lay_s2n⟩ ⟨Nat.le_of_ble_eq_true rfl, Nat.le_of_ble_eq_true rfl⟩) hK hP hD hS hA [0, 1, 2, 3] [] [oX xa ra xi, (xa 3, .inl (k 6, 4, .inr (.inr (.inr (.inr (fun i => some (sa i))))))), (sa j, .inr (2, [.ref qa])), (qa, .inl (k 1, sn, .inl g12))] rfl rfl fm_n 4 rfl (by decide) (by decide) [(xa 0), (xa 3), (sa j), qa] rfl rfl 0 0 rfl rfl rfl hl.1 rfl (Nat.le_of_ble_eq_true rfl) dX0_bitBecomes_98 ⟨Nat.le_of_ble_eq_true rfl, Nat.le_of_ble_eq_true rfl⟩ (fun H locs hP hD hS => ?_)
      refine lv_pop hx hb dX0_bitBecomes_101 rfl ?_
      cases hf
    refine lv_if_eq (tgt := 89) hx hb dX0_bitBecomes_78 (by decide) (fun c10 => ?_) (fun c10 => ?_)
    · have hf := oi_t c10 hf
      refine lv_lload hx hb dX0_bitBecomes_89 (lv_at hl 1 rfl) ?_
      refine lv_lload hx hb dX0_bitBecomes_91 (lv_at hl 0 rfl) ?_
      refine lv_ldc2 hx hb hown (hts _ q914) dX0_bitBecomes_93 ?_
      refine lv_lxor hx hb dX0_bitBecomes_96 ?_
      refine lv_land hx hb dX0_bitBecomes_97 ?_
      exact hB98 sf_60 (s0_60 &&& (y9 ^^^ (-1 : Int64))) x6_60 H locs hP hD hS hf ls (lv_sub hl [] rfl)
    · have hf := oi_f c10 hf
      refine lv_lload hx hb dX0_bitBecomes_81 (lv_at hl 1 rfl) ?_
      refine lv_lload hx hb dX0_bitBecomes_83 (lv_at hl 0 rfl) ?_
      refine lv_lor hx hb dX0_bitBecomes_85 ?_
      refine lv_goto (tgt := 98) hx hb dX0_bitBecomes_86 (by decide) ?_
      exact hB98 sf_60 (s0_60 ||| y9) x6_60 H locs hP hD hS hf ls (lv_sub hl [] rfl)
  refine lv_if_ne (tgt := 35) hx hb dX0_bitBecomes_20 (by decide) (fun c5 => ?_) (fun c5 => ?_)
  · have hf := oi_f c5 hf
    refine lv_iload_n hx hb dX0_bitBecomes_35 rfl (lv_at hl 4 rfl) ?_
    refine lv_iconst (v := 1) hx hb dX0_bitBecomes_36 (by decide) ?_
    refine lv_icmp_ne (tgt := 52) hx hb dX0_bitBecomes_37 (by decide) (fun c14 => ?_) (fun c14 => ?_)
    · have hf := oi_f c14 hf
      refine lv_aload hx hb dX0_bitBecomes_52 (lv_at hl 1 rfl) ?_
      refine x_castX (na := "[I") hx hb hK hown (hts _ q871) hP 3 1 0 rfl rfl rfl (by decide +kernel) (by decide +kernel) (by decide +kernel) (by decide +kernel) (hK.nc 3 rfl) cce_IJ dX0_bitBecomes_54 (fun tx htx => ?_)
      refine x_noteC htx hx hst hts hK hP hZ hS (hl.1.trans hml.symm) (Nat.le_of_ble_eq_true rfl) (Nat.le_of_ble_eq_true rfl) (Nat.le_of_ble_eq_true rfl) (Nat.le_of_ble_eq_true rfl) hlk (fun H q9 ce hP hS hc9 hv9 hcl9 => ?_)
      cases hf
      exact wx_out hex hlk hc9 hv9 hcl9 hP hS (Nat.le_of_ble_eq_true rfl) (Nat.le_of_ble_eq_true rfl)
    · have hf := oi_t c14 hf
      refine lv_aload hx hb dX0_bitBecomes_40 (lv_at hl 1 rfl) ?_
      refine x_castA hx hb hK hown (hts _ q870) hP 3 1 rfl rfl (by decide +kernel) dX0_bitBecomes_42 ?_
      refine lv_iload hx hb dX0_bitBecomes_45 (lv_at hl 0 rfl) ?_
      by_cases c15 : y4 < 0 ∨ sn ≤ (y4).toNatClampNeg
      · have hf := oi_t c15 hf
        refine vx_ialdZ hx hb hK.1 hP 3 1 rfl rfl (fun z => z c15) dX0_bitBecomes_47 (fun tx htx => ?_)
        refine x_noteA htx hsn hx hst hts hK hP hZ hS (hl.1.trans hml.symm) (Nat.le_of_ble_eq_true rfl) (Nat.le_of_ble_eq_true rfl) (Nat.le_of_ble_eq_true rfl) (Nat.le_of_ble_eq_true rfl) hlk (fun H q9 ce hP hS hc9 hv9 hcl9 => ?_)
        cases hf
        exact wx_out hex hlk hc9 hv9 hcl9 hP hS (Nat.le_of_ble_eq_true rfl) (Nat.le_of_ble_eq_true rfl)
      have hf := oi_f c15 hf
      obtain ⟨v16, ev16, hf⟩ := ob hf
      refine x_iald hx hb hK hP 3 1 ev16 rfl rfl dX0_bitBecomes_47 ?_
      refine lv_i2l hx hb dX0_bitBecomes_48 rfl ?_
      refine lv_goto (tgt := 60) hx hb dX0_bitBecomes_49 (by decide) ?_
      exact hB60 sf y4 ((v16).toInt64) H locs hP hD hS hf ls (lv_sub hl [2, 3, 4, 5, 6, 0] rfl)
  · have hf := oi_t c5 hf
    refine lv_aload hx hb dX0_bitBecomes_23 (lv_at hl 1 rfl) ?_
    refine x_castX (na := "[I") hx hb hK hown (hts _ q869) hP 3 1 3 rfl rfl rfl (by decide +kernel) (by decide +kernel) (by decide +kernel) (by decide +kernel) (hK.nc 2 rfl) cce_IB dX0_bitBecomes_25 (fun tx htx => ?_)
    refine x_noteC htx hx hst hts hK hP hZ hS (hl.1.trans hml.symm) (Nat.le_of_ble_eq_true rfl) (Nat.le_of_ble_eq_true rfl) (Nat.le_of_ble_eq_true rfl) (Nat.le_of_ble_eq_true rfl) hlk (fun H q9 ce hP hS hc9 hv9 hcl9 => ?_)
    cases hf
    exact wx_out hex hlk hc9 hv9 hcl9 hP hS (Nat.le_of_ble_eq_true rfl) (Nat.le_of_ble_eq_true rfl)

abbrev rmX0_lay_s2 : Room := { frames := 8, cells := 3, slots := 222, locals := 10248 }
theorem hdX0_lay_s2 : yX0_lay.cls ≠ "java/lang/invoke/MethodHandle" ∧ yX0_lay.cls ≠ "java/lang/invoke/VarHandle" ∧ (parseMethodDescriptor yX0_lay.desc).map (fun d => d.parameters.length) = some 3 := by decide +kernel
abbrev qcX0_lay_s2 (D : va_G) (k : Nat → ClassId) (xa : Nat → Nat) (ra : Nat → Nat → Nat) (sa : Nat → Nat) (qa : Nat) (j : Nat) (sn : Nat) (xi : Nat → Int32) (sf : Nat → Int32) (r : Int32) (A : Nat → Prop) : Array Value → State → Outcome → State → Prop := va_Qi (fun x (_ : Unit) => x = r) (fun _ t => va_P D vwCl [oX xa ra xi, (xa 3, .inl (k 6, 4, .inr (.inr (.inr (.inr (fun i => some (sa i))))))), (sa j, .inr (2, [.ref qa])), (qa, .inl (k 1, sn, .inl sf))] t.heap) A
set_option maxHeartbeats 4000000 in
theorem mX0_lay_s2 (l : Launch) (hst : l.stackTraces = false) (D : va_G) (k : Nat → ClassId) (xa : Nat → Nat) (ra : Nat → Nat → Nat) (sa : Nat → Nat) (qa : Nat) (j : Nat) (sn : Nat) (hj : j < 4) (hsn : sn < 2 ^ 31) (xi : Nat → Int32) (sf : Nat → Int32) (p2 : Int32) (p3 : Int64) (sz : Nat) (r : Int32) (sf_o : Nat → Int32) (hf : fX0_lay_s2 j sn sf p2 p3 = some (r, sf_o)) : Met l yX0_lay (wsW_ yX0_lay cX0_lay 7 (some .int) [(25, 75, 76, 324), (25, 75, 81, 326)]) rmX0_lay_s2 (wxP D k [oX xa ra xi, (xa 3, .inl (k 6, 4, .inr (.inr (.inr (.inr (fun i => some (sa i))))))), (sa j, .inr (2, [.ref qa])), (qa, .inl (k 1, sn, .inl sf))] sz [.ref (xa 0), .int (nI j), .int p2, .long p3]) (qcX0_lay_s2 D k xa ra sa qa j sn xi sf_o r (va_A [oX xa ra xi, (xa 3, .inl (k 6, 4, .inr (.inr (.inr (.inr (fun i => some (sa i))))))), (sa j, .inr (2, [.ref qa])), (qa, .inl (k 1, sn, .inl sf))] sz)) 3 222 (va_A [oX xa ra xi, (xa 3, .inl (k 6, 4, .inr (.inr (.inr (.inr (fun i => some (sa i))))))), (sa j, .inr (2, [.ref qa])), (qa, .inl (k 1, sn, .inl sf))] sz) := by
  refine wx_startW (Qc := fun A => qcX0_lay_s2 D k xa ra sa qa j sn xi sf_o r A) (by decide +kernel) (Nat.le_of_ble_eq_true rfl) ?_
  intro p e s m below meth c ls A hA hx hb hr hlk hml hown hts hP hK hD hZ hexc hl
  have hl : lv_has ls 7 [(0, .ref (xa 0)), (1, .int (nI j)), (2, .int p2), (3, .long p3)] := hl
  have hown : s.vm.findClass RX0 = some m.cls := hown
  have hS : va_S A s.heap s.heap [] := va_S.rf
  suffices hw : ∀ (H : Heap) (locs : List Loc), va_P D vwCl [oX xa ra xi, (xa 3, .inl (k 6, 4, .inr (.inr (.inr (.inr (fun i => some (sa i))))))), (sa j, .inr (2, [.ref qa])), (qa, .inl (k 1, sn, .inl sf))] H → va_S A s.heap H locs → gW p l e rmX0_lay_s2 s m [.ref (xa 0), .int (nI j), .int p2, .long p3] below meth c (qcX0_lay_s2 D k xa ra sa qa j sn xi sf_o r A) A 3 222 H locs 0 ls [] from hw s.heap [] hP hS
  clear hP hS
  intro H locs hP hS
  unfold fX0_lay_s2 at hf
  refine lv_iload_n hx hb dX0_lay_0 rfl (lv_at hl 1 rfl) ?_
  refine lv_i2l hx hb dX0_lay_1 rfl ?_
  refine lv_lconst (v := 0) hx hb dX0_lay_2 (by decide) ?_
  refine lv_ldc2 hx hb hown (hts _ q520) dX0_lay_3 ?_
  obtain ⟨v1, ev1, hf⟩ := ob hf
  refine rd_callSZ (As := [.long (((nI j)).toInt64), .long (0 : Int64), .long (3 : Int64)]) (rest := []) ⟨hx, hb, hml, hown, hts⟩ (mX0_in l D k   (((nI j)).toInt64) (0 : Int64) (3 : Int64) _ ev1) (va_cwS 3 hts (lw_S q242 q243 q90 q244) rfl rfl rfl hdX0_in ⟨Nat.le_of_ble_eq_true rfl, Nat.le_of_ble_eq_true rfl⟩) hK rfl hl.1 rfl (Nat.le_of_ble_eq_true rfl) dX0_lay_6 ⟨Nat.le_of_ble_eq_true rfl, Nat.le_of_ble_eq_true rfl⟩ (fun zv1 => ?_)
  refine lv_if_ne (tgt := 14) hx hb dX0_lay_9 (by decide) (fun c3 => ?_) (fun c3 => ?_)
  · have hf := oi_f c3 hf
    refine lv_aload_n hx hb dX0_lay_14 rfl (lv_at hl 0 rfl) ?_
    refine va_get (D := D) (cl := vwCl) (ci := 0) (v := .ref (xa 3)) (C := RX0) (T := TX0) (N := 15) hx hb hts in_X0 hown hK.1 hP 0 rfl rfl 12 (by decide) (hts _ q203) (fun _ h9 => h9) rfl dX0_lay_15 ?_
    refine lv_iload_n hx hb dX0_lay_18 rfl (lv_at hl 1 rfl) ?_
    refine x_aald hx hb hK hP 1 6 (j := j) (n := 4) rfl hj (by decide) rfl rfl rfl dX0_lay_19 ?_
    refine va_getN (D := D) (cl := vwCl) (ci := 2) (v := .ref qa) (C := RX2) (T := TX2) (N := 1) hx hb hts in_X2 hown hK.1 hP 2 rfl rfl 0 (by decide) (hK.nw 8 rfl) (fun _ h9 => h9) rfl dX0_lay_20 ?_
    refine lv_astore (lv' := [(5, .ref qa), (0, .ref (xa 0)), (1, .int (nI j)), (2, .int p2), (3, .long p3)]) hx hb dX0_lay_23 hl (by decide) rfl (fun ls hl => ?_)
    refine lv_aload hx hb dX0_lay_25 (lv_at hl 0 rfl) ?_
    refine x_instN (na := "[I") hx hb hK hown (hts _ q869) hP 3 1 rfl rfl (by decide +kernel) (hK.nc 2 rfl) dX0_lay_27 ?_
    refine lv_if_eq (tgt := 46) hx hb dX0_lay_30 (by decide) (fun _ => ?_) (fun c9 => absurd c9 (by decide))
    refine lv_aload hx hb dX0_lay_46 (lv_at hl 0 rfl) ?_
    refine x_instA hx hb hK hown (hts _ q870) hP 3 1 rfl rfl (by decide +kernel) dX0_lay_48 ?_
    refine lv_if_eq (tgt := 66) hx hb dX0_lay_51 (by decide) (fun c9 => absurd c9 (by decide)) (fun _ => ?_)
    refine lv_aload hx hb dX0_lay_54 (lv_at hl 0 rfl) ?_
    refine x_castA hx hb hK hown (hts _ q870) hP 3 1 rfl rfl (by decide +kernel) dX0_lay_56 ?_
    refine lv_iload_n hx hb dX0_lay_59 rfl (lv_at hl 3 rfl) ?_
    refine lv_lload_n hx hb dX0_lay_60 rfl (lv_at hl 4 rfl) ?_
    refine lv_l2i hx hb dX0_lay_61 rfl ?_
    by_cases c4 : p2 < 0 ∨ sn ≤ (p2).toNatClampNeg
    · have hf := oi_t c4 hf
      refine vx_iastZ hx hb hK.1 hP 3 1 rfl rfl (fun z => z c4) dX0_lay_62 (fun tx htx => ?_)
      refine x_noteA htx hsn hx hst hts hK hP hZ hS (hl.1.trans hml.symm) (Nat.le_of_ble_eq_true rfl) (Nat.le_of_ble_eq_true rfl) (Nat.le_of_ble_eq_true rfl) (Nat.le_of_ble_eq_true rfl) hlk (fun H q9 ce hP hS hc9 hv9 hcl9 => ?_)
      refine vx_catch hown [_] _ _ (hexc.trans rfl) (fm_c (Or.inr ⟨by decide, "java/lang/NullPointerException", hts _ q825, hK.nc 6 rfl⟩) fm_n) rfl (by decide) (hts _ q850) (hK.nw 17 rfl) hc9 hv9 hcl9 ?_
      refine lv_astore (lv' := [(6, .ref q9), (5, .ref qa), (0, .ref (xa 0)), (1, .int (nI j)), (2, .int p2), (3, .long p3)]) hx hb dX0_lay_81 hl (by decide) rfl (fun ls hl => ?_)
      refine lv_bipush (v := (-12)) hx hb dX0_lay_83 (by decide) ?_
      obtain ⟨he1, he2⟩ := prod2 hf
      rw [he2] at hP
      refine W.widen (k := 3) (n := 222) (Nat.le_of_ble_eq_true rfl) (Nat.le_of_ble_eq_true rfl) ?_
      exact wr_iret hx hb hr hlk he1 hP hS dX0_lay_85
    have hf := oi_f c4 hf
    obtain ⟨u5, eu5, hf⟩ := ob hf
    refine x_iast hx hb hK hP hD hS 3 1 eu5 rfl rfl [oX xa ra xi, (xa 3, .inl (k 6, 4, .inr (.inr (.inr (.inr (fun i => some (sa i))))))), (sa j, .inr (2, [.ref qa])), (qa, .inl (k 1, sn, .inl u5))] rfl dX0_lay_62 (fun H locs hP hD hS => ?_)
    refine lv_goto (tgt := 74) hx hb dX0_lay_63 (by decide) ?_
    refine lv_iconst (v := 1) hx hb dX0_lay_74 (by decide) ?_
    obtain ⟨he1, he2⟩ := prod2 hf
    rw [he2] at hP
    refine W.widen (k := 3) (n := 222) (Nat.le_of_ble_eq_true rfl) (Nat.le_of_ble_eq_true rfl) ?_
    exact wr_iret hx hb hr hlk he1 hP hS dX0_lay_75
  · have hf := oi_t c3 hf
    refine lv_iconst (v := (-1)) hx hb dX0_lay_12 (by decide) ?_
    obtain ⟨he1, he2⟩ := prod2 hf
    rw [he2] at hP
    refine W.widen (k := 3) (n := 222) (Nat.le_of_ble_eq_true rfl) (Nat.le_of_ble_eq_true rfl) ?_
    exact wr_iret hx hb hr hlk he1 hP hS dX0_lay_13

abbrev rmX0_look_s2 : Room := { frames := 8, cells := 3, slots := 222, locals := 10248 }
theorem hdX0_look_s2 : yX0_look.cls ≠ "java/lang/invoke/MethodHandle" ∧ yX0_look.cls ≠ "java/lang/invoke/VarHandle" ∧ (parseMethodDescriptor yX0_look.desc).map (fun d => d.parameters.length) = some 2 := by decide +kernel
abbrev qcX0_look_s2 (D : va_G) (k : Nat → ClassId) (xa : Nat → Nat) (ra : Nat → Nat → Nat) (sa : Nat → Nat) (qa : Nat) (j : Nat) (sn : Nat) (xi : Nat → Int32) (sf : Nat → Int32) (r : Int64) (A : Nat → Prop) : Array Value → State → Outcome → State → Prop := va_Ql (fun x (_ : Unit) => x = r) (fun _ t => va_P D vwCl [oX xa ra xi, (xa 3, .inl (k 6, 4, .inr (.inr (.inr (.inr (fun i => some (sa i))))))), (sa j, .inr (2, [.ref qa])), (qa, .inl (k 1, sn, .inl sf))] t.heap) A
set_option maxHeartbeats 4000000 in
theorem mX0_look_s2 (l : Launch) (hst : l.stackTraces = false) (D : va_G) (k : Nat → ClassId) (xa : Nat → Nat) (ra : Nat → Nat → Nat) (sa : Nat → Nat) (qa : Nat) (j : Nat) (sn : Nat) (hj : j < 4) (hsn : sn < 2 ^ 31) (xi : Nat → Int32) (sf : Nat → Int32) (p2 : Int32) (sz : Nat) (r : Int64) (hf : fX0_look_s2 j sn sf p2 = some r) : Met l yX0_look (wsW_ yX0_look cX0_look 5 (some .long) [(24, 64, 65, 324), (24, 64, 65, 326)]) rmX0_look_s2 (wxP D k [oX xa ra xi, (xa 3, .inl (k 6, 4, .inr (.inr (.inr (.inr (fun i => some (sa i))))))), (sa j, .inr (2, [.ref qa])), (qa, .inl (k 1, sn, .inl sf))] sz [.ref (xa 0), .int (nI j), .int p2]) (qcX0_look_s2 D k xa ra sa qa j sn xi sf r (va_A [oX xa ra xi, (xa 3, .inl (k 6, 4, .inr (.inr (.inr (.inr (fun i => some (sa i))))))), (sa j, .inr (2, [.ref qa])), (qa, .inl (k 1, sn, .inl sf))] sz)) 3 222 (va_A [oX xa ra xi, (xa 3, .inl (k 6, 4, .inr (.inr (.inr (.inr (fun i => some (sa i))))))), (sa j, .inr (2, [.ref qa])), (qa, .inl (k 1, sn, .inl sf))] sz) := by
  refine wx_startW (Qc := fun A => qcX0_look_s2 D k xa ra sa qa j sn xi sf r A) (by decide +kernel) (Nat.le_of_ble_eq_true rfl) ?_
  intro p e s m below meth c ls A hA hx hb hr hlk hml hown hts hP hK hD hZ hexc hl
  have hl : lv_has ls 5 [(0, .ref (xa 0)), (1, .int (nI j)), (2, .int p2)] := hl
  have hown : s.vm.findClass RX0 = some m.cls := hown
  have hS : va_S A s.heap s.heap [] := va_S.rf
  suffices hw : ∀ (H : Heap) (locs : List Loc), va_P D vwCl [oX xa ra xi, (xa 3, .inl (k 6, 4, .inr (.inr (.inr (.inr (fun i => some (sa i))))))), (sa j, .inr (2, [.ref qa])), (qa, .inl (k 1, sn, .inl sf))] H → va_S A s.heap H locs → gW p l e rmX0_look_s2 s m [.ref (xa 0), .int (nI j), .int p2] below meth c (qcX0_look_s2 D k xa ra sa qa j sn xi sf r A) A 3 222 H locs 0 ls [] from hw s.heap [] hP hS
  clear hP hS
  intro H locs hP hS
  unfold fX0_look_s2 at hf
  refine lv_iload_n hx hb dX0_look_0 rfl (lv_at hl 1 rfl) ?_
  refine lv_i2l hx hb dX0_look_1 rfl ?_
  refine lv_lconst (v := 0) hx hb dX0_look_2 (by decide) ?_
  refine lv_ldc2 hx hb hown (hts _ q520) dX0_look_3 ?_
  obtain ⟨v1, ev1, hf⟩ := ob hf
  refine rd_callSZ (As := [.long (((nI j)).toInt64), .long (0 : Int64), .long (3 : Int64)]) (rest := []) ⟨hx, hb, hml, hown, hts⟩ (mX0_in l D k   (((nI j)).toInt64) (0 : Int64) (3 : Int64) _ ev1) (va_cwS 3 hts (lw_S q242 q243 q90 q244) rfl rfl rfl hdX0_in ⟨Nat.le_of_ble_eq_true rfl, Nat.le_of_ble_eq_true rfl⟩) hK rfl hl.1 rfl (Nat.le_of_ble_eq_true rfl) dX0_look_6 ⟨Nat.le_of_ble_eq_true rfl, Nat.le_of_ble_eq_true rfl⟩ (fun zv1 => ?_)
  refine lv_if_ne (tgt := 14) hx hb dX0_look_9 (by decide) (fun c3 => ?_) (fun c3 => ?_)
  · have hf := oi_f c3 hf
    refine lv_aload_n hx hb dX0_look_14 rfl (lv_at hl 0 rfl) ?_
    refine va_get (D := D) (cl := vwCl) (ci := 0) (v := .ref (xa 3)) (C := RX0) (T := TX0) (N := 15) hx hb hts in_X0 hown hK.1 hP 0 rfl rfl 12 (by decide) (hts _ q203) (fun _ h9 => h9) rfl dX0_look_15 ?_
    refine lv_iload_n hx hb dX0_look_18 rfl (lv_at hl 1 rfl) ?_
    refine x_aald hx hb hK hP 1 6 (j := j) (n := 4) rfl hj (by decide) rfl rfl rfl dX0_look_19 ?_
    refine va_getN (D := D) (cl := vwCl) (ci := 2) (v := .ref qa) (C := RX2) (T := TX2) (N := 1) hx hb hts in_X2 hown hK.1 hP 2 rfl rfl 0 (by decide) (hK.nw 8 rfl) (fun _ h9 => h9) rfl dX0_look_20 ?_
    refine lv_astore_n (lv' := [(3, .ref qa), (0, .ref (xa 0)), (1, .int (nI j)), (2, .int p2)]) hx hb dX0_look_23 rfl hl (by decide) rfl (fun ls hl => ?_)
    refine lv_aload_n hx hb dX0_look_24 rfl (lv_at hl 0 rfl) ?_
    refine x_instN (na := "[I") hx hb hK hown (hts _ q869) hP 3 1 rfl rfl (by decide +kernel) (hK.nc 2 rfl) dX0_look_25 ?_
    refine lv_if_eq (tgt := 41) hx hb dX0_look_28 (by decide) (fun _ => ?_) (fun c9 => absurd c9 (by decide))
    refine lv_aload_n hx hb dX0_look_41 rfl (lv_at hl 0 rfl) ?_
    refine x_instA hx hb hK hown (hts _ q870) hP 3 1 rfl rfl (by decide +kernel) dX0_look_42 ?_
    refine lv_if_eq (tgt := 58) hx hb dX0_look_45 (by decide) (fun c9 => absurd c9 (by decide)) (fun _ => ?_)
    refine lv_aload_n hx hb dX0_look_48 rfl (lv_at hl 0 rfl) ?_
    refine x_castA hx hb hK hown (hts _ q870) hP 3 1 rfl rfl (by decide +kernel) dX0_look_49 ?_
    refine lv_iload_n hx hb dX0_look_52 rfl (lv_at hl 3 rfl) ?_
    by_cases c4 : p2 < 0 ∨ sn ≤ (p2).toNatClampNeg
    · have hf := oi_t c4 hf
      refine vx_ialdZ hx hb hK.1 hP 3 1 rfl rfl (fun z => z c4) dX0_look_53 (fun tx htx => ?_)
      refine x_noteA htx hsn hx hst hts hK hP hZ hS (hl.1.trans hml.symm) (Nat.le_of_ble_eq_true rfl) (Nat.le_of_ble_eq_true rfl) (Nat.le_of_ble_eq_true rfl) (Nat.le_of_ble_eq_true rfl) hlk (fun H q9 ce hP hS hc9 hv9 hcl9 => ?_)
      refine vx_catch hown [_] _ _ (hexc.trans rfl) (fm_c (Or.inr ⟨by decide, "java/lang/NullPointerException", hts _ q825, hK.nc 6 rfl⟩) fm_n) rfl (by decide) (hts _ q850) (hK.nw 17 rfl) hc9 hv9 hcl9 ?_
      refine lv_astore (lv' := [(4, .ref q9), (3, .ref qa), (0, .ref (xa 0)), (1, .int (nI j)), (2, .int p2)]) hx hb dX0_look_65 hl (by decide) rfl (fun ls hl => ?_)
      refine lv_lconst (v := 0) hx hb dX0_look_67 (by decide) ?_
      have he1 := Option.some.inj hf
      refine W.widen (k := 3) (n := 222) (Nat.le_of_ble_eq_true rfl) (Nat.le_of_ble_eq_true rfl) ?_
      exact wr_lret hx hb hr hlk he1 hP hS dX0_look_68
    have hf := oi_f c4 hf
    obtain ⟨v5, ev5, hf⟩ := ob hf
    refine x_iald hx hb hK hP 3 1 ev5 rfl rfl dX0_look_53 ?_
    refine lv_i2l hx hb dX0_look_54 rfl ?_
    refine lv_goto (tgt := 64) hx hb dX0_look_55 (by decide) ?_
    have he1 := Option.some.inj hf
    refine W.widen (k := 3) (n := 222) (Nat.le_of_ble_eq_true rfl) (Nat.le_of_ble_eq_true rfl) ?_
    exact wr_lret hx hb hr hlk he1 hP hS dX0_look_64
  · have hf := oi_t c3 hf
    refine lv_lconst (v := 0) hx hb dX0_look_12 (by decide) ?_
    have he1 := Option.some.inj hf
    refine W.widen (k := 3) (n := 222) (Nat.le_of_ble_eq_true rfl) (Nat.le_of_ble_eq_true rfl) ?_
    exact wr_lret hx hb hr hlk he1 hP hS dX0_look_13

abbrev rmX0_stow_s2 : Room := { frames := 9, cells := 3, slots := 222, locals := 10278 }
theorem hdX0_stow_s2 : yX0_stow.cls ≠ "java/lang/invoke/MethodHandle" ∧ yX0_stow.cls ≠ "java/lang/invoke/VarHandle" ∧ (parseMethodDescriptor yX0_stow.desc).map (fun d => d.parameters.length) = some 3 := by decide +kernel
abbrev qcX0_stow_s2 (D : va_G) (k : Nat → ClassId) (xa : Nat → Nat) (ra : Nat → Nat → Nat) (sa : Nat → Nat) (qa : Nat) (j : Nat) (sn : Nat) (xi : Nat → Int32) (rs : RS) (sf : Nat → Int32) (r : Int32) (A : Nat → Prop) : Array Value → State → Outcome → State → Prop := va_Qi (fun x (_ : Unit) => x = r) (fun _ t => va_P D vwCl (wN k xa ra xi rs ++ [(xa 3, .inl (k 6, 4, .inr (.inr (.inr (.inr (fun i => some (sa i))))))), (sa j, .inr (2, [.ref qa])), (qa, .inl (k 1, sn, .inl sf))]) t.heap) A
set_option maxHeartbeats 4000000 in
theorem mX0_stow_s2 (l : Launch) (hst : l.stackTraces = false) (D : va_G) (k : Nat → ClassId) (xa : Nat → Nat) (ra : Nat → Nat → Nat) (sa : Nat → Nat) (qa : Nat) (j : Nat) (sn : Nat) (hj : j < 4) (hsn : sn < 2 ^ 31) (xi : Nat → Int32) (rs : RS) (sf : Nat → Int32) (p2 : Int32) (p3 : Int32) (sz : Nat) (r : Int32) (xi_o : Nat → Int32) (sf_o : Nat → Int32) (hf : fX0_stow_s2 j sn xi rs sf p2 p3 = some (r, xi_o, sf_o)) : Met l yX0_stow (wsW_ yX0_stow cX0_stow 8 (some .int) [(20, 57, 66, 324), (20, 57, 80, 342), (20, 57, 94, 326), (20, 57, 108, 0), (66, 71, 108, 0), (80, 85, 108, 0), (94, 99, 108, 0), (108, 110, 108, 0)]) rmX0_stow_s2 (wxP D k (wN k xa ra xi rs ++ [(xa 3, .inl (k 6, 4, .inr (.inr (.inr (.inr (fun i => some (sa i))))))), (sa j, .inr (2, [.ref qa])), (qa, .inl (k 1, sn, .inl sf))]) sz [.ref (xa 0), .int (nI j), .int p2, .int p3]) (qcX0_stow_s2 D k xa ra sa qa j sn xi_o rs sf_o r (va_A (wN k xa ra xi rs ++ [(xa 3, .inl (k 6, 4, .inr (.inr (.inr (.inr (fun i => some (sa i))))))), (sa j, .inr (2, [.ref qa])), (qa, .inl (k 1, sn, .inl sf))]) sz)) 3 222 (va_A (wN k xa ra xi rs ++ [(xa 3, .inl (k 6, 4, .inr (.inr (.inr (.inr (fun i => some (sa i))))))), (sa j, .inr (2, [.ref qa])), (qa, .inl (k 1, sn, .inl sf))]) sz) := by
  refine wx_startW (Qc := fun A => qcX0_stow_s2 D k xa ra sa qa j sn xi_o rs sf_o r A) (by decide +kernel) (Nat.le_of_ble_eq_true rfl) ?_
  intro p e s m below meth c ls A hA hx hb hr hlk hml hown hts hP hK hD hZ hexc hl
  have hl : lv_has ls 8 [(0, .ref (xa 0)), (1, .int (nI j)), (2, .int p2), (3, .int p3)] := hl
  have hown : s.vm.findClass RX0 = some m.cls := hown
  have hS : va_S A s.heap s.heap [] := va_S.rf
  suffices hw : ∀ (H : Heap) (locs : List Loc), va_P D vwCl (wN k xa ra xi rs ++ [(xa 3, .inl (k 6, 4, .inr (.inr (.inr (.inr (fun i => some (sa i))))))), (sa j, .inr (2, [.ref qa])), (qa, .inl (k 1, sn, .inl sf))]) H → va_S A s.heap H locs → gW p l e rmX0_stow_s2 s m [.ref (xa 0), .int (nI j), .int p2, .int p3] below meth c (qcX0_stow_s2 D k xa ra sa qa j sn xi_o rs sf_o r A) A 3 222 H locs 0 ls [] from hw s.heap [] hP hS
  clear hP hS
  intro H locs hP hS
  unfold fX0_stow_s2 at hf
  refine lv_iload_n hx hb dX0_stow_0 rfl (lv_at hl 1 rfl) ?_
  refine lv_iload_n hx hb dX0_stow_1 rfl (lv_at hl 2 rfl) ?_
  obtain ⟨v1, ev1, hf⟩ := ob hf
  refine rd_callSZ (As := [.int (nI j), .int p2]) (rest := []) ⟨hx, hb, hml, hown, hts⟩ (mX0_isSheet l D k   (nI j) p2 _ ev1) (va_cwS 2 hts (lw_S q818 q819 q90 q820) rfl rfl rfl hdX0_isSheet ⟨Nat.le_of_ble_eq_true rfl, Nat.le_of_ble_eq_true rfl⟩) hK rfl hl.1 rfl (Nat.le_of_ble_eq_true rfl) dX0_stow_2 ⟨Nat.le_of_ble_eq_true rfl, Nat.le_of_ble_eq_true rfl⟩ (fun zv1 => ?_)
  refine lv_if_eq (tgt := 12) hx hb dX0_stow_5 (by decide) (fun c3 => ?_) (fun c3 => ?_)
  · have hf := oi_t c3 hf
    refine lv_iconst (v := (-1)) hx hb dX0_stow_12 (by decide) ?_
    obtain ⟨he1, he2, he3⟩ := prod3 hf
    rw [he2] at hP
    rw [he3] at hP
    refine W.widen (k := 3) (n := 222) (Nat.le_of_ble_eq_true rfl) (Nat.le_of_ble_eq_true rfl) ?_
    exact wr_iret hx hb hr hlk he1 hP hS dX0_stow_13
  · have hf := oi_f c3 hf
    refine lv_iload_n hx hb dX0_stow_8 rfl (lv_at hl 3 rfl) ?_
    refine lv_if_ge (tgt := 14) hx hb dX0_stow_9 (by decide) (fun c4 => ?_) (fun c4 => ?_)
    · have hf := oi_t c4 hf
      refine lv_iconst (v := 0) hx hb dX0_stow_14 (by decide) ?_
      refine lv_istore (lv' := [(4, .int (0 : Int32)), (0, .ref (xa 0)), (1, .int (nI j)), (2, .int p2), (3, .int p3)]) hx hb dX0_stow_15 hl (by decide) rfl (fun ls hl => ?_)
      refine lv_iconst (v := 0) hx hb dX0_stow_17 (by decide) ?_
      refine lv_istore (lv' := [(5, .int (0 : Int32)), (4, .int (0 : Int32)), (0, .ref (xa 0)), (1, .int (nI j)), (2, .int p2), (3, .int p3)]) hx hb dX0_stow_18 hl (by decide) rfl (fun ls hl => ?_)
      have hL20 : ∀ (nn : Nat) (xi_20 : Nat → Int32) (sf_20 : Nat → Int32) (x4_20 : Int32) (x5_20 : Int32), ∀ (H : Heap) (locs : List Loc), va_P D vwCl (wN k xa ra xi_20 rs ++ [(xa 3, .inl (k 6, 4, .inr (.inr (.inr (.inr (fun i => some (sa i))))))), (sa j, .inr (2, [.ref qa])), (qa, .inl (k 1, sn, .inl sf_20))]) H → va_D A (wN k xa ra xi_20 rs ++ [(xa 3, .inl (k 6, 4, .inr (.inr (.inr (.inr (fun i => some (sa i))))))), (sa j, .inr (2, [.ref qa])), (qa, .inl (k 1, sn, .inl sf_20))]) → va_S A s.heap H locs → fX0_stow_s2_L20 j sn rs p2 p3 nn xi_20 sf_20 x4_20 x5_20 = some (r, xi_o, sf_o) → ∀ ls : Array Slot, lv_has ls 8 [(0, .ref (xa 0)), (1, .int (nI j)), (2, .int p2), (3, .int p3), (4, .int x4_20), (5, .int x5_20)] → gW p l e rmX0_stow_s2 s m [.ref (xa 0), .int (nI j), .int p2, .int p3] below meth c (qcX0_stow_s2 D k xa ra sa qa j sn xi_o rs sf_o r A) A 3 222 H locs 20 ls [] := by
        intro nn20
        induction nn20 with
        | zero =>
          intro xi_20 sf_20 x4_20 x5_20 H locs hP hD hS hf
          rw [fX0_stow_s2_L20] at hf; cases hf
        | succ nn20 ih20 =>
          intro xi_20 sf_20 x4_20 x5_20 H locs hP hD hS hf ls hl
          rw [fX0_stow_s2_L20] at hf
          refine lv_iload hx hb dX0_stow_20 (lv_at hl 5 rfl) ?_
          refine lv_aload_n hx hb dX0_stow_22 rfl (lv_at hl 0 rfl) ?_
          refine va_get (D := D) (cl := vwCl) (ci := 0) (v := .ref (ra 0 0)) (C := RX0) (T := TX0) (N := 15) hx hb hts in_X0 hown hK.1 hP 0 rfl rfl 0 (by decide) (hts _ q190) (fun _ h9 => h9) rfl dX0_stow_23 ?_
          refine va_getN (D := D) (cl := vwCl) (ci := 1) (v := .int (rP rs)) (C := RX1) (T := TX1) (N := 6) hx hb hts in_X1 hown hK.1 hP 1 rfl rfl 1 (by decide) (hK.nw 2 rfl) (fun _ h9 => h9) rfl dX0_stow_26 ?_
          refine lv_icmp_ge (tgt := 57) hx hb dX0_stow_29 (by decide) (fun c5 => ?_) (fun c5 => ?_)
          · have hf := oi_t c5 hf
            refine lv_aload_n hx hb dX0_stow_57 rfl (lv_at hl 0 rfl) ?_
            refine lv_iload hx hb dX0_stow_58 (lv_at hl 4 rfl) ?_
            refine va_put (D := D) (cl := vwCl) (ci := 0) (v := .int x4_20) (ty := .int) (C := RX0) (T := TX0) (N := 15) hx hb hts in_X0 tyX0 tyX0_ok nmX0 hown hK.1 hP hD hS 0 rfl rfl 14 (by decide) (hts _ q205) (fun _ h9 => h9) rfl (by decide +kernel) rfl rfl (Nat.le_of_ble_eq_true rfl) dX0_stow_60 (fun H locs hP hD hS => ?_)
            have hP : va_P D vwCl (wN k xa ra (upd xi_20 8 x4_20) rs ++ [(xa 3, .inl (k 6, 4, .inr (.inr (.inr (.inr (fun i => some (sa i))))))), (sa j, .inr (2, [.ref qa])), (qa, .inl (k 1, sn, .inl sf_20))]) H := hP
            have hD : va_D A (wN k xa ra (upd xi_20 8 x4_20) rs ++ [(xa 3, .inl (k 6, 4, .inr (.inr (.inr (.inr (fun i => some (sa i))))))), (sa j, .inr (2, [.ref qa])), (qa, .inl (k 1, sn, .inl sf_20))]) := hD
            refine lv_goto (tgt := 119) hx hb dX0_stow_63 (by decide) ?_
            refine lv_iload hx hb dX0_stow_119 (lv_at hl 5 rfl) ?_
            obtain ⟨he1, he2, he3⟩ := prod3 hf
            rw [he2] at hP
            rw [he3] at hP
            refine W.widen (k := 3) (n := 222) (Nat.le_of_ble_eq_true rfl) (Nat.le_of_ble_eq_true rfl) ?_
            exact wr_iret hx hb hr hlk he1 hP hS dX0_stow_121
          · have hf := oi_f c5 hf
            refine lv_aload_n hx hb dX0_stow_32 rfl (lv_at hl 0 rfl) ?_
            refine lv_iload_n hx hb dX0_stow_33 rfl (lv_at hl 1 rfl) ?_
            refine lv_iload_n hx hb dX0_stow_34 rfl (lv_at hl 2 rfl) ?_
            refine lv_iload_n hx hb dX0_stow_35 rfl (lv_at hl 3 rfl) ?_
            refine lv_iload hx hb dX0_stow_36 (lv_at hl 5 rfl) ?_
            refine lv_iadd hx hb dX0_stow_38 ?_
            refine lv_aload_n hx hb dX0_stow_39 rfl (lv_at hl 0 rfl) ?_
            refine va_get (D := D) (cl := vwCl) (ci := 0) (v := .ref (ra 0 0)) (C := RX0) (T := TX0) (N := 15) hx hb hts in_X0 hown hK.1 hP 0 rfl rfl 0 (by decide) (hts _ q190) (fun _ h9 => h9) rfl dX0_stow_40 ?_
            refine lv_iload hx hb dX0_stow_43 (lv_at hl 5 rfl) ?_
            obtain ⟨v6, ev6, hf⟩ := ob hf
            refine rd_callVZ (As := [.int x5_20]) (rest := [.int (p3 + x5_20), .int p2, .int (nI j), .ref (xa 0)]) ⟨hx, hb, hml, hown, hts⟩ (mX1_isOpen l D k (ra 0) rs x5_20 _ ev6) (cwV 1 hts (lw_V q439 q184 q185 q91 q186) rfl rfl rfl ⟨rfl, hdX1_isOpen⟩ ⟨Nat.le_of_ble_eq_true rfl, Nat.le_of_ble_eq_true rfl⟩) hK hP [1, 2, 3, 4, 5, 6] rfl 1 1 rfl rfl rfl hl.1 rfl (Nat.le_of_ble_eq_true rfl) dX0_stow_45 ⟨Nat.le_of_ble_eq_true rfl, Nat.le_of_ble_eq_true rfl⟩ (fun zv6 => ?_)
            by_cases c8 : fX0_bitBecomes_s2x j sn sf_20 p2 (p3 + x5_20) v6 = some 3
            · have hf := oi_t c8 hf
              refine wx_excVv (As := [.int (nI j), .int p2, .int (p3 + x5_20), .int v6]) (rest := []) ⟨hx, hb, hml, hown, hts⟩ (mX0_bitBecomes_s2x l hst D k xa ra sa qa j sn hj hsn xi_20 sf_20 p2 (p3 + x5_20) v6 _ 3 c8) (cwV 4 hts (lw_V q910 q912 qs53 q90 q913) rfl rfl rfl ⟨rfl, hdX0_bitBecomes_s2x⟩ ⟨Nat.le_of_ble_eq_true rfl, Nat.le_of_ble_eq_true rfl⟩) hK hZ hP hD hS hA [0, 7, 8, 9] [1, 2, 3, 4, 5, 6] rfl 10 rfl (by decide) (by decide) 0 0 rfl rfl rfl hl.1 rfl (Nat.le_of_ble_eq_true rfl) dX0_stow_48 ⟨Nat.le_of_ble_eq_true rfl, Nat.le_of_ble_eq_true rfl⟩ (fun H locs q9 ce hP hD hS hc9 hv9 hcl9 => ?_)
              refine vx_catch hown [_] _ _ (hexc.trans rfl) (fm_c (Or.inr ⟨by decide, "java/lang/NullPointerException", hts _ q825, hK.nc 8 rfl⟩) fm_n) rfl (by decide) (hts _ q880) (hK.nw 18 rfl) hc9 hv9 hcl9 ?_
              refine lv_astore (lv' := [(6, .ref q9), (0, .ref (xa 0)), (1, .int (nI j)), (2, .int p2), (3, .int p3), (4, .int x4_20), (5, .int x5_20)]) hx hb dX0_stow_80 hl (by decide) rfl (fun ls hl => ?_)
              refine lv_iconst (v := 3) hx hb dX0_stow_82 (by decide) ?_
              refine lv_istore (lv' := [(4, .int (3 : Int32)), (6, .ref q9), (0, .ref (xa 0)), (1, .int (nI j)), (2, .int p2), (3, .int p3), (5, .int x5_20)]) hx hb dX0_stow_83 hl (by decide) rfl (fun ls hl => ?_)
              refine lv_aload_n hx hb dX0_stow_85 rfl (lv_at hl 2 rfl) ?_
              refine lv_iload hx hb dX0_stow_86 (lv_at hl 0 rfl) ?_
              refine va_put (D := D) (cl := vwCl) (ci := 0) (v := .int (3 : Int32)) (ty := .int) (C := RX0) (T := TX0) (N := 15) hx hb hts in_X0 tyX0 tyX0_ok nmX0 hown hK.1 hP hD hS 0 rfl rfl 14 (by decide) (hts _ q205) (fun _ h9 => h9) rfl (by decide +kernel) rfl rfl (Nat.le_of_ble_eq_true rfl) dX0_stow_88 (fun H locs hP hD hS => ?_)
              have hP : va_P D vwCl (wN k xa ra (upd xi_20 8 (3 : Int32)) rs ++ [(xa 3, .inl (k 6, 4, .inr (.inr (.inr (.inr (fun i => some (sa i))))))), (sa j, .inr (2, [.ref qa])), (qa, .inl (k 1, sn, .inl sf_20))]) H := hP
              have hD : va_D A (wN k xa ra (upd xi_20 8 (3 : Int32)) rs ++ [(xa 3, .inl (k 6, 4, .inr (.inr (.inr (.inr (fun i => some (sa i))))))), (sa j, .inr (2, [.ref qa])), (qa, .inl (k 1, sn, .inl sf_20))]) := hD
              refine lv_goto (tgt := 119) hx hb dX0_stow_91 (by decide) ?_
              refine lv_iload hx hb dX0_stow_119 (lv_at hl 6 rfl) ?_
              obtain ⟨he1, he2, he3⟩ := prod3 hf
              rw [he2] at hP
              rw [he3] at hP
              refine W.widen (k := 3) (n := 222) (Nat.le_of_ble_eq_true rfl) (Nat.le_of_ble_eq_true rfl) ?_
              exact wr_iret hx hb hr hlk he1 hP hS dX0_stow_121
            have hf := oi_f c8 hf
            by_cases c9 : fX0_bitBecomes_s2x j sn sf_20 p2 (p3 + x5_20) v6 = some 2
            · have hf := oi_t c9 hf
              refine wx_excVv (As := [.int (nI j), .int p2, .int (p3 + x5_20), .int v6]) (rest := []) ⟨hx, hb, hml, hown, hts⟩ (mX0_bitBecomes_s2x l hst D k xa ra sa qa j sn hj hsn xi_20 sf_20 p2 (p3 + x5_20) v6 _ 2 c9) (cwV 4 hts (lw_V q910 q912 qs53 q90 q913) rfl rfl rfl ⟨rfl, hdX0_bitBecomes_s2x⟩ ⟨Nat.le_of_ble_eq_true rfl, Nat.le_of_ble_eq_true rfl⟩) hK hZ hP hD hS hA [0, 7, 8, 9] [1, 2, 3, 4, 5, 6] rfl 10 rfl (by decide) (by decide) 0 0 rfl rfl rfl hl.1 rfl (Nat.le_of_ble_eq_true rfl) dX0_stow_48 ⟨Nat.le_of_ble_eq_true rfl, Nat.le_of_ble_eq_true rfl⟩ (fun H locs q9 ce hP hD hS hc9 hv9 hcl9 => ?_)
              refine vx_catch hown [_, _] _ _ (hexc.trans rfl) (fm_c (Or.inr ⟨by decide, "java/lang/NullPointerException", hts _ q825, hK.nc 6 rfl⟩) (fm_c (Or.inr ⟨by decide, "java/lang/ClassCastException", hts _ q880, hK.nc 7 rfl⟩) fm_n)) rfl (by decide) (hts _ q850) (hK.nw 17 rfl) hc9 hv9 hcl9 ?_
              refine lv_astore (lv' := [(6, .ref q9), (0, .ref (xa 0)), (1, .int (nI j)), (2, .int p2), (3, .int p3), (4, .int x4_20), (5, .int x5_20)]) hx hb dX0_stow_94 hl (by decide) rfl (fun ls hl => ?_)
              refine lv_iconst (v := 2) hx hb dX0_stow_96 (by decide) ?_
              refine lv_istore (lv' := [(4, .int (2 : Int32)), (6, .ref q9), (0, .ref (xa 0)), (1, .int (nI j)), (2, .int p2), (3, .int p3), (5, .int x5_20)]) hx hb dX0_stow_97 hl (by decide) rfl (fun ls hl => ?_)
              refine lv_aload_n hx hb dX0_stow_99 rfl (lv_at hl 2 rfl) ?_
              refine lv_iload hx hb dX0_stow_100 (lv_at hl 0 rfl) ?_
              refine va_put (D := D) (cl := vwCl) (ci := 0) (v := .int (2 : Int32)) (ty := .int) (C := RX0) (T := TX0) (N := 15) hx hb hts in_X0 tyX0 tyX0_ok nmX0 hown hK.1 hP hD hS 0 rfl rfl 14 (by decide) (hts _ q205) (fun _ h9 => h9) rfl (by decide +kernel) rfl rfl (Nat.le_of_ble_eq_true rfl) dX0_stow_102 (fun H locs hP hD hS => ?_)
              have hP : va_P D vwCl (wN k xa ra (upd xi_20 8 (2 : Int32)) rs ++ [(xa 3, .inl (k 6, 4, .inr (.inr (.inr (.inr (fun i => some (sa i))))))), (sa j, .inr (2, [.ref qa])), (qa, .inl (k 1, sn, .inl sf_20))]) H := hP
              have hD : va_D A (wN k xa ra (upd xi_20 8 (2 : Int32)) rs ++ [(xa 3, .inl (k 6, 4, .inr (.inr (.inr (.inr (fun i => some (sa i))))))), (sa j, .inr (2, [.ref qa])), (qa, .inl (k 1, sn, .inl sf_20))]) := hD
              refine lv_goto (tgt := 119) hx hb dX0_stow_105 (by decide) ?_
              refine lv_iload hx hb dX0_stow_119 (lv_at hl 6 rfl) ?_
              obtain ⟨he1, he2, he3⟩ := prod3 hf
              rw [he2] at hP
              rw [he3] at hP
              refine W.widen (k := 3) (n := 222) (Nat.le_of_ble_eq_true rfl) (Nat.le_of_ble_eq_true rfl) ?_
              exact wr_iret hx hb hr hlk he1 hP hS dX0_stow_121
            have hf := oi_f c9 hf
            obtain ⟨g10, et11, hf⟩ := ob hf
            refine wr_callVv (As := [.int (nI j), .int p2, .int (p3 + x5_20), .int v6]) (rest := []) ⟨hx, hb, hml, hown, hts⟩ (mX0_bitBecomes_s2 l D k xa ra sa qa j sn hj hsn xi_20 sf_20 p2 (p3 + x5_20) v6 _ _ et11) (cwV 4 hts (lw_V q910 q912 qs53 q90 q913) rfl rfl rfl ⟨rfl, hdX0_bitBecomes_s2⟩ ⟨Nat.le_of_ble_eq_true rfl, Nat.le_of_ble_eq_true rfl⟩) hK hP hD hS hA [0, 7, 8, 9] [1, 2, 3, 4, 5, 6] (wN k xa ra xi_20 rs ++ [(xa 3, .inl (k 6, 4, .inr (.inr (.inr (.inr (fun i => some (sa i))))))), (sa j, .inr (2, [.ref qa])), (qa, .inl (k 1, sn, .inl g10))]) rfl rfl (fm_c (fm_e _ rfl rfl) (fm_c (fm_e _ rfl rfl) (fm_c (fm_e _ rfl rfl) (fm_c (fm_e _ rfl rfl) (fm_c (fm_e _ rfl rfl) (fm_c (fm_e _ rfl rfl) fm_n)))))) 10 rfl (by decide) (by decide) [(xa 0), (ra 0 0), (ra 0 1), (ra 0 2), (ra 0 3), (ra 0 4), (ra 0 5), (xa 3), (sa j), qa] rfl rfl 0 0 rfl rfl rfl hl.1 rfl (Nat.le_of_ble_eq_true rfl) dX0_stow_48 ⟨Nat.le_of_ble_eq_true rfl, Nat.le_of_ble_eq_true rfl⟩ (fun H locs hP hD hS => ?_)
            refine lv_iinc (v := (x5_20 + 1)) (lv' := [(5, .int (x5_20 + 1)), (0, .ref (xa 0)), (1, .int (nI j)), (2, .int p2), (3, .int p3), (4, .int x4_20)]) hx hb dX0_stow_51 hl (k := 5) rfl rfl (by decide) rfl (fun ls hl => ?_)
            refine lv_goto (tgt := 20) hx hb dX0_stow_54 (by decide) ?_
            exact ih20 xi_20 g10 x4_20 (x5_20 + 1) H locs hP hD hS hf ls (lv_sub hl [1, 2, 3, 4, 5, 0] rfl)
      exact hL20 FU xi sf (0 : Int32) (0 : Int32) H locs hP hD hS hf ls (lv_sub hl [2, 3, 4, 5, 1, 0] rfl)
    · have hf := oi_f c4 hf
      refine lv_iconst (v := (-1)) hx hb dX0_stow_12 (by decide) ?_
      obtain ⟨he1, he2, he3⟩ := prod3 hf
      rw [he2] at hP
      rw [he3] at hP
      refine W.widen (k := 3) (n := 222) (Nat.le_of_ble_eq_true rfl) (Nat.le_of_ble_eq_true rfl) ?_
      exact wr_iret hx hb hr hlk he1 hP hS dX0_stow_13

abbrev rmX0_read_s2 : Room := { frames := 9, cells := 3, slots := 222, locals := 10275 }
theorem hdX0_read_s2 : yX0_read.cls ≠ "java/lang/invoke/MethodHandle" ∧ yX0_read.cls ≠ "java/lang/invoke/VarHandle" ∧ (parseMethodDescriptor yX0_read.desc).map (fun d => d.parameters.length) = some 4 := by decide +kernel
abbrev qcX0_read_s2 (D : va_G) (k : Nat → ClassId) (xa : Nat → Nat) (ra : Nat → Nat → Nat) (sa : Nat → Nat) (qa : Nat) (j : Nat) (sn : Nat) (xi : Nat → Int32) (rs : RS) (rt : RS) (sf : Nat → Int32) (r : Int32) (A : Nat → Prop) : Array Value → State → Outcome → State → Prop := va_Qi (fun x (_ : Unit) => x = r) (fun _ t => va_P D vwCl (wN k xa ra xi rs ++ (wR k (ra 4) rt ++ [(xa 3, .inl (k 6, 4, .inr (.inr (.inr (.inr (fun i => some (sa i))))))), (sa j, .inr (2, [.ref qa])), (qa, .inl (k 1, sn, .inl sf))])) t.heap) A
set_option maxHeartbeats 4000000 in
theorem mX0_read_s2 (l : Launch) (hst : l.stackTraces = false) (D : va_G) (k : Nat → ClassId) (xa : Nat → Nat) (ra : Nat → Nat → Nat) (sa : Nat → Nat) (qa : Nat) (j : Nat) (sn : Nat) (hj : j < 4) (hsn : sn < 2 ^ 31) (xi : Nat → Int32) (rs : RS) (rt : RS) (sf : Nat → Int32) (p2 : Int32) (p3 : Int32) (p4 : Int32) (sz : Nat) (r : Int32) (rs_o : RS) (rt_o : RS) (hf : fX0_read_s2 j sn rs rt sf p2 p3 p4 = some (r, rs_o, rt_o)) : Met l yX0_read (wsW_ yX0_read cX0_read 6 (some .int) [(47, 82, 85, 324), (47, 82, 90, 342), (47, 82, 95, 326)]) rmX0_read_s2 (wxP D k (wN k xa ra xi rs ++ (wR k (ra 4) rt ++ [(xa 3, .inl (k 6, 4, .inr (.inr (.inr (.inr (fun i => some (sa i))))))), (sa j, .inr (2, [.ref qa])), (qa, .inl (k 1, sn, .inl sf))])) sz [.ref (xa 0), .int (nI j), .int p2, .int p3, .int p4]) (qcX0_read_s2 D k xa ra sa qa j sn xi rs_o rt_o sf r (va_A (wN k xa ra xi rs ++ (wR k (ra 4) rt ++ [(xa 3, .inl (k 6, 4, .inr (.inr (.inr (.inr (fun i => some (sa i))))))), (sa j, .inr (2, [.ref qa])), (qa, .inl (k 1, sn, .inl sf))])) sz)) 3 222 (va_A (wN k xa ra xi rs ++ (wR k (ra 4) rt ++ [(xa 3, .inl (k 6, 4, .inr (.inr (.inr (.inr (fun i => some (sa i))))))), (sa j, .inr (2, [.ref qa])), (qa, .inl (k 1, sn, .inl sf))])) sz) := by
  refine wx_startW (Qc := fun A => qcX0_read_s2 D k xa ra sa qa j sn xi rs_o rt_o sf r A) (by decide +kernel) (Nat.le_of_ble_eq_true rfl) ?_
  intro p e s m below meth c ls A hA hx hb hr hlk hml hown hts hP hK hD hZ hexc hl
  have hl : lv_has ls 6 [(0, .ref (xa 0)), (1, .int (nI j)), (2, .int p2), (3, .int p3), (4, .int p4)] := hl
  have hown : s.vm.findClass RX0 = some m.cls := hown
  have hS : va_S A s.heap s.heap [] := va_S.rf
  suffices hw : ∀ (H : Heap) (locs : List Loc), va_P D vwCl (wN k xa ra xi rs ++ (wR k (ra 4) rt ++ [(xa 3, .inl (k 6, 4, .inr (.inr (.inr (.inr (fun i => some (sa i))))))), (sa j, .inr (2, [.ref qa])), (qa, .inl (k 1, sn, .inl sf))])) H → va_S A s.heap H locs → gW p l e rmX0_read_s2 s m [.ref (xa 0), .int (nI j), .int p2, .int p3, .int p4] below meth c (qcX0_read_s2 D k xa ra sa qa j sn xi rs_o rt_o sf r A) A 3 222 H locs 0 ls [] from hw s.heap [] hP hS
  clear hP hS
  intro H locs hP hS
  unfold fX0_read_s2 at hf
  refine lv_iload_n hx hb dX0_read_0 rfl (lv_at hl 1 rfl) ?_
  refine lv_iload_n hx hb dX0_read_1 rfl (lv_at hl 2 rfl) ?_
  obtain ⟨v1, ev1, hf⟩ := ob hf
  refine rd_callSZ (As := [.int (nI j), .int p2]) (rest := []) ⟨hx, hb, hml, hown, hts⟩ (mX0_isSheet l D k   (nI j) p2 _ ev1) (va_cwS 2 hts (lw_S q818 q819 q90 q820) rfl rfl rfl hdX0_isSheet ⟨Nat.le_of_ble_eq_true rfl, Nat.le_of_ble_eq_true rfl⟩) hK rfl hl.1 rfl (Nat.le_of_ble_eq_true rfl) dX0_read_2 ⟨Nat.le_of_ble_eq_true rfl, Nat.le_of_ble_eq_true rfl⟩ (fun zv1 => ?_)
  refine lv_if_eq (tgt := 25) hx hb dX0_read_5 (by decide) (fun c3 => ?_) (fun c3 => ?_)
  · have hf := oi_t c3 hf
    refine lv_iconst (v := (-1)) hx hb dX0_read_25 (by decide) ?_
    obtain ⟨he1, he2, he3⟩ := prod3 hf
    rw [he2] at hP
    rw [he3] at hP
    refine W.widen (k := 3) (n := 222) (Nat.le_of_ble_eq_true rfl) (Nat.le_of_ble_eq_true rfl) ?_
    exact wr_iret hx hb hr hlk he1 hP hS dX0_read_26
  · have hf := oi_f c3 hf
    refine lv_iload hx hb dX0_read_8 (lv_at hl 4 rfl) ?_
    refine lv_i2l hx hb dX0_read_10 rfl ?_
    refine lv_lconst (v := 0) hx hb dX0_read_11 (by decide) ?_
    refine lv_ldc2 hx hb hown (hts _ q894) dX0_read_12 ?_
    obtain ⟨v4, ev4, hf⟩ := ob hf
    refine rd_callSZ (As := [.long ((p4).toInt64), .long (0 : Int64), .long (128 : Int64)]) (rest := []) ⟨hx, hb, hml, hown, hts⟩ (mX0_in l D k   ((p4).toInt64) (0 : Int64) (128 : Int64) _ ev4) (va_cwS 3 hts (lw_S q242 q243 q90 q244) rfl rfl rfl hdX0_in ⟨Nat.le_of_ble_eq_true rfl, Nat.le_of_ble_eq_true rfl⟩) hK rfl hl.1 rfl (Nat.le_of_ble_eq_true rfl) dX0_read_15 ⟨Nat.le_of_ble_eq_true rfl, Nat.le_of_ble_eq_true rfl⟩ (fun zv4 => ?_)
    refine lv_if_eq (tgt := 25) hx hb dX0_read_18 (by decide) (fun c6 => ?_) (fun c6 => ?_)
    · have hf := oi_t c6 hf
      refine lv_iconst (v := (-1)) hx hb dX0_read_25 (by decide) ?_
      obtain ⟨he1, he2, he3⟩ := prod3 hf
      rw [he2] at hP
      rw [he3] at hP
      refine W.widen (k := 3) (n := 222) (Nat.le_of_ble_eq_true rfl) (Nat.le_of_ble_eq_true rfl) ?_
      exact wr_iret hx hb hr hlk he1 hP hS dX0_read_26
    · have hf := oi_f c6 hf
      refine lv_iload_n hx hb dX0_read_21 rfl (lv_at hl 3 rfl) ?_
      refine lv_if_ge (tgt := 27) hx hb dX0_read_22 (by decide) (fun c7 => ?_) (fun c7 => ?_)
      · have hf := oi_t c7 hf
        refine lv_aload_n hx hb dX0_read_27 rfl (lv_at hl 0 rfl) ?_
        refine va_get (D := D) (cl := vwCl) (ci := 0) (v := .ref (ra 4 0)) (C := RX0) (T := TX0) (N := 15) hx hb hts in_X0 hown hK.1 hP 0 rfl rfl 13 (by decide) (hts _ q204) (fun _ h9 => h9) rfl dX0_read_28 ?_
        refine va_getN (D := D) (cl := vwCl) (ci := 1) (v := .ref (ra 4 1)) (C := RX1) (T := TX1) (N := 6) hx hb hts in_X1 hown hK.1 hP 7 rfl rfl 0 (by decide) (hK.nw 1 rfl) (fun _ h9 => h9) rfl dX0_read_31 ?_
        refine lv_lconst (v := 0) hx hb dX0_read_34 (by decide) ?_
        obtain ⟨g8, et9, hf⟩ := ob hf
        refine wr_callSv (As := [.ref (ra 4 1), .long (0 : Int64)]) (rest := []) ⟨hx, hb, hml, hown, hts⟩ (mJ7_fill l D k (ra 4 1) (rW rt) (0 : Int64) _ _ et9) (va_cwS 2 hts (lw_S q784 q785 q104 q786) rfl rfl rfl hdJ7_fill ⟨Nat.le_of_ble_eq_true rfl, Nat.le_of_ble_eq_true rfl⟩) hK hP hD hS hA [8] [0, 1, 2, 3, 4, 5, 6, 7, 9, 10, 11, 12, 13, 14, 15] (wN k xa ra xi rs ++ (wR k (ra 4) (rsW rt g8) ++ [(xa 3, .inl (k 6, 4, .inr (.inr (.inr (.inr (fun i => some (sa i))))))), (sa j, .inr (2, [.ref qa])), (qa, .inl (k 1, sn, .inl sf))])) rfl rfl (fm_c (fm_e _ rfl rfl) (fm_c (fm_e _ rfl rfl) (fm_c (fm_e _ rfl rfl) (fm_c (fm_e _ rfl rfl) (fm_c (fm_e _ rfl rfl) (fm_c (fm_e _ rfl rfl) (fm_c (fm_e _ rfl rfl) (fm_c (fm_e _ rfl rfl) (fm_c (fm_e _ rfl rfl) (fm_c (fm_e _ rfl rfl) (fm_c (fm_e _ rfl rfl) (fm_c (fm_e _ rfl rfl) (fm_c (fm_e _ rfl rfl) (fm_c (fm_e _ rfl rfl) (fm_c (fm_e _ rfl rfl) fm_n))))))))))))))) 16 rfl (by decide) (by decide) [(xa 0), (ra 0 0), (ra 0 1), (ra 0 2), (ra 0 3), (ra 0 4), (ra 0 5), (ra 4 0), (ra 4 1), (ra 4 2), (ra 4 3), (ra 4 4), (ra 4 5), (xa 3), (sa j), qa] rfl rfl rfl hl.1 rfl (Nat.le_of_ble_eq_true rfl) dX0_read_35 ⟨Nat.le_of_ble_eq_true rfl, Nat.le_of_ble_eq_true rfl⟩ (fun H locs hP hD hS => ?_)
        refine lv_aload_n hx hb dX0_read_38 rfl (lv_at hl 0 rfl) ?_
        refine va_get (D := D) (cl := vwCl) (ci := 0) (v := .ref (ra 4 0)) (C := RX0) (T := TX0) (N := 15) hx hb hts in_X0 hown hK.1 hP 0 rfl rfl 13 (by decide) (hts _ q204) (fun _ h9 => h9) rfl dX0_read_39 ?_
        refine lv_iload hx hb dX0_read_42 (lv_at hl 4 rfl) ?_
        refine va_putN (D := D) (cl := vwCl) (ci := 1) (v := .int p4) (ty := .int) (C := RX1) (T := TX1) (N := 6) hx hb hts in_X1 tyX1 tyX1_ok nmX1 hown hK.1 hP hD hS 7 rfl rfl 1 (by decide) (hK.nw 2 rfl) (fun _ h9 => h9) rfl (by decide +kernel) rfl rfl (Nat.le_of_ble_eq_true rfl) dX0_read_44 (fun H locs hP hD hS => ?_)
        have hP : va_P D vwCl (wN k xa ra xi rs ++ (wR k (ra 4) (rsP (rsW rt g8) p4) ++ [(xa 3, .inl (k 6, 4, .inr (.inr (.inr (.inr (fun i => some (sa i))))))), (sa j, .inr (2, [.ref qa])), (qa, .inl (k 1, sn, .inl sf))])) H := hP
        have hD : va_D A (wN k xa ra xi rs ++ (wR k (ra 4) (rsP (rsW rt g8) p4) ++ [(xa 3, .inl (k 6, 4, .inr (.inr (.inr (.inr (fun i => some (sa i))))))), (sa j, .inr (2, [.ref qa])), (qa, .inl (k 1, sn, .inl sf))])) := hD
        refine lv_iconst (v := 0) hx hb dX0_read_47 (by decide) ?_
        refine lv_istore (lv' := [(5, .int (0 : Int32)), (0, .ref (xa 0)), (1, .int (nI j)), (2, .int p2), (3, .int p3), (4, .int p4)]) hx hb dX0_read_48 hl (by decide) rfl (fun ls hl => ?_)
        have hL50 : ∀ (nn : Nat) (rs_50 : RS) (rt_50 : RS) (x5_50 : Int32), ∀ (H : Heap) (locs : List Loc), va_P D vwCl (wN k xa ra xi rs_50 ++ (wR k (ra 4) rt_50 ++ [(xa 3, .inl (k 6, 4, .inr (.inr (.inr (.inr (fun i => some (sa i))))))), (sa j, .inr (2, [.ref qa])), (qa, .inl (k 1, sn, .inl sf))])) H → va_D A (wN k xa ra xi rs_50 ++ (wR k (ra 4) rt_50 ++ [(xa 3, .inl (k 6, 4, .inr (.inr (.inr (.inr (fun i => some (sa i))))))), (sa j, .inr (2, [.ref qa])), (qa, .inl (k 1, sn, .inl sf))])) → va_S A s.heap H locs → fX0_read_s2_L50 j sn sf p2 p3 p4 nn rs_50 rt_50 x5_50 = some (r, rs_o, rt_o) → ∀ ls : Array Slot, lv_has ls 6 [(0, .ref (xa 0)), (1, .int (nI j)), (2, .int p2), (3, .int p3), (4, .int p4), (5, .int x5_50)] → gW p l e rmX0_read_s2 s m [.ref (xa 0), .int (nI j), .int p2, .int p3, .int p4] below meth c (qcX0_read_s2 D k xa ra sa qa j sn xi rs_o rt_o sf r A) A 3 222 H locs 50 ls [] := by
          intro nn50
          induction nn50 with
          | zero =>
            intro rs_50 rt_50 x5_50 H locs hP hD hS hf
            rw [fX0_read_s2_L50] at hf; cases hf
          | succ nn50 ih50 =>
            intro rs_50 rt_50 x5_50 H locs hP hD hS hf ls hl
            rw [fX0_read_s2_L50] at hf
            refine lv_iload hx hb dX0_read_50 (lv_at hl 5 rfl) ?_
            refine lv_iload hx hb dX0_read_52 (lv_at hl 4 rfl) ?_
            refine lv_icmp_ge (tgt := 82) hx hb dX0_read_54 (by decide) (fun c10 => ?_) (fun c10 => ?_)
            · have hf := oi_t c10 hf
              refine lv_goto (tgt := 100) hx hb dX0_read_82 (by decide) ?_
              refine lv_aload_n hx hb dX0_read_100 rfl (lv_at hl 0 rfl) ?_
              obtain ⟨v11, ev11, hf⟩ := ob hf
              refine rd_callVZ (As := []) (rest := []) ⟨hx, hb, hml, hown, hts⟩ (mX0_isTree l D k xa ra xi rt_50  _ ev11) (cwV 0 hts (lw_V q902 q904 qs52 q90 q905) rfl rfl rfl ⟨rfl, hdX0_isTree⟩ ⟨Nat.le_of_ble_eq_true rfl, Nat.le_of_ble_eq_true rfl⟩) hK hP [0, 7, 8, 9, 10, 11, 12] rfl 0 0 rfl rfl rfl hl.1 rfl (Nat.le_of_ble_eq_true rfl) dX0_read_101 ⟨Nat.le_of_ble_eq_true rfl, Nat.le_of_ble_eq_true rfl⟩ (fun zv11 => ?_)
              refine lv_if_ne (tgt := 110) hx hb dX0_read_104 (by decide) (fun c13 => ?_) (fun c13 => ?_)
              · have hf := oi_f c13 hf
                refine lv_aload_n hx hb dX0_read_110 rfl (lv_at hl 0 rfl) ?_
                refine va_get (D := D) (cl := vwCl) (ci := 0) (v := .ref (ra 4 0)) (C := RX0) (T := TX0) (N := 15) hx hb hts in_X0 hown hK.1 hP 0 rfl rfl 13 (by decide) (hts _ q204) (fun _ h9 => h9) rfl dX0_read_111 ?_
                obtain ⟨g14, et15, hf⟩ := ob hf
                refine wr_callVv (As := []) (rest := []) ⟨hx, hb, hml, hown, hts⟩ (mX1_summariseAll l D k (ra 4) rt_50  _ _ et15) (cwV 0 hts (lw_V q168 q169 q170 q91 q171) rfl rfl rfl ⟨rfl, hdX1_summariseAll⟩ ⟨Nat.le_of_ble_eq_true rfl, Nat.le_of_ble_eq_true rfl⟩) hK hP hD hS hA [7, 8, 9, 10, 11, 12] [0, 1, 2, 3, 4, 5, 6, 13, 14, 15] (wN k xa ra xi rs_50 ++ (wR k (ra 4) g14 ++ [(xa 3, .inl (k 6, 4, .inr (.inr (.inr (.inr (fun i => some (sa i))))))), (sa j, .inr (2, [.ref qa])), (qa, .inl (k 1, sn, .inl sf))])) rfl rfl (fm_c (fm_e _ rfl rfl) (fm_c (fm_e _ rfl rfl) (fm_c (fm_e _ rfl rfl) (fm_c (fm_e _ rfl rfl) (fm_c (fm_e _ rfl rfl) (fm_c (fm_e _ rfl rfl) (fm_c (fm_e _ rfl rfl) (fm_c (fm_e _ rfl rfl) (fm_c (fm_e _ rfl rfl) (fm_c (fm_e _ rfl rfl) fm_n)))))))))) 16 rfl (by decide) (by decide) [(xa 0), (ra 0 0), (ra 0 1), (ra 0 2), (ra 0 3), (ra 0 4), (ra 0 5), (ra 4 0), (ra 4 1), (ra 4 2), (ra 4 3), (ra 4 4), (ra 4 5), (xa 3), (sa j), qa] rfl rfl 7 1 rfl rfl rfl hl.1 rfl (Nat.le_of_ble_eq_true rfl) dX0_read_114 ⟨Nat.le_of_ble_eq_true rfl, Nat.le_of_ble_eq_true rfl⟩ (fun H locs hP hD hS => ?_)
                refine lv_aload_n hx hb dX0_read_117 rfl (lv_at hl 0 rfl) ?_
                refine va_get (D := D) (cl := vwCl) (ci := 0) (v := .ref (ra 0 0)) (C := RX0) (T := TX0) (N := 15) hx hb hts in_X0 hown hK.1 hP 0 rfl rfl 0 (by decide) (hts _ q190) (fun _ h9 => h9) rfl dX0_read_118 ?_
                refine lv_aload_n hx hb dX0_read_121 rfl (lv_at hl 0 rfl) ?_
                refine va_get (D := D) (cl := vwCl) (ci := 0) (v := .ref (ra 4 0)) (C := RX0) (T := TX0) (N := 15) hx hb hts in_X0 hown hK.1 hP 0 rfl rfl 13 (by decide) (hts _ q204) (fun _ h9 => h9) rfl dX0_read_122 ?_
                obtain ⟨g16, et17, hf⟩ := ob hf
                refine wr_callVv (As := [.ref (ra 4 0)]) (rest := []) ⟨hx, hb, hml, hown, hts⟩ (mX1_as l D k (ra 0) (ra 4) rs_50 g14  _ _ et17) (cwV 1 hts (lw_V q406 q407 q408 q91 q409) rfl rfl rfl ⟨rfl, hdX1_as⟩ ⟨Nat.le_of_ble_eq_true rfl, Nat.le_of_ble_eq_true rfl⟩) hK hP hD hS hA [1, 2, 3, 4, 5, 6, 7, 8, 9, 10, 11, 12] [0, 13, 14, 15] (wN k xa ra xi g16 ++ (wR k (ra 4) g14 ++ [(xa 3, .inl (k 6, 4, .inr (.inr (.inr (.inr (fun i => some (sa i))))))), (sa j, .inr (2, [.ref qa])), (qa, .inl (k 1, sn, .inl sf))])) rfl rfl (fm_c (fm_e _ rfl rfl) (fm_c (fm_e _ rfl rfl) (fm_c (fm_e _ rfl rfl) (fm_c (fm_e _ rfl rfl) fm_n)))) 16 rfl (by decide) (by decide) [(xa 0), (ra 0 0), (ra 0 1), (ra 0 2), (ra 0 3), (ra 0 4), (ra 0 5), (ra 4 0), (ra 4 1), (ra 4 2), (ra 4 3), (ra 4 4), (ra 4 5), (xa 3), (sa j), qa] rfl rfl 1 1 rfl rfl rfl hl.1 rfl (Nat.le_of_ble_eq_true rfl) dX0_read_125 ⟨Nat.le_of_ble_eq_true rfl, Nat.le_of_ble_eq_true rfl⟩ (fun H locs hP hD hS => ?_)
                refine lv_aload_n hx hb dX0_read_128 rfl (lv_at hl 0 rfl) ?_
                obtain ⟨v18, ev18, hf⟩ := ob hf
                refine rd_callV (As := []) (rest := []) ⟨hx, hb, hml, hown, hts⟩ (mX0_nodes l D k xa ra xi g16  _ ev18) (cwV 0 hts (lw_V q421 q423 qs7 q90 q424) rfl rfl rfl ⟨rfl, hdX0_nodes⟩ ⟨Nat.le_of_ble_eq_true rfl, Nat.le_of_ble_eq_true rfl⟩) hK hP [0, 1, 2, 3, 4, 5, 6] rfl 0 0 rfl rfl rfl hl.1 rfl (Nat.le_of_ble_eq_true rfl) dX0_read_129 ⟨Nat.le_of_ble_eq_true rfl, Nat.le_of_ble_eq_true rfl⟩ ?_
                obtain ⟨he1, he2, he3⟩ := prod3 hf
                rw [he2] at hP
                rw [he3] at hP
                refine W.widen (k := 3) (n := 222) (Nat.le_of_ble_eq_true rfl) (Nat.le_of_ble_eq_true rfl) ?_
                exact wr_iret hx hb hr hlk he1 hP hS dX0_read_132
              · have hf := oi_t c13 hf
                refine lv_bipush (v := (-2)) hx hb dX0_read_107 (by decide) ?_
                obtain ⟨he1, he2, he3⟩ := prod3 hf
                rw [he2] at hP
                rw [he3] at hP
                refine W.widen (k := 3) (n := 222) (Nat.le_of_ble_eq_true rfl) (Nat.le_of_ble_eq_true rfl) ?_
                exact wr_iret hx hb hr hlk he1 hP hS dX0_read_109
            · have hf := oi_f c10 hf
              refine lv_aload_n hx hb dX0_read_57 rfl (lv_at hl 0 rfl) ?_
              refine va_get (D := D) (cl := vwCl) (ci := 0) (v := .ref (ra 4 0)) (C := RX0) (T := TX0) (N := 15) hx hb hts in_X0 hown hK.1 hP 0 rfl rfl 13 (by decide) (hts _ q204) (fun _ h9 => h9) rfl dX0_read_58 ?_
              refine lv_iload hx hb dX0_read_61 (lv_at hl 5 rfl) ?_
              refine lv_aload_n hx hb dX0_read_63 rfl (lv_at hl 0 rfl) ?_
              refine lv_iload_n hx hb dX0_read_64 rfl (lv_at hl 1 rfl) ?_
              refine lv_iload_n hx hb dX0_read_65 rfl (lv_at hl 2 rfl) ?_
              refine lv_iload_n hx hb dX0_read_66 rfl (lv_at hl 3 rfl) ?_
              refine lv_iload hx hb dX0_read_67 (lv_at hl 5 rfl) ?_
              refine lv_iadd hx hb dX0_read_69 ?_
              by_cases c20 : fX0_isBit_s2x j sn sf p2 (p3 + x5_50) = some 3
              · have hf := oi_t c20 hf
                refine wx_excV (As := [.int (nI j), .int p2, .int (p3 + x5_50)]) (rest := [.int x5_50, .ref (ra 4 0)]) ⟨hx, hb, hml, hown, hts⟩ (mX0_isBit_s2x l hst D k xa ra sa qa j sn hj hsn xi sf p2 (p3 + x5_50) _ 3 c20) (cwV 3 hts (lw_V q895 q897 qs51 q90 q898) rfl rfl rfl ⟨rfl, hdX0_isBit_s2x⟩ ⟨Nat.le_of_ble_eq_true rfl, Nat.le_of_ble_eq_true rfl⟩) hK hZ hP hD hS hA [0, 13, 14, 15] [1, 2, 3, 4, 5, 6, 7, 8, 9, 10, 11, 12] rfl 16 rfl (by decide) (by decide) 0 0 rfl rfl rfl hl.1 rfl (Nat.le_of_ble_eq_true rfl) dX0_read_70 ⟨Nat.le_of_ble_eq_true rfl, Nat.le_of_ble_eq_true rfl⟩ (fun H locs q9 ce hP hD hS hc9 hv9 hcl9 => ?_)
                refine vx_catch hown [_] _ _ (hexc.trans rfl) (fm_c (Or.inr ⟨by decide, "java/lang/NullPointerException", hts _ q825, hK.nc 8 rfl⟩) fm_n) rfl (by decide) (hts _ q880) (hK.nw 18 rfl) hc9 hv9 hcl9 ?_
                refine lv_astore (lv' := [(5, .ref q9), (0, .ref (xa 0)), (1, .int (nI j)), (2, .int p2), (3, .int p3), (4, .int p4)]) hx hb dX0_read_90 hl (by decide) rfl (fun ls hl => ?_)
                refine lv_bipush (v := (-13)) hx hb dX0_read_92 (by decide) ?_
                obtain ⟨he1, he2, he3⟩ := prod3 hf
                rw [he2] at hP
                rw [he3] at hP
                refine W.widen (k := 3) (n := 222) (Nat.le_of_ble_eq_true rfl) (Nat.le_of_ble_eq_true rfl) ?_
                exact wr_iret hx hb hr hlk he1 hP hS dX0_read_94
              have hf := oi_f c20 hf
              by_cases c21 : fX0_isBit_s2x j sn sf p2 (p3 + x5_50) = some 2
              · have hf := oi_t c21 hf
                refine wx_excV (As := [.int (nI j), .int p2, .int (p3 + x5_50)]) (rest := [.int x5_50, .ref (ra 4 0)]) ⟨hx, hb, hml, hown, hts⟩ (mX0_isBit_s2x l hst D k xa ra sa qa j sn hj hsn xi sf p2 (p3 + x5_50) _ 2 c21) (cwV 3 hts (lw_V q895 q897 qs51 q90 q898) rfl rfl rfl ⟨rfl, hdX0_isBit_s2x⟩ ⟨Nat.le_of_ble_eq_true rfl, Nat.le_of_ble_eq_true rfl⟩) hK hZ hP hD hS hA [0, 13, 14, 15] [1, 2, 3, 4, 5, 6, 7, 8, 9, 10, 11, 12] rfl 16 rfl (by decide) (by decide) 0 0 rfl rfl rfl hl.1 rfl (Nat.le_of_ble_eq_true rfl) dX0_read_70 ⟨Nat.le_of_ble_eq_true rfl, Nat.le_of_ble_eq_true rfl⟩ (fun H locs q9 ce hP hD hS hc9 hv9 hcl9 => ?_)
                refine vx_catch hown [_, _] _ _ (hexc.trans rfl) (fm_c (Or.inr ⟨by decide, "java/lang/NullPointerException", hts _ q825, hK.nc 6 rfl⟩) (fm_c (Or.inr ⟨by decide, "java/lang/ClassCastException", hts _ q880, hK.nc 7 rfl⟩) fm_n)) rfl (by decide) (hts _ q850) (hK.nw 17 rfl) hc9 hv9 hcl9 ?_
                refine lv_astore (lv' := [(5, .ref q9), (0, .ref (xa 0)), (1, .int (nI j)), (2, .int p2), (3, .int p3), (4, .int p4)]) hx hb dX0_read_95 hl (by decide) rfl (fun ls hl => ?_)
                refine lv_bipush (v := (-12)) hx hb dX0_read_97 (by decide) ?_
                obtain ⟨he1, he2, he3⟩ := prod3 hf
                rw [he2] at hP
                rw [he3] at hP
                refine W.widen (k := 3) (n := 222) (Nat.le_of_ble_eq_true rfl) (Nat.le_of_ble_eq_true rfl) ?_
                exact wr_iret hx hb hr hlk he1 hP hS dX0_read_99
              have hf := oi_f c21 hf
              obtain ⟨v22, ev22, hf⟩ := ob hf
              refine rd_callVZ (As := [.int (nI j), .int p2, .int (p3 + x5_50)]) (rest := [.int x5_50, .ref (ra 4 0)]) ⟨hx, hb, hml, hown, hts⟩ (mX0_isBit_s2 l D k xa ra sa qa j sn hj hsn xi sf p2 (p3 + x5_50) _ ev22) (cwV 3 hts (lw_V q895 q897 qs51 q90 q898) rfl rfl rfl ⟨rfl, hdX0_isBit_s2⟩ ⟨Nat.le_of_ble_eq_true rfl, Nat.le_of_ble_eq_true rfl⟩) hK hP [0, 13, 14, 15] rfl 0 0 rfl rfl rfl hl.1 rfl (Nat.le_of_ble_eq_true rfl) dX0_read_70 ⟨Nat.le_of_ble_eq_true rfl, Nat.le_of_ble_eq_true rfl⟩ (fun zv22 => ?_)
              obtain ⟨g24, et25, hf⟩ := ob hf
              refine wr_callVv (As := [.int x5_50, .int v22]) (rest := []) ⟨hx, hb, hml, hown, hts⟩ (mX1_becomes l D k (ra 4) rt_50 x5_50 v22 _ _ et25) (cwV 2 hts (lw_V q725 q397 q398 q91 q399) rfl rfl rfl ⟨rfl, hdX1_becomes⟩ ⟨Nat.le_of_ble_eq_true rfl, Nat.le_of_ble_eq_true rfl⟩) hK hP hD hS hA [7, 8, 9, 10, 11, 12] [0, 1, 2, 3, 4, 5, 6, 13, 14, 15] (wN k xa ra xi rs_50 ++ (wR k (ra 4) g24 ++ [(xa 3, .inl (k 6, 4, .inr (.inr (.inr (.inr (fun i => some (sa i))))))), (sa j, .inr (2, [.ref qa])), (qa, .inl (k 1, sn, .inl sf))])) rfl rfl (fm_c (fm_e _ rfl rfl) (fm_c (fm_e _ rfl rfl) (fm_c (fm_e _ rfl rfl) (fm_c (fm_e _ rfl rfl) (fm_c (fm_e _ rfl rfl) (fm_c (fm_e _ rfl rfl) (fm_c (fm_e _ rfl rfl) (fm_c (fm_e _ rfl rfl) (fm_c (fm_e _ rfl rfl) (fm_c (fm_e _ rfl rfl) fm_n)))))))))) 16 rfl (by decide) (by decide) [(xa 0), (ra 0 0), (ra 0 1), (ra 0 2), (ra 0 3), (ra 0 4), (ra 0 5), (ra 4 0), (ra 4 1), (ra 4 2), (ra 4 3), (ra 4 4), (ra 4 5), (xa 3), (sa j), qa] rfl rfl 7 1 rfl rfl rfl hl.1 rfl (Nat.le_of_ble_eq_true rfl) dX0_read_73 ⟨Nat.le_of_ble_eq_true rfl, Nat.le_of_ble_eq_true rfl⟩ (fun H locs hP hD hS => ?_)
              refine lv_iinc (v := (x5_50 + 1)) (lv' := [(5, .int (x5_50 + 1)), (0, .ref (xa 0)), (1, .int (nI j)), (2, .int p2), (3, .int p3), (4, .int p4)]) hx hb dX0_read_76 hl (k := 5) rfl rfl (by decide) rfl (fun ls hl => ?_)
              refine lv_goto (tgt := 50) hx hb dX0_read_79 (by decide) ?_
              exact ih50 rs_50 g24 (x5_50 + 1) H locs hP hD hS hf ls (lv_sub hl [1, 2, 3, 4, 5, 0] rfl)
        exact hL50 FU rs (rsP (rsW rt g8) p4) (0 : Int32) H locs hP hD hS hf ls (lv_sub hl [1, 2, 3, 4, 5, 0] rfl)
      · have hf := oi_f c7 hf
        refine lv_iconst (v := (-1)) hx hb dX0_read_25 (by decide) ?_
        obtain ⟨he1, he2, he3⟩ := prod3 hf
        rw [he2] at hP
        rw [he3] at hP
        refine W.widen (k := 3) (n := 222) (Nat.le_of_ble_eq_true rfl) (Nat.le_of_ble_eq_true rfl) ?_
        exact wr_iret hx hb hr hlk he1 hP hS dX0_read_26

abbrev rmX0_count_s2 : Room := { frames := 1, cells := 0, slots := 0, locals := 21 }
theorem hdX0_count_s2 : yX0_count.cls ≠ "java/lang/invoke/MethodHandle" ∧ yX0_count.cls ≠ "java/lang/invoke/VarHandle" ∧ (parseMethodDescriptor yX0_count.desc).map (fun d => d.parameters.length) = some 1 := by decide +kernel
set_option maxHeartbeats 4000000 in
theorem mX0_count_s2 (l : Launch) (D : va_G) (k : Nat → ClassId) (xa : Nat → Nat) (ra : Nat → Nat → Nat) (sa : Nat → Nat) (qa : Nat) (sn : Nat) (hsn : sn < 2 ^ 31) (xi : Nat → Int32) (rs : RS) (sf : Nat → Int32) (p1 : Int32) (r : Int32) (hf : fX0_count_s2 sn xi rs p1 = some r) : CtI l yX0_count cX0_count 10 rmX0_count_s2 [.ref (xa 0), .int p1] D k (wN k xa ra xi rs ++ [(xa 3, .inl (k 6, 4, .inr (.inr (.inr (.inr (fun i => some (sa i))))))), (sa 0, .inr (2, [.ref qa])), (qa, .inl (k 1, sn, .inl sf))]) r := by
  refine rd_start (by decide +kernel) (Nat.le_of_ble_eq_true rfl) ?_
  intro p e s m below meth c ls hx hb hr hlk hml hown hts hP hK hl
  have hl : lv_has ls 10 [(0, .ref (xa 0)), (1, .int p1)] := hl
  have hown : s.vm.findClass RX0 = some m.cls := hown
  unfold fX0_count_s2 at hf
  refine lv_aload_n hx hb dX0_count_0 rfl (lv_at hl 0 rfl) ?_
  refine va_get (D := D) (cl := vwCl) (ci := 0) (v := .ref (xa 3)) (C := RX0) (T := TX0) (N := 15) hx hb hts in_X0 hown hK.1 hP 0 rfl rfl 12 (by decide) (hts _ q203) (fun _ h9 => h9) rfl dX0_count_1 ?_
  refine lv_iconst (v := 0) hx hb dX0_count_4 (by decide) ?_
  refine x_aald hx hb hK hP 7 6 (j := 0) (n := 4) rfl (by decide) (by decide) rfl rfl rfl dX0_count_5 ?_
  refine va_getN (D := D) (cl := vwCl) (ci := 2) (v := .ref qa) (C := RX2) (T := TX2) (N := 1) hx hb hts in_X2 hown hK.1 hP 8 rfl rfl 0 (by decide) (hK.nw 8 rfl) (fun _ h9 => h9) rfl dX0_count_6 ?_
  refine lv_astore_n (lv' := [(2, .ref qa), (0, .ref (xa 0)), (1, .int p1)]) hx hb dX0_count_9 rfl hl (by decide) rfl (fun ls hl => ?_)
  refine lv_aload_n hx hb dX0_count_10 rfl (lv_at hl 0 rfl) ?_
  refine x_instN (na := "[I") hx hb hK hown (hts _ q869) hP 9 1 rfl rfl (by decide +kernel) (hK.nc 2 rfl) dX0_count_11 ?_
  refine lv_if_eq (tgt := 25) hx hb dX0_count_14 (by decide) (fun _ => ?_) (fun c9 => absurd c9 (by decide))
  refine lv_aload_n hx hb dX0_count_25 rfl (lv_at hl 0 rfl) ?_
  refine x_instA hx hb hK hown (hts _ q870) hP 9 1 rfl rfl (by decide +kernel) dX0_count_26 ?_
  refine lv_if_eq (tgt := 40) hx hb dX0_count_29 (by decide) (fun c9 => absurd c9 (by decide)) (fun _ => ?_)
  refine lv_aload_n hx hb dX0_count_32 rfl (lv_at hl 0 rfl) ?_
  refine x_castA hx hb hK hown (hts _ q870) hP 9 1 rfl rfl (by decide +kernel) dX0_count_33 ?_
  refine va_alen hx hb hK.1 hP 9 1 rfl rfl rfl dX0_count_36 ?_
  refine lv_goto (tgt := 57) hx hb dX0_count_37 (by decide) ?_
  have hB57 : ∀ (s0_57 : Int32), fX0_count_s2_B57 sn xi rs p1 s0_57 = some r → ∀ ls : Array Slot, lv_has ls 10 [(0, .ref (xa 0)), (1, .int p1)] → gR p l e rmX0_count_s2 s m [.ref (xa 0), .int p1] below meth c (vp_Si (fun x => x = r)) 57 ls [.int s0_57] := by
    intro s0_57 hf ls hl
    unfold fX0_count_s2_B57 at hf
    refine lv_istore_n (lv' := [(3, .int s0_57), (0, .ref (xa 0)), (1, .int p1)]) hx hb dX0_count_57 rfl hl (by decide) rfl (fun ls hl => ?_)
    refine lv_iconst (v := 0) hx hb dX0_count_58 (by decide) ?_
    refine lv_istore (lv' := [(4, .int (0 : Int32)), (3, .int s0_57), (0, .ref (xa 0)), (1, .int p1)]) hx hb dX0_count_59 hl (by decide) rfl (fun ls hl => ?_)
    refine lv_aload_n hx hb dX0_count_61 rfl (lv_at hl 2 rfl) ?_
    refine va_get (D := D) (cl := vwCl) (ci := 0) (v := .ref (ra 0 0)) (C := RX0) (T := TX0) (N := 15) hx hb hts in_X0 hown hK.1 hP 0 rfl rfl 0 (by decide) (hts _ q190) (fun _ h9 => h9) rfl dX0_count_62 ?_
    refine va_getN (D := D) (cl := vwCl) (ci := 1) (v := .ref (ra 0 1)) (C := RX1) (T := TX1) (N := 6) hx hb hts in_X1 hown hK.1 hP 1 rfl rfl 0 (by decide) (hK.nw 1 rfl) (fun _ h9 => h9) rfl dX0_count_65 ?_
    refine lv_astore (lv' := [(5, .ref (ra 0 1)), (4, .int (0 : Int32)), (3, .int s0_57), (0, .ref (xa 0)), (1, .int p1)]) hx hb dX0_count_68 hl (by decide) rfl (fun ls hl => ?_)
    refine lv_aload hx hb dX0_count_70 (lv_at hl 0 rfl) ?_
    refine va_alen hx hb hK.1 hP 2 0 rfl rfl rfl dX0_count_72 ?_
    refine lv_istore (lv' := [(6, .int (2 : Int32)), (5, .ref (ra 0 1)), (4, .int (0 : Int32)), (3, .int s0_57), (0, .ref (xa 0)), (1, .int p1)]) hx hb dX0_count_73 hl (by decide) rfl (fun ls hl => ?_)
    refine lv_iconst (v := 0) hx hb dX0_count_75 (by decide) ?_
    refine lv_istore (lv' := [(7, .int (0 : Int32)), (6, .int (2 : Int32)), (5, .ref (ra 0 1)), (4, .int (0 : Int32)), (3, .int s0_57), (0, .ref (xa 0)), (1, .int p1)]) hx hb dX0_count_76 hl (by decide) rfl (fun ls hl => ?_)
    have hL78 : ∀ (nn : Nat) (x3_78 : Int32) (x4_78 : Int32) (x6_78 : Int32) (x7_78 : Int32), fX0_count_s2_L78 sn xi rs p1 nn x3_78 x4_78 x6_78 x7_78 = some r → ∀ ls : Array Slot, lv_has ls 10 [(0, .ref (xa 0)), (1, .int p1), (3, .int x3_78), (4, .int x4_78), (5, .ref (ra 0 1)), (6, .int x6_78), (7, .int x7_78)] → gR p l e rmX0_count_s2 s m [.ref (xa 0), .int p1] below meth c (vp_Si (fun x => x = r)) 78 ls [] := by
      intro nn78
      induction nn78 with
      | zero =>
        intro x3_78 x4_78 x6_78 x7_78 hf
        rw [fX0_count_s2_L78] at hf; cases hf
      | succ nn78 ih78 =>
        intro x3_78 x4_78 x6_78 x7_78 hf ls hl
        rw [fX0_count_s2_L78] at hf
        refine lv_iload hx hb dX0_count_78 (lv_at hl 6 rfl) ?_
        refine lv_iload hx hb dX0_count_80 (lv_at hl 5 rfl) ?_
        refine lv_icmp_ge (tgt := 112) hx hb dX0_count_82 (by decide) (fun c1 => ?_) (fun c1 => ?_)
        · have hf := oi_t c1 hf
          refine lv_iload_n hx hb dX0_count_112 rfl (lv_at hl 1 rfl) ?_
          by_cases c2 : p1 = 0
          · have hf := oi_t c2 hf
            refine lv_tableIn (off := 31) (tgt := 144) hx hb dX0_count_113 (by rw [c2]; decide) (by rw [c2]; decide) (by rw [c2]; rfl) (by decide) ?_
            refine lv_aload_n hx hb dX0_count_144 rfl (lv_at hl 0 rfl) ?_
            refine va_get (D := D) (cl := vwCl) (ci := 0) (v := .int (xi 0)) (C := RX0) (T := TX0) (N := 15) hx hb hts in_X0 hown hK.1 hP 0 rfl rfl 2 (by decide) (hts _ q192) (fun _ h9 => h9) rfl dX0_count_145 ?_
            obtain ⟨v3, ev3, hf⟩ := ob hf
            refine rd_callS (As := [.int (xi 0)]) (rest := []) ⟨hx, hb, hml, hown, hts⟩ (mJ13_bitCount l D k   (xi 0) _ ev3) (va_cwS 1 hts (lw_S q926 q927 q110 q928) rfl rfl rfl hdJ13_bitCount ⟨Nat.le_of_ble_eq_true rfl, Nat.le_of_ble_eq_true rfl⟩) hK rfl hl.1 rfl (Nat.le_of_ble_eq_true rfl) dX0_count_148 ⟨Nat.le_of_ble_eq_true rfl, Nat.le_of_ble_eq_true rfl⟩ ?_
            exact rd_iret hx hb hr hlk (Option.some.inj hf) dX0_count_151
          have hf := oi_f c2 hf
          by_cases c5 : p1 = 1
          · have hf := oi_t c5 hf
            refine lv_tableIn (off := 39) (tgt := 152) hx hb dX0_count_113 (by rw [c5]; decide) (by rw [c5]; decide) (by rw [c5]; rfl) (by decide) ?_
            refine lv_aload_n hx hb dX0_count_152 rfl (lv_at hl 0 rfl) ?_
            refine va_get (D := D) (cl := vwCl) (ci := 0) (v := .int (xi 6)) (C := RX0) (T := TX0) (N := 15) hx hb hts in_X0 hown hK.1 hP 0 rfl rfl 9 (by decide) (hts _ q200) (fun _ h9 => h9) rfl dX0_count_153 ?_
            exact rd_iret hx hb hr hlk (Option.some.inj hf) dX0_count_156
          have hf := oi_f c5 hf
          by_cases c6 : p1 = 2
          · have hf := oi_t c6 hf
            refine lv_tableIn (off := 44) (tgt := 157) hx hb dX0_count_113 (by rw [c6]; decide) (by rw [c6]; decide) (by rw [c6]; rfl) (by decide) ?_
            refine lv_iload_n hx hb dX0_count_157 rfl (lv_at hl 2 rfl) ?_
            exact rd_iret hx hb hr hlk (Option.some.inj hf) dX0_count_158
          have hf := oi_f c6 hf
          by_cases c7 : p1 = 3
          · have hf := oi_t c7 hf
            refine lv_tableIn (off := 46) (tgt := 159) hx hb dX0_count_113 (by rw [c7]; decide) (by rw [c7]; decide) (by rw [c7]; rfl) (by decide) ?_
            refine lv_iload hx hb dX0_count_159 (lv_at hl 3 rfl) ?_
            exact rd_iret hx hb hr hlk (Option.some.inj hf) dX0_count_161
          have hf := oi_f c7 hf
          refine lv_tableOut (tgt := 162) hx hb dX0_count_113 (tb_out4 c2 c5 c6 c7) (by decide) ?_
          refine lv_iconst (v := (-1)) hx hb dX0_count_162 (by decide) ?_
          exact rd_iret hx hb hr hlk (Option.some.inj hf) dX0_count_163
        · have hf := oi_f c1 hf
          refine lv_aload hx hb dX0_count_85 (lv_at hl 4 rfl) ?_
          refine lv_iload hx hb dX0_count_87 (lv_at hl 6 rfl) ?_
          obtain ⟨v8, ev8, hf⟩ := ob hf
          refine x_lald hx hb hK hP 2 0 ev8 rfl rfl dX0_count_89 ?_
          refine lv_lstore (lv' := [(8, .long v8), (0, .ref (xa 0)), (1, .int p1), (3, .int x3_78), (4, .int x4_78), (5, .ref (ra 0 1)), (6, .int x6_78), (7, .int x7_78)]) hx hb dX0_count_90 hl (by decide) rfl (fun ls hl => ?_)
          refine lv_iload hx hb dX0_count_92 (lv_at hl 4 rfl) ?_
          refine lv_lload hx hb dX0_count_94 (lv_at hl 0 rfl) ?_
          refine lv_ldc2 hx hb hown (hts _ q924) dX0_count_96 ?_
          refine lv_land hx hb dX0_count_99 ?_
          obtain ⟨v9, ev9, hf⟩ := ob hf
          refine rd_callS (As := [.long (v8 &&& (-6148914691236517206 : Int64))]) (rest := [.int x4_78]) ⟨hx, hb, hml, hown, hts⟩ (mJ3_bitCount l D k   (v8 &&& (-6148914691236517206 : Int64)) _ ev9) (va_cwS 1 hts (lw_S q925 q434 q100 q435) rfl rfl rfl hdJ3_bitCount ⟨Nat.le_of_ble_eq_true rfl, Nat.le_of_ble_eq_true rfl⟩) hK rfl hl.1 rfl (Nat.le_of_ble_eq_true rfl) dX0_count_100 ⟨Nat.le_of_ble_eq_true rfl, Nat.le_of_ble_eq_true rfl⟩ ?_
          refine lv_iadd hx hb dX0_count_103 ?_
          obtain ⟨y11, ey11, hf⟩ := ob hf
          refine x_asI ey11 ?_
          refine lv_istore (lv' := [(4, .int y11), (8, .long v8), (0, .ref (xa 0)), (1, .int p1), (3, .int x3_78), (5, .ref (ra 0 1)), (6, .int x6_78), (7, .int x7_78)]) hx hb dX0_count_104 hl (by decide) rfl (fun ls hl => ?_)
          refine lv_iinc (v := (x7_78 + 1)) (lv' := [(7, .int (x7_78 + 1)), (4, .int y11), (8, .long v8), (0, .ref (xa 0)), (1, .int p1), (3, .int x3_78), (5, .ref (ra 0 1)), (6, .int x6_78)]) hx hb dX0_count_106 hl (k := 7) rfl rfl (by decide) rfl (fun ls hl => ?_)
          refine lv_goto (tgt := 78) hx hb dX0_count_109 (by decide) ?_
          exact ih78 x3_78 y11 x6_78 (x7_78 + 1) hf ls (lv_sub hl [3, 4, 5, 1, 6, 7, 0] rfl)
    exact hL78 FU s0_57 (0 : Int32) (2 : Int32) (0 : Int32) hf ls (lv_sub hl [5, 6, 4, 3, 2, 1, 0] rfl)
  exact hB57 (Int32.ofNat sn) hf ls (lv_sub hl [1, 2] rfl)

abbrev rmX0_lay_s3n : Room := { frames := 1, cells := 0, slots := 0, locals := 25 }
theorem hdX0_lay_s3n : yX0_lay.cls ≠ "java/lang/invoke/MethodHandle" ∧ yX0_lay.cls ≠ "java/lang/invoke/VarHandle" ∧ (parseMethodDescriptor yX0_lay.desc).map (fun d => d.parameters.length) = some 3 := by decide +kernel
abbrev qcX0_lay_s3n (D : va_G) (k : Nat → ClassId) (xa : Nat → Nat) (ra : Nat → Nat → Nat) (sa : Nat → Nat) (qa : Nat) (j : Nat) (sn : Nat) (xi : Nat → Int32) (sg : Nat → Int64) (r : Int32) (A : Nat → Prop) : Array Value → State → Outcome → State → Prop := va_Qi (fun x (_ : Unit) => x = r) (fun _ t => va_P D vwCl [oX xa ra xi, (xa 3, .inl (k 6, 4, .inr (.inr (.inr (.inr (fun i => some (sa i))))))), (sa j, .inr (2, [.ref qa])), (qa, .inl (k 0, sn, .inr (.inl sg)))] t.heap) A
set_option maxHeartbeats 4000000 in
theorem mX0_lay_s3n (l : Launch) (D : va_G) (k : Nat → ClassId) (xa : Nat → Nat) (ra : Nat → Nat → Nat) (sa : Nat → Nat) (qa : Nat) (j : Nat) (sn : Nat) (hj : j < 4) (hsn : sn < 2 ^ 31) (xi : Nat → Int32) (sg : Nat → Int64) (p2 : Int32) (p3 : Int64) (sz : Nat) (r : Int32) (sg_o : Nat → Int64) (hf : fX0_lay_s3n j sn sg p2 p3 = some (r, sg_o)) : Met l yX0_lay (wsW_ yX0_lay cX0_lay 7 (some .int) [(25, 75, 76, 324), (25, 75, 81, 326)]) rmX0_lay_s3n (wrP D k [oX xa ra xi, (xa 3, .inl (k 6, 4, .inr (.inr (.inr (.inr (fun i => some (sa i))))))), (sa j, .inr (2, [.ref qa])), (qa, .inl (k 0, sn, .inr (.inl sg)))] sz [.ref (xa 0), .int (nI j), .int p2, .long p3]) (qcX0_lay_s3n D k xa ra sa qa j sn xi sg_o r (va_A [oX xa ra xi, (xa 3, .inl (k 6, 4, .inr (.inr (.inr (.inr (fun i => some (sa i))))))), (sa j, .inr (2, [.ref qa])), (qa, .inl (k 0, sn, .inr (.inl sg)))] sz)) 0 0 (va_A [oX xa ra xi, (xa 3, .inl (k 6, 4, .inr (.inr (.inr (.inr (fun i => some (sa i))))))), (sa j, .inr (2, [.ref qa])), (qa, .inl (k 0, sn, .inr (.inl sg)))] sz) := by
  refine wr_startW (Qc := fun A => qcX0_lay_s3n D k xa ra sa qa j sn xi sg_o r A) (by decide +kernel) (Nat.le_of_ble_eq_true rfl) ?_
  intro p e s m below meth c ls A hA hx hb hr hlk hml hown hts hP hK hD hl
  have hl : lv_has ls 7 [(0, .ref (xa 0)), (1, .int (nI j)), (2, .int p2), (3, .long p3)] := hl
  have hown : s.vm.findClass RX0 = some m.cls := hown
  have hS : va_S A s.heap s.heap [] := va_S.rf
  suffices hw : ∀ (H : Heap) (locs : List Loc), va_P D vwCl [oX xa ra xi, (xa 3, .inl (k 6, 4, .inr (.inr (.inr (.inr (fun i => some (sa i))))))), (sa j, .inr (2, [.ref qa])), (qa, .inl (k 0, sn, .inr (.inl sg)))] H → va_S A s.heap H locs → gW p l e rmX0_lay_s3n s m [.ref (xa 0), .int (nI j), .int p2, .long p3] below meth c (qcX0_lay_s3n D k xa ra sa qa j sn xi sg_o r A) A 0 0 H locs 0 ls [] from hw s.heap [] hP hS
  clear hP hS
  intro H locs hP hS
  unfold fX0_lay_s3n at hf
  refine lv_iload_n hx hb dX0_lay_0 rfl (lv_at hl 1 rfl) ?_
  refine lv_i2l hx hb dX0_lay_1 rfl ?_
  refine lv_lconst (v := 0) hx hb dX0_lay_2 (by decide) ?_
  refine lv_ldc2 hx hb hown (hts _ q520) dX0_lay_3 ?_
  obtain ⟨v1, ev1, hf⟩ := ob hf
  refine rd_callSZ (As := [.long (((nI j)).toInt64), .long (0 : Int64), .long (3 : Int64)]) (rest := []) ⟨hx, hb, hml, hown, hts⟩ (mX0_in l D k   (((nI j)).toInt64) (0 : Int64) (3 : Int64) _ ev1) (va_cwS 3 hts (lw_S q242 q243 q90 q244) rfl rfl rfl hdX0_in ⟨Nat.le_of_ble_eq_true rfl, Nat.le_of_ble_eq_true rfl⟩) hK rfl hl.1 rfl (Nat.le_of_ble_eq_true rfl) dX0_lay_6 ⟨Nat.le_of_ble_eq_true rfl, Nat.le_of_ble_eq_true rfl⟩ (fun zv1 => ?_)
  refine lv_if_ne (tgt := 14) hx hb dX0_lay_9 (by decide) (fun c3 => ?_) (fun c3 => ?_)
  · have hf := oi_f c3 hf
    refine lv_aload_n hx hb dX0_lay_14 rfl (lv_at hl 0 rfl) ?_
    refine va_get (D := D) (cl := vwCl) (ci := 0) (v := .ref (xa 3)) (C := RX0) (T := TX0) (N := 15) hx hb hts in_X0 hown hK.1 hP 0 rfl rfl 12 (by decide) (hts _ q203) (fun _ h9 => h9) rfl dX0_lay_15 ?_
    refine lv_iload_n hx hb dX0_lay_18 rfl (lv_at hl 1 rfl) ?_
    refine x_aald hx hb hK hP 1 6 (j := j) (n := 4) rfl hj (by decide) rfl rfl rfl dX0_lay_19 ?_
    refine va_getN (D := D) (cl := vwCl) (ci := 2) (v := .ref qa) (C := RX2) (T := TX2) (N := 1) hx hb hts in_X2 hown hK.1 hP 2 rfl rfl 0 (by decide) (hK.nw 8 rfl) (fun _ h9 => h9) rfl dX0_lay_20 ?_
    refine lv_astore (lv' := [(5, .ref qa), (0, .ref (xa 0)), (1, .int (nI j)), (2, .int p2), (3, .long p3)]) hx hb dX0_lay_23 hl (by decide) rfl (fun ls hl => ?_)
    refine lv_aload hx hb dX0_lay_25 (lv_at hl 0 rfl) ?_
    refine x_instN (na := "[J") hx hb hK hown (hts _ q869) hP 3 0 rfl rfl (by decide +kernel) (hK.nc 4 rfl) dX0_lay_27 ?_
    refine lv_if_eq (tgt := 46) hx hb dX0_lay_30 (by decide) (fun _ => ?_) (fun c9 => absurd c9 (by decide))
    refine lv_aload hx hb dX0_lay_46 (lv_at hl 0 rfl) ?_
    refine x_instN (na := "[J") hx hb hK hown (hts _ q870) hP 3 0 rfl rfl (by decide +kernel) (hK.nc 5 rfl) dX0_lay_48 ?_
    refine lv_if_eq (tgt := 66) hx hb dX0_lay_51 (by decide) (fun _ => ?_) (fun c9 => absurd c9 (by decide))
    refine lv_aload hx hb dX0_lay_66 (lv_at hl 0 rfl) ?_
    refine x_castA hx hb hK hown (hts _ q871) hP 3 0 rfl rfl (by decide +kernel) dX0_lay_68 ?_
    refine lv_iload_n hx hb dX0_lay_71 rfl (lv_at hl 3 rfl) ?_
    refine lv_lload_n hx hb dX0_lay_72 rfl (lv_at hl 4 rfl) ?_
    obtain ⟨u4, eu4, hf⟩ := ob hf
    refine x_last hx hb hK hP hD hS 3 0 eu4 rfl rfl [oX xa ra xi, (xa 3, .inl (k 6, 4, .inr (.inr (.inr (.inr (fun i => some (sa i))))))), (sa j, .inr (2, [.ref qa])), (qa, .inl (k 0, sn, .inr (.inl u4)))] rfl dX0_lay_73 (fun H locs hP hD hS => ?_)
    refine lv_iconst (v := 1) hx hb dX0_lay_74 (by decide) ?_
    obtain ⟨he1, he2⟩ := prod2 hf
    rw [he2] at hP
    exact wr_iret hx hb hr hlk he1 hP hS dX0_lay_75
  · have hf := oi_t c3 hf
    refine lv_iconst (v := (-1)) hx hb dX0_lay_12 (by decide) ?_
    obtain ⟨he1, he2⟩ := prod2 hf
    rw [he2] at hP
    exact wr_iret hx hb hr hlk he1 hP hS dX0_lay_13

abbrev rmX0_isBit_s3 : Room := { frames := 1, cells := 0, slots := 0, locals := 20 }
theorem hdX0_isBit_s3 : yX0_isBit.cls ≠ "java/lang/invoke/MethodHandle" ∧ yX0_isBit.cls ≠ "java/lang/invoke/VarHandle" ∧ (parseMethodDescriptor yX0_isBit.desc).map (fun d => d.parameters.length) = some 3 := by decide +kernel
set_option maxHeartbeats 4000000 in
theorem mX0_isBit_s3 (l : Launch) (D : va_G) (k : Nat → ClassId) (xa : Nat → Nat) (ra : Nat → Nat → Nat) (sa : Nat → Nat) (qa : Nat) (j : Nat) (sn : Nat) (hj : j < 4) (hsn : sn < 2 ^ 31) (xi : Nat → Int32) (sg : Nat → Int64) (p2 : Int32) (p3 : Int32) (r : Int32) (hf : fX0_isBit_s3 j sn sg p2 p3 = some r) : CtZ l yX0_isBit cX0_isBit 8 rmX0_isBit_s3 [.ref (xa 0), .int (nI j), .int p2, .int p3] D k [oX xa ra xi, (xa 3, .inl (k 6, 4, .inr (.inr (.inr (.inr (fun i => some (sa i))))))), (sa j, .inr (2, [.ref qa])), (qa, .inl (k 0, sn, .inr (.inl sg)))] r := by
  refine rd_start (by decide +kernel) (Nat.le_of_ble_eq_true rfl) ?_
  intro p e s m below meth c ls hx hb hr hlk hml hown hts hP hK hl
  have hl : lv_has ls 8 [(0, .ref (xa 0)), (1, .int (nI j)), (2, .int p2), (3, .int p3)] := hl
  have hown : s.vm.findClass RX0 = some m.cls := hown
  unfold fX0_isBit_s3 at hf
  refine lv_aload_n hx hb dX0_isBit_0 rfl (lv_at hl 0 rfl) ?_
  refine va_get (D := D) (cl := vwCl) (ci := 0) (v := .ref (xa 3)) (C := RX0) (T := TX0) (N := 15) hx hb hts in_X0 hown hK.1 hP 0 rfl rfl 12 (by decide) (hts _ q203) (fun _ h9 => h9) rfl dX0_isBit_1 ?_
  refine lv_iload_n hx hb dX0_isBit_4 rfl (lv_at hl 1 rfl) ?_
  refine x_aald hx hb hK hP 1 6 (j := j) (n := 4) rfl hj (by decide) rfl rfl rfl dX0_isBit_5 ?_
  refine va_getN (D := D) (cl := vwCl) (ci := 2) (v := .ref qa) (C := RX2) (T := TX2) (N := 1) hx hb hts in_X2 hown hK.1 hP 2 rfl rfl 0 (by decide) (hK.nw 8 rfl) (fun _ h9 => h9) rfl dX0_isBit_6 ?_
  refine lv_astore (lv' := [(4, .ref qa), (0, .ref (xa 0)), (1, .int (nI j)), (2, .int p2), (3, .int p3)]) hx hb dX0_isBit_9 hl (by decide) rfl (fun ls hl => ?_)
  refine lv_iload_n hx hb dX0_isBit_11 rfl (lv_at hl 4 rfl) ?_
  refine lv_iload_n hx hb dX0_isBit_12 rfl (lv_at hl 3 rfl) ?_
  obtain ⟨v1, ev1, hf⟩ := ob hf
  refine rd_callS (As := [.int p2]) (rest := [.int p3]) ⟨hx, hb, hml, hown, hts⟩ (mX0_bitsOf l D k   p2 _ ev1) (va_cwS 1 hts (lw_S q899 q900 q90 q901) rfl rfl rfl hdX0_bitsOf ⟨Nat.le_of_ble_eq_true rfl, Nat.le_of_ble_eq_true rfl⟩) hK rfl hl.1 rfl (Nat.le_of_ble_eq_true rfl) dX0_isBit_13 ⟨Nat.le_of_ble_eq_true rfl, Nat.le_of_ble_eq_true rfl⟩ ?_
  have c3 := on_z hf
  have hf := oi_f c3 hf
  refine lv_idiv hx hb dX0_isBit_16 c3 ?_
  obtain ⟨y4, ey4, hf⟩ := ob hf
  refine x_asI ey4 ?_
  refine lv_istore (lv' := [(5, .int y4), (4, .ref qa), (0, .ref (xa 0)), (1, .int (nI j)), (2, .int p2), (3, .int p3)]) hx hb dX0_isBit_17 hl (by decide) rfl (fun ls hl => ?_)
  refine lv_iload_n hx hb dX0_isBit_19 rfl (lv_at hl 4 rfl) ?_
  have hB60 : ∀ (s0_60 : Int64), fX0_isBit_s3_B60 j sn sg p2 p3 s0_60 = some r → ∀ ls : Array Slot, lv_has ls 8 [(2, .int p2), (3, .int p3)] → gR p l e rmX0_isBit_s3 s m [.ref (xa 0), .int (nI j), .int p2, .int p3] below meth c (vp_Si (fun x => x = r ∧ zb x)) 60 ls [.long s0_60] := by
    intro s0_60 hf ls hl
    unfold fX0_isBit_s3_B60 at hf
    refine lv_lstore (lv' := [(6, .long s0_60), (2, .int p2), (3, .int p3)]) hx hb dX0_isBit_60 hl (by decide) rfl (fun ls hl => ?_)
    refine lv_lload hx hb dX0_isBit_62 (lv_at hl 0 rfl) ?_
    refine lv_iload_n hx hb dX0_isBit_64 rfl (lv_at hl 2 rfl) ?_
    refine lv_iload_n hx hb dX0_isBit_65 rfl (lv_at hl 1 rfl) ?_
    obtain ⟨v6, ev6, hf⟩ := ob hf
    refine rd_callS (As := [.int p2]) (rest := [.int p3, .long s0_60]) ⟨hx, hb, hml, hown, hts⟩ (mX0_bitsOf l D k   p2 _ ev6) (va_cwS 1 hts (lw_S q899 q900 q90 q901) rfl rfl rfl hdX0_bitsOf ⟨Nat.le_of_ble_eq_true rfl, Nat.le_of_ble_eq_true rfl⟩) hK rfl hl.1 rfl (Nat.le_of_ble_eq_true rfl) dX0_isBit_66 ⟨Nat.le_of_ble_eq_true rfl, Nat.le_of_ble_eq_true rfl⟩ ?_
    have c8 := on_z hf
    have hf := oi_f c8 hf
    refine lv_irem hx hb dX0_isBit_69 c8 ?_
    refine lv_lshr hx hb dX0_isBit_70 rfl ?_
    refine lv_lconst (v := 1) hx hb dX0_isBit_71 (by decide) ?_
    refine lv_land hx hb dX0_isBit_72 ?_
    refine lv_lconst (v := 1) hx hb dX0_isBit_73 (by decide) ?_
    refine W.lcmp hx hb dX0_isBit_74 ?_
    refine lv_if_ne (tgt := 82) hx hb dX0_isBit_75 (by decide) (fun c9 => ?_) (fun c9 => ?_)
    · have hf := oi_f c9 hf
      refine lv_iconst (v := 0) hx hb dX0_isBit_82 (by decide) ?_
      exact rd_zret hx hb hr hlk (Or.inl rfl) (Option.some.inj hf) dX0_isBit_83
    · have hf := oi_t c9 hf
      refine lv_iconst (v := 1) hx hb dX0_isBit_78 (by decide) ?_
      refine lv_goto (tgt := 83) hx hb dX0_isBit_79 (by decide) ?_
      exact rd_zret hx hb hr hlk (Or.inr rfl) (Option.some.inj hf) dX0_isBit_83
  refine lv_if_ne (tgt := 35) hx hb dX0_isBit_20 (by decide) (fun c5 => ?_) (fun c5 => ?_)
  · have hf := oi_f c5 hf
    refine lv_iload_n hx hb dX0_isBit_35 rfl (lv_at hl 4 rfl) ?_
    refine lv_iconst (v := 1) hx hb dX0_isBit_36 (by decide) ?_
    refine lv_icmp_ne (tgt := 52) hx hb dX0_isBit_37 (by decide) (fun c10 => ?_) (fun c10 => ?_)
    · have hf := oi_f c10 hf
      refine lv_aload hx hb dX0_isBit_52 (lv_at hl 1 rfl) ?_
      refine x_castA hx hb hK hown (hts _ q871) hP 3 0 rfl rfl (by decide +kernel) dX0_isBit_54 ?_
      refine lv_iload hx hb dX0_isBit_57 (lv_at hl 0 rfl) ?_
      obtain ⟨v11, ev11, hf⟩ := ob hf
      refine x_lald hx hb hK hP 3 0 ev11 rfl rfl dX0_isBit_59 ?_
      exact hB60 v11 hf ls (lv_sub hl [4, 5] rfl)
    · have hf := oi_t c10 hf
      refine lv_aload hx hb dX0_isBit_40 (lv_at hl 1 rfl) ?_
      cases hf
  · have hf := oi_t c5 hf
    refine lv_aload hx hb dX0_isBit_23 (lv_at hl 1 rfl) ?_
    cases hf

abbrev rmX0_isBit_s3x : Room := { frames := 8, cells := 3, slots := 222, locals := 10248 }
theorem hdX0_isBit_s3x : yX0_isBit.cls ≠ "java/lang/invoke/MethodHandle" ∧ yX0_isBit.cls ≠ "java/lang/invoke/VarHandle" ∧ (parseMethodDescriptor yX0_isBit.desc).map (fun d => d.parameters.length) = some 3 := by decide +kernel
set_option maxHeartbeats 4000000 in
theorem mX0_isBit_s3x (l : Launch) (hst : l.stackTraces = false) (D : va_G) (k : Nat → ClassId) (xa : Nat → Nat) (ra : Nat → Nat → Nat) (sa : Nat → Nat) (qa : Nat) (j : Nat) (sn : Nat) (hj : j < 4) (hsn : sn < 2 ^ 31) (xi : Nat → Int32) (sg : Nat → Int64) (p2 : Int32) (p3 : Int32) (sz : Nat) (E : Nat) (hf : fX0_isBit_s3x j sn sg p2 p3 = some E) : vx_Met l yX0_isBit (ws_ yX0_isBit cX0_isBit 8 (some .boolean)) rmX0_isBit_s3x (wxP D k [oX xa ra xi, (xa 3, .inl (k 6, 4, .inr (.inr (.inr (.inr (fun i => some (sa i))))))), (sa j, .inr (2, [.ref qa])), (qa, .inl (k 0, sn, .inr (.inl sg)))] sz [.ref (xa 0), .int (nI j), .int p2, .int p3]) (va_Qi (fun (_ : Int32) (_ : Unit) => False) (fun _ _ => True) (va_A [oX xa ra xi, (xa 3, .inl (k 6, 4, .inr (.inr (.inr (.inr (fun i => some (sa i))))))), (sa j, .inr (2, [.ref qa])), (qa, .inl (k 0, sn, .inr (.inl sg)))] sz)) (xcE D (exN E) [oX xa ra xi, (xa 3, .inl (k 6, 4, .inr (.inr (.inr (.inr (fun i => some (sa i))))))), (sa j, .inr (2, [.ref qa])), (qa, .inl (k 0, sn, .inr (.inl sg)))] (va_A [oX xa ra xi, (xa 3, .inl (k 6, 4, .inr (.inr (.inr (.inr (fun i => some (sa i))))))), (sa j, .inr (2, [.ref qa])), (qa, .inl (k 0, sn, .inr (.inl sg)))] sz)) 3 222 (va_A [oX xa ra xi, (xa 3, .inl (k 6, 4, .inr (.inr (.inr (.inr (fun i => some (sa i))))))), (sa j, .inr (2, [.ref qa])), (qa, .inl (k 0, sn, .inr (.inl sg)))] sz) := by
  refine wx_startX (Qc := fun A => (va_Qi (fun (_ : Int32) (_ : Unit) => False) (fun _ _ => True) A)) (XC := fun A => xcE D (exN E) [oX xa ra xi, (xa 3, .inl (k 6, 4, .inr (.inr (.inr (.inr (fun i => some (sa i))))))), (sa j, .inr (2, [.ref qa])), (qa, .inl (k 0, sn, .inr (.inl sg)))] A) (by decide +kernel) (Nat.le_of_ble_eq_true rfl) ?_
  intro p e s m below meth c ls A hA hx hb hr hlk hml hown hts hP hK hD hZ hex hl
  have hl : lv_has ls 8 [(0, .ref (xa 0)), (1, .int (nI j)), (2, .int p2), (3, .int p3)] := hl
  have hown : s.vm.findClass RX0 = some m.cls := hown
  have hS : va_S A s.heap s.heap [] := va_S.rf
  suffices hw : ∀ (H : Heap) (locs : List Loc), va_P D vwCl [oX xa ra xi, (xa 3, .inl (k 6, 4, .inr (.inr (.inr (.inr (fun i => some (sa i))))))), (sa j, .inr (2, [.ref qa])), (qa, .inl (k 0, sn, .inr (.inl sg)))] H → va_S A s.heap H locs → gX p l e rmX0_isBit_s3x s m [.ref (xa 0), .int (nI j), .int p2, .int p3] below meth c (va_Qi (fun (_ : Int32) (_ : Unit) => False) (fun _ _ => True) A) (xcE D (exN E) [oX xa ra xi, (xa 3, .inl (k 6, 4, .inr (.inr (.inr (.inr (fun i => some (sa i))))))), (sa j, .inr (2, [.ref qa])), (qa, .inl (k 0, sn, .inr (.inl sg)))] A) A 3 222 H locs 0 ls [] from hw s.heap [] hP hS
  clear hP hS
  intro H locs hP hS
  unfold fX0_isBit_s3x at hf
  refine lv_aload_n hx hb dX0_isBit_0 rfl (lv_at hl 0 rfl) ?_
  refine va_get (D := D) (cl := vwCl) (ci := 0) (v := .ref (xa 3)) (C := RX0) (T := TX0) (N := 15) hx hb hts in_X0 hown hK.1 hP 0 rfl rfl 12 (by decide) (hts _ q203) (fun _ h9 => h9) rfl dX0_isBit_1 ?_
  refine lv_iload_n hx hb dX0_isBit_4 rfl (lv_at hl 1 rfl) ?_
  refine x_aald hx hb hK hP 1 6 (j := j) (n := 4) rfl hj (by decide) rfl rfl rfl dX0_isBit_5 ?_
  refine va_getN (D := D) (cl := vwCl) (ci := 2) (v := .ref qa) (C := RX2) (T := TX2) (N := 1) hx hb hts in_X2 hown hK.1 hP 2 rfl rfl 0 (by decide) (hK.nw 8 rfl) (fun _ h9 => h9) rfl dX0_isBit_6 ?_
  refine lv_astore (lv' := [(4, .ref qa), (0, .ref (xa 0)), (1, .int (nI j)), (2, .int p2), (3, .int p3)]) hx hb dX0_isBit_9 hl (by decide) rfl (fun ls hl => ?_)
  refine lv_iload_n hx hb dX0_isBit_11 rfl (lv_at hl 4 rfl) ?_
  refine lv_iload_n hx hb dX0_isBit_12 rfl (lv_at hl 3 rfl) ?_
  obtain ⟨v1, ev1, hf⟩ := ob hf
  refine rd_callS (As := [.int p2]) (rest := [.int p3]) ⟨hx, hb, hml, hown, hts⟩ (mX0_bitsOf l D k   p2 _ ev1) (va_cwS 1 hts (lw_S q899 q900 q90 q901) rfl rfl rfl hdX0_bitsOf ⟨Nat.le_of_ble_eq_true rfl, Nat.le_of_ble_eq_true rfl⟩) hK rfl hl.1 rfl (Nat.le_of_ble_eq_true rfl) dX0_isBit_13 ⟨Nat.le_of_ble_eq_true rfl, Nat.le_of_ble_eq_true rfl⟩ ?_
  have c3 := on_z hf
  have hf := oi_f c3 hf
  refine lv_idiv hx hb dX0_isBit_16 c3 ?_
  obtain ⟨y4, ey4, hf⟩ := ob hf
  refine x_asI ey4 ?_
  refine lv_istore (lv' := [(5, .int y4), (4, .ref qa), (0, .ref (xa 0)), (1, .int (nI j)), (2, .int p2), (3, .int p3)]) hx hb dX0_isBit_17 hl (by decide) rfl (fun ls hl => ?_)
  refine lv_iload_n hx hb dX0_isBit_19 rfl (lv_at hl 4 rfl) ?_
  have hB60 : ∀ (s0_60 : Int64), ∀ (H : Heap) (locs : List Loc), va_P D vwCl [oX xa ra xi, (xa 3, .inl (k 6, 4, .inr (.inr (.inr (.inr (fun i => some (sa i))))))), (sa j, .inr (2, [.ref qa])), (qa, .inl (k 0, sn, .inr (.inl sg)))] H → va_D A [oX xa ra xi, (xa 3, .inl (k 6, 4, .inr (.inr (.inr (.inr (fun i => some (sa i))))))), (sa j, .inr (2, [.ref qa])), (qa, .inl (k 0, sn, .inr (.inl sg)))] → va_S A s.heap H locs → fX0_isBit_s3x_B60 j sn sg p2 p3 s0_60 = some E → ∀ ls : Array Slot, lv_has ls 8 [(2, .int p2), (3, .int p3)] → gX p l e rmX0_isBit_s3x s m [.ref (xa 0), .int (nI j), .int p2, .int p3] below meth c (va_Qi (fun (_ : Int32) (_ : Unit) => False) (fun _ _ => True) A) (xcE D (exN E) [oX xa ra xi, (xa 3, .inl (k 6, 4, .inr (.inr (.inr (.inr (fun i => some (sa i))))))), (sa j, .inr (2, [.ref qa])), (qa, .inl (k 0, sn, .inr (.inl sg)))] A) A 3 222 H locs 60 ls [.long s0_60] := by
    intro s0_60 H locs hP hD hS hf ls hl
    unfold fX0_isBit_s3x_B60 at hf
    refine lv_lstore (lv' := [(6, .long s0_60), (2, .int p2), (3, .int p3)]) hx hb dX0_isBit_60 hl (by decide) rfl (fun ls hl => ?_)
    refine lv_lload hx hb dX0_isBit_62 (lv_at hl 0 rfl) ?_
    refine lv_iload_n hx hb dX0_isBit_64 rfl (lv_at hl 2 rfl) ?_
    refine lv_iload_n hx hb dX0_isBit_65 rfl (lv_at hl 1 rfl) ?_
    obtain ⟨v6, ev6, hf⟩ := ob hf
    refine rd_callS (As := [.int p2]) (rest := [.int p3, .long s0_60]) ⟨hx, hb, hml, hown, hts⟩ (mX0_bitsOf l D k   p2 _ ev6) (va_cwS 1 hts (lw_S q899 q900 q90 q901) rfl rfl rfl hdX0_bitsOf ⟨Nat.le_of_ble_eq_true rfl, Nat.le_of_ble_eq_true rfl⟩) hK rfl hl.1 rfl (Nat.le_of_ble_eq_true rfl) dX0_isBit_66 ⟨Nat.le_of_ble_eq_true rfl, Nat.le_of_ble_eq_true rfl⟩ ?_
    have c8 := on_z hf
    have hf := oi_f c8 hf
    refine lv_irem hx hb dX0_isBit_69 c8 ?_
    refine lv_lshr hx hb dX0_isBit_70 rfl ?_
    refine lv_lconst (v := 1) hx hb dX0_isBit_71 (by decide) ?_
    refine lv_land hx hb dX0_isBit_72 ?_
    refine lv_lconst (v := 1) hx hb dX0_isBit_73 (by decide) ?_
    refine W.lcmp hx hb dX0_isBit_74 ?_
    refine lv_if_ne (tgt := 82) hx hb dX0_isBit_75 (by decide) (fun c9 => ?_) (fun c9 => ?_)
    · have hf := oi_f c9 hf
      refine lv_iconst (v := 0) hx hb dX0_isBit_82 (by decide) ?_
      cases hf
    · have hf := oi_t c9 hf
      refine lv_iconst (v := 1) hx hb dX0_isBit_78 (by decide) ?_
      refine lv_goto (tgt := 83) hx hb dX0_isBit_79 (by decide) ?_
      cases hf
  refine lv_if_ne (tgt := 35) hx hb dX0_isBit_20 (by decide) (fun c5 => ?_) (fun c5 => ?_)
  · have hf := oi_f c5 hf
    refine lv_iload_n hx hb dX0_isBit_35 rfl (lv_at hl 4 rfl) ?_
    refine lv_iconst (v := 1) hx hb dX0_isBit_36 (by decide) ?_
    refine lv_icmp_ne (tgt := 52) hx hb dX0_isBit_37 (by decide) (fun c10 => ?_) (fun c10 => ?_)
    · have hf := oi_f c10 hf
      refine lv_aload hx hb dX0_isBit_52 (lv_at hl 1 rfl) ?_
      refine x_castA hx hb hK hown (hts _ q871) hP 3 0 rfl rfl (by decide +kernel) dX0_isBit_54 ?_
      refine lv_iload hx hb dX0_isBit_57 (lv_at hl 0 rfl) ?_
      by_cases c11 : y4 < 0 ∨ sn ≤ (y4).toNatClampNeg
      · have hf := oi_t c11 hf
        refine vx_laldZ hx hb hK.1 hP 3 0 rfl rfl (fun z => z c11) dX0_isBit_59 (fun tx htx => ?_)
        refine x_noteA htx hsn hx hst hts hK hP hZ hS (hl.1.trans hml.symm) (Nat.le_of_ble_eq_true rfl) (Nat.le_of_ble_eq_true rfl) (Nat.le_of_ble_eq_true rfl) (Nat.le_of_ble_eq_true rfl) hlk (fun H q9 ce hP hS hc9 hv9 hcl9 => ?_)
        cases hf
        exact wx_out hex hlk hc9 hv9 hcl9 hP hS (Nat.le_of_ble_eq_true rfl) (Nat.le_of_ble_eq_true rfl)
      have hf := oi_f c11 hf
      obtain ⟨v12, ev12, hf⟩ := ob hf
      refine x_lald hx hb hK hP 3 0 ev12 rfl rfl dX0_isBit_59 ?_
      exact hB60 v12 H locs hP hD hS hf ls (lv_sub hl [4, 5] rfl)
    · have hf := oi_t c10 hf
      refine lv_aload hx hb dX0_isBit_40 (lv_at hl 1 rfl) ?_
      refine x_castX (na := "[J") hx hb hK hown (hts _ q870) hP 3 0 1 rfl rfl rfl (by decide +kernel) (by decide +kernel) (by decide +kernel) (by decide +kernel) (hK.nc 5 rfl) cce_JI dX0_isBit_42 (fun tx htx => ?_)
      refine x_noteC htx hx hst hts hK hP hZ hS (hl.1.trans hml.symm) (Nat.le_of_ble_eq_true rfl) (Nat.le_of_ble_eq_true rfl) (Nat.le_of_ble_eq_true rfl) (Nat.le_of_ble_eq_true rfl) hlk (fun H q9 ce hP hS hc9 hv9 hcl9 => ?_)
      cases hf
      exact wx_out hex hlk hc9 hv9 hcl9 hP hS (Nat.le_of_ble_eq_true rfl) (Nat.le_of_ble_eq_true rfl)
  · have hf := oi_t c5 hf
    refine lv_aload hx hb dX0_isBit_23 (lv_at hl 1 rfl) ?_
    refine x_castX (na := "[J") hx hb hK hown (hts _ q869) hP 3 0 3 rfl rfl rfl (by decide +kernel) (by decide +kernel) (by decide +kernel) (by decide +kernel) (hK.nc 4 rfl) cce_JB dX0_isBit_25 (fun tx htx => ?_)
    refine x_noteC htx hx hst hts hK hP hZ hS (hl.1.trans hml.symm) (Nat.le_of_ble_eq_true rfl) (Nat.le_of_ble_eq_true rfl) (Nat.le_of_ble_eq_true rfl) (Nat.le_of_ble_eq_true rfl) hlk (fun H q9 ce hP hS hc9 hv9 hcl9 => ?_)
    cases hf
    exact wx_out hex hlk hc9 hv9 hcl9 hP hS (Nat.le_of_ble_eq_true rfl) (Nat.le_of_ble_eq_true rfl)

abbrev rmX0_bitBecomes_s3 : Room := { frames := 2, cells := 0, slots := 0, locals := 51 }
theorem hdX0_bitBecomes_s3 : yX0_bitBecomes.cls ≠ "java/lang/invoke/MethodHandle" ∧ yX0_bitBecomes.cls ≠ "java/lang/invoke/VarHandle" ∧ (parseMethodDescriptor yX0_bitBecomes.desc).map (fun d => d.parameters.length) = some 4 := by decide +kernel
abbrev qcX0_bitBecomes_s3 (D : va_G) (k : Nat → ClassId) (xa : Nat → Nat) (ra : Nat → Nat → Nat) (sa : Nat → Nat) (qa : Nat) (j : Nat) (sn : Nat) (xi : Nat → Int32) (sg : Nat → Int64) (A : Nat → Prop) : Array Value → State → Outcome → State → Prop := va_Qv (fun (_ : Unit) => True) (fun _ t => va_P D vwCl [oX xa ra xi, (xa 3, .inl (k 6, 4, .inr (.inr (.inr (.inr (fun i => some (sa i))))))), (sa j, .inr (2, [.ref qa])), (qa, .inl (k 0, sn, .inr (.inl sg)))] t.heap) A
set_option maxHeartbeats 4000000 in
theorem mX0_bitBecomes_s3 (l : Launch) (D : va_G) (k : Nat → ClassId) (xa : Nat → Nat) (ra : Nat → Nat → Nat) (sa : Nat → Nat) (qa : Nat) (j : Nat) (sn : Nat) (hj : j < 4) (hsn : sn < 2 ^ 31) (xi : Nat → Int32) (sg : Nat → Int64) (p2 : Int32) (p3 : Int32) (p4 : Int32) (sz : Nat) (sg_o : Nat → Int64) (hf : fX0_bitBecomes_s3 j sn sg p2 p3 p4 = some sg_o) : Met l yX0_bitBecomes (ws_ yX0_bitBecomes cX0_bitBecomes 11 none) rmX0_bitBecomes_s3 (wrP D k [oX xa ra xi, (xa 3, .inl (k 6, 4, .inr (.inr (.inr (.inr (fun i => some (sa i))))))), (sa j, .inr (2, [.ref qa])), (qa, .inl (k 0, sn, .inr (.inl sg)))] sz [.ref (xa 0), .int (nI j), .int p2, .int p3, .int p4]) (qcX0_bitBecomes_s3 D k xa ra sa qa j sn xi sg_o (va_A [oX xa ra xi, (xa 3, .inl (k 6, 4, .inr (.inr (.inr (.inr (fun i => some (sa i))))))), (sa j, .inr (2, [.ref qa])), (qa, .inl (k 0, sn, .inr (.inl sg)))] sz)) 0 0 (va_A [oX xa ra xi, (xa 3, .inl (k 6, 4, .inr (.inr (.inr (.inr (fun i => some (sa i))))))), (sa j, .inr (2, [.ref qa])), (qa, .inl (k 0, sn, .inr (.inl sg)))] sz) := by
  refine wr_start (Qc := fun A => qcX0_bitBecomes_s3 D k xa ra sa qa j sn xi sg_o A) (by decide +kernel) (Nat.le_of_ble_eq_true rfl) ?_
  intro p e s m below meth c ls A hA hx hb hr hlk hml hown hts hP hK hD hl
  have hl : lv_has ls 11 [(0, .ref (xa 0)), (1, .int (nI j)), (2, .int p2), (3, .int p3), (4, .int p4)] := hl
  have hown : s.vm.findClass RX0 = some m.cls := hown
  have hS : va_S A s.heap s.heap [] := va_S.rf
  suffices hw : ∀ (H : Heap) (locs : List Loc), va_P D vwCl [oX xa ra xi, (xa 3, .inl (k 6, 4, .inr (.inr (.inr (.inr (fun i => some (sa i))))))), (sa j, .inr (2, [.ref qa])), (qa, .inl (k 0, sn, .inr (.inl sg)))] H → va_S A s.heap H locs → gW p l e rmX0_bitBecomes_s3 s m [.ref (xa 0), .int (nI j), .int p2, .int p3, .int p4] below meth c (qcX0_bitBecomes_s3 D k xa ra sa qa j sn xi sg_o A) A 0 0 H locs 0 ls [] from hw s.heap [] hP hS
  clear hP hS
  intro H locs hP hS
  unfold fX0_bitBecomes_s3 at hf
  refine lv_aload_n hx hb dX0_bitBecomes_0 rfl (lv_at hl 0 rfl) ?_
  refine va_get (D := D) (cl := vwCl) (ci := 0) (v := .ref (xa 3)) (C := RX0) (T := TX0) (N := 15) hx hb hts in_X0 hown hK.1 hP 0 rfl rfl 12 (by decide) (hts _ q203) (fun _ h9 => h9) rfl dX0_bitBecomes_1 ?_
  refine lv_iload_n hx hb dX0_bitBecomes_4 rfl (lv_at hl 1 rfl) ?_
  refine x_aald hx hb hK hP 1 6 (j := j) (n := 4) rfl hj (by decide) rfl rfl rfl dX0_bitBecomes_5 ?_
  refine va_getN (D := D) (cl := vwCl) (ci := 2) (v := .ref qa) (C := RX2) (T := TX2) (N := 1) hx hb hts in_X2 hown hK.1 hP 2 rfl rfl 0 (by decide) (hK.nw 8 rfl) (fun _ h9 => h9) rfl dX0_bitBecomes_6 ?_
  refine lv_astore (lv' := [(5, .ref qa), (0, .ref (xa 0)), (1, .int (nI j)), (2, .int p2), (3, .int p3), (4, .int p4)]) hx hb dX0_bitBecomes_9 hl (by decide) rfl (fun ls hl => ?_)
  refine lv_iload_n hx hb dX0_bitBecomes_11 rfl (lv_at hl 4 rfl) ?_
  refine lv_iload_n hx hb dX0_bitBecomes_12 rfl (lv_at hl 3 rfl) ?_
  obtain ⟨v1, ev1, hf⟩ := ob hf
  refine rd_callS (As := [.int p2]) (rest := [.int p3]) ⟨hx, hb, hml, hown, hts⟩ (mX0_bitsOf l D k   p2 _ ev1) (va_cwS 1 hts (lw_S q899 q900 q90 q901) rfl rfl rfl hdX0_bitsOf ⟨Nat.le_of_ble_eq_true rfl, Nat.le_of_ble_eq_true rfl⟩) hK rfl hl.1 rfl (Nat.le_of_ble_eq_true rfl) dX0_bitBecomes_13 ⟨Nat.le_of_ble_eq_true rfl, Nat.le_of_ble_eq_true rfl⟩ ?_
  have c3 := on_z hf
  have hf := oi_f c3 hf
  refine lv_idiv hx hb dX0_bitBecomes_16 c3 ?_
  obtain ⟨y4, ey4, hf⟩ := ob hf
  refine x_asI ey4 ?_
  refine lv_istore (lv' := [(6, .int y4), (5, .ref qa), (0, .ref (xa 0)), (1, .int (nI j)), (2, .int p2), (3, .int p3), (4, .int p4)]) hx hb dX0_bitBecomes_17 hl (by decide) rfl (fun ls hl => ?_)
  refine lv_iload_n hx hb dX0_bitBecomes_19 rfl (lv_at hl 4 rfl) ?_
  have hB60 : ∀ (sg_60 : Nat → Int64) (x6_60 : Int32) (s0_60 : Int64), ∀ (H : Heap) (locs : List Loc), va_P D vwCl [oX xa ra xi, (xa 3, .inl (k 6, 4, .inr (.inr (.inr (.inr (fun i => some (sa i))))))), (sa j, .inr (2, [.ref qa])), (qa, .inl (k 0, sn, .inr (.inl sg_60)))] H → va_D A [oX xa ra xi, (xa 3, .inl (k 6, 4, .inr (.inr (.inr (.inr (fun i => some (sa i))))))), (sa j, .inr (2, [.ref qa])), (qa, .inl (k 0, sn, .inr (.inl sg_60)))] → va_S A s.heap H locs → fX0_bitBecomes_s3_B60 j sn p2 p3 p4 sg_60 x6_60 s0_60 = some sg_o → ∀ ls : Array Slot, lv_has ls 11 [(0, .ref (xa 0)), (1, .int (nI j)), (2, .int p2), (3, .int p3), (4, .int p4), (6, .int x6_60)] → gW p l e rmX0_bitBecomes_s3 s m [.ref (xa 0), .int (nI j), .int p2, .int p3, .int p4] below meth c (qcX0_bitBecomes_s3 D k xa ra sa qa j sn xi sg_o A) A 0 0 H locs 60 ls [.long s0_60] := by
    intro sg_60 x6_60 s0_60 H locs hP hD hS hf ls hl
    unfold fX0_bitBecomes_s3_B60 at hf
    refine lv_lstore (lv' := [(7, .long s0_60), (0, .ref (xa 0)), (1, .int (nI j)), (2, .int p2), (3, .int p3), (4, .int p4), (6, .int x6_60)]) hx hb dX0_bitBecomes_60 hl (by decide) rfl (fun ls hl => ?_)
    refine lv_lconst (v := 1) hx hb dX0_bitBecomes_62 (by decide) ?_
    refine lv_iload_n hx hb dX0_bitBecomes_63 rfl (lv_at hl 4 rfl) ?_
    refine lv_iload_n hx hb dX0_bitBecomes_64 rfl (lv_at hl 3 rfl) ?_
    obtain ⟨v6, ev6, hf⟩ := ob hf
    refine rd_callS (As := [.int p2]) (rest := [.int p3, .long (1 : Int64)]) ⟨hx, hb, hml, hown, hts⟩ (mX0_bitsOf l D k   p2 _ ev6) (va_cwS 1 hts (lw_S q899 q900 q90 q901) rfl rfl rfl hdX0_bitsOf ⟨Nat.le_of_ble_eq_true rfl, Nat.le_of_ble_eq_true rfl⟩) hK rfl hl.1 rfl (Nat.le_of_ble_eq_true rfl) dX0_bitBecomes_65 ⟨Nat.le_of_ble_eq_true rfl, Nat.le_of_ble_eq_true rfl⟩ ?_
    have c8 := on_z hf
    have hf := oi_f c8 hf
    refine lv_irem hx hb dX0_bitBecomes_68 c8 ?_
    refine lv_lshl hx hb dX0_bitBecomes_69 rfl ?_
    obtain ⟨y9, ey9, hf⟩ := ob hf
    refine x_asL ey9 ?_
    refine lv_lstore (lv' := [(9, .long y9), (7, .long s0_60), (0, .ref (xa 0)), (1, .int (nI j)), (2, .int p2), (3, .int p3), (4, .int p4), (6, .int x6_60)]) hx hb dX0_bitBecomes_70 hl (by decide) rfl (fun ls hl => ?_)
    refine lv_aload_n hx hb dX0_bitBecomes_72 rfl (lv_at hl 2 rfl) ?_
    refine lv_iload_n hx hb dX0_bitBecomes_73 rfl (lv_at hl 3 rfl) ?_
    refine lv_iload hx hb dX0_bitBecomes_74 (lv_at hl 7 rfl) ?_
    refine lv_iload hx hb dX0_bitBecomes_76 (lv_at hl 6 rfl) ?_
    have hB98 : ∀ (sg_98 : Nat → Int64) (s0_98 : Int64) (s1_98 : Int32), ∀ (H : Heap) (locs : List Loc), va_P D vwCl [oX xa ra xi, (xa 3, .inl (k 6, 4, .inr (.inr (.inr (.inr (fun i => some (sa i))))))), (sa j, .inr (2, [.ref qa])), (qa, .inl (k 0, sn, .inr (.inl sg_98)))] H → va_D A [oX xa ra xi, (xa 3, .inl (k 6, 4, .inr (.inr (.inr (.inr (fun i => some (sa i))))))), (sa j, .inr (2, [.ref qa])), (qa, .inl (k 0, sn, .inr (.inl sg_98)))] → va_S A s.heap H locs → fX0_bitBecomes_s3_B98 j sn p2 p3 p4 sg_98 s0_98 s1_98 = some sg_o → ∀ ls : Array Slot, lv_has ls 11 [] → gW p l e rmX0_bitBecomes_s3 s m [.ref (xa 0), .int (nI j), .int p2, .int p3, .int p4] below meth c (qcX0_bitBecomes_s3 D k xa ra sa qa j sn xi sg_o A) A 0 0 H locs 98 ls [.long s0_98, .int s1_98, .int (nI j), .ref (xa 0)] := by
      intro sg_98 s0_98 s1_98 H locs hP hD hS hf ls hl
      unfold fX0_bitBecomes_s3_B98 at hf
      obtain ⟨⟨v11, g12⟩, et13, hf⟩ := ob hf
      refine wr_callVW (As := [.int (nI j), .int s1_98, .long s0_98]) (rest := []) ⟨hx, hb, hml, hown, hts⟩ (mX0_lay_s3n l D k xa ra sa qa j sn hj hsn xi sg_98 s1_98 s0_98 _ _ _ et13) (vx_cwVW 3 hts (lw_VW q915 q822 q823 q90 q824) rfl rfl rfl ⟨rfl, hdX0_lay_s3n⟩ ⟨Nat.le_of_ble_eq_true rfl, Nat.le_of_ble_eq_true rfl⟩) hK hP hD hS hA [0, 1, 2, 3] [] [oX xa ra xi, (xa 3, .inl (k 6, 4, .inr (.inr (.inr (.inr (fun i => some (sa i))))))), (sa j, .inr (2, [.ref qa])), (qa, .inl (k 0, sn, .inr (.inl g12)))] rfl rfl fm_n 4 rfl (by decide) (by decide) [(xa 0), (xa 3), (sa j), qa] rfl rfl 0 0 rfl rfl rfl hl.1 rfl (Nat.le_of_ble_eq_true rfl) dX0_bitBecomes_98 ⟨Nat.le_of_ble_eq_true rfl, Nat.le_of_ble_eq_true rfl⟩ (fun H locs hP hD hS => ?_)
      refine lv_pop hx hb dX0_bitBecomes_101 rfl ?_
      have he1 := Option.some.inj hf
      rw [he1] at hP
      exact wr_vret hx hb hr hlk hP hS dX0_bitBecomes_102
    refine lv_if_eq (tgt := 89) hx hb dX0_bitBecomes_78 (by decide) (fun c10 => ?_) (fun c10 => ?_)
    · have hf := oi_t c10 hf
      refine lv_lload hx hb dX0_bitBecomes_89 (lv_at hl 1 rfl) ?_
      refine lv_lload hx hb dX0_bitBecomes_91 (lv_at hl 0 rfl) ?_
      refine lv_ldc2 hx hb hown (hts _ q914) dX0_bitBecomes_93 ?_
      refine lv_lxor hx hb dX0_bitBecomes_96 ?_
      refine lv_land hx hb dX0_bitBecomes_97 ?_
      exact hB98 sg_60 (s0_60 &&& (y9 ^^^ (-1 : Int64))) x6_60 H locs hP hD hS hf ls (lv_sub hl [] rfl)
    · have hf := oi_f c10 hf
      refine lv_lload hx hb dX0_bitBecomes_81 (lv_at hl 1 rfl) ?_
      refine lv_lload hx hb dX0_bitBecomes_83 (lv_at hl 0 rfl) ?_
      refine lv_lor hx hb dX0_bitBecomes_85 ?_
      refine lv_goto (tgt := 98) hx hb dX0_bitBecomes_86 (by decide) ?_
      exact hB98 sg_60 (s0_60 ||| y9) x6_60 H locs hP hD hS hf ls (lv_sub hl [] rfl)
  refine lv_if_ne (tgt := 35) hx hb dX0_bitBecomes_20 (by decide) (fun c5 => ?_) (fun c5 => ?_)
  · have hf := oi_f c5 hf
    refine lv_iload_n hx hb dX0_bitBecomes_35 rfl (lv_at hl 4 rfl) ?_
    refine lv_iconst (v := 1) hx hb dX0_bitBecomes_36 (by decide) ?_
    refine lv_icmp_ne (tgt := 52) hx hb dX0_bitBecomes_37 (by decide) (fun c14 => ?_) (fun c14 => ?_)
    · have hf := oi_f c14 hf
      refine lv_aload hx hb dX0_bitBecomes_52 (lv_at hl 1 rfl) ?_
      refine x_castA hx hb hK hown (hts _ q871) hP 3 0 rfl rfl (by decide +kernel) dX0_bitBecomes_54 ?_
      refine lv_iload hx hb dX0_bitBecomes_57 (lv_at hl 0 rfl) ?_
      obtain ⟨v15, ev15, hf⟩ := ob hf
      refine x_lald hx hb hK hP 3 0 ev15 rfl rfl dX0_bitBecomes_59 ?_
      exact hB60 sg y4 v15 H locs hP hD hS hf ls (lv_sub hl [2, 3, 4, 5, 6, 0] rfl)
    · have hf := oi_t c14 hf
      refine lv_aload hx hb dX0_bitBecomes_40 (lv_at hl 1 rfl) ?_
      cases hf
  · have hf := oi_t c5 hf
    refine lv_aload hx hb dX0_bitBecomes_23 (lv_at hl 1 rfl) ?_
    cases hf

abbrev rmX0_bitBecomes_s3x : Room := { frames := 8, cells := 3, slots := 222, locals := 10248 }
theorem hdX0_bitBecomes_s3x : yX0_bitBecomes.cls ≠ "java/lang/invoke/MethodHandle" ∧ yX0_bitBecomes.cls ≠ "java/lang/invoke/VarHandle" ∧ (parseMethodDescriptor yX0_bitBecomes.desc).map (fun d => d.parameters.length) = some 4 := by decide +kernel
set_option maxHeartbeats 4000000 in
theorem mX0_bitBecomes_s3x (l : Launch) (hst : l.stackTraces = false) (D : va_G) (k : Nat → ClassId) (xa : Nat → Nat) (ra : Nat → Nat → Nat) (sa : Nat → Nat) (qa : Nat) (j : Nat) (sn : Nat) (hj : j < 4) (hsn : sn < 2 ^ 31) (xi : Nat → Int32) (sg : Nat → Int64) (p2 : Int32) (p3 : Int32) (p4 : Int32) (sz : Nat) (E : Nat) (hf : fX0_bitBecomes_s3x j sn sg p2 p3 p4 = some E) : vx_Met l yX0_bitBecomes (ws_ yX0_bitBecomes cX0_bitBecomes 11 none) rmX0_bitBecomes_s3x (wxP D k [oX xa ra xi, (xa 3, .inl (k 6, 4, .inr (.inr (.inr (.inr (fun i => some (sa i))))))), (sa j, .inr (2, [.ref qa])), (qa, .inl (k 0, sn, .inr (.inl sg)))] sz [.ref (xa 0), .int (nI j), .int p2, .int p3, .int p4]) (va_Qv (fun (_ : Unit) => False) (fun _ _ => True) (va_A [oX xa ra xi, (xa 3, .inl (k 6, 4, .inr (.inr (.inr (.inr (fun i => some (sa i))))))), (sa j, .inr (2, [.ref qa])), (qa, .inl (k 0, sn, .inr (.inl sg)))] sz)) (xcE D (exN E) [oX xa ra xi, (xa 3, .inl (k 6, 4, .inr (.inr (.inr (.inr (fun i => some (sa i))))))), (sa j, .inr (2, [.ref qa])), (qa, .inl (k 0, sn, .inr (.inl sg)))] (va_A [oX xa ra xi, (xa 3, .inl (k 6, 4, .inr (.inr (.inr (.inr (fun i => some (sa i))))))), (sa j, .inr (2, [.ref qa])), (qa, .inl (k 0, sn, .inr (.inl sg)))] sz)) 3 222 (va_A [oX xa ra xi, (xa 3, .inl (k 6, 4, .inr (.inr (.inr (.inr (fun i => some (sa i))))))), (sa j, .inr (2, [.ref qa])), (qa, .inl (k 0, sn, .inr (.inl sg)))] sz) := by
  refine wx_startX (Qc := fun A => (va_Qv (fun (_ : Unit) => False) (fun _ _ => True) A)) (XC := fun A => xcE D (exN E) [oX xa ra xi, (xa 3, .inl (k 6, 4, .inr (.inr (.inr (.inr (fun i => some (sa i))))))), (sa j, .inr (2, [.ref qa])), (qa, .inl (k 0, sn, .inr (.inl sg)))] A) (by decide +kernel) (Nat.le_of_ble_eq_true rfl) ?_
  intro p e s m below meth c ls A hA hx hb hr hlk hml hown hts hP hK hD hZ hex hl
  have hl : lv_has ls 11 [(0, .ref (xa 0)), (1, .int (nI j)), (2, .int p2), (3, .int p3), (4, .int p4)] := hl
  have hown : s.vm.findClass RX0 = some m.cls := hown
  have hS : va_S A s.heap s.heap [] := va_S.rf
  suffices hw : ∀ (H : Heap) (locs : List Loc), va_P D vwCl [oX xa ra xi, (xa 3, .inl (k 6, 4, .inr (.inr (.inr (.inr (fun i => some (sa i))))))), (sa j, .inr (2, [.ref qa])), (qa, .inl (k 0, sn, .inr (.inl sg)))] H → va_S A s.heap H locs → gX p l e rmX0_bitBecomes_s3x s m [.ref (xa 0), .int (nI j), .int p2, .int p3, .int p4] below meth c (va_Qv (fun (_ : Unit) => False) (fun _ _ => True) A) (xcE D (exN E) [oX xa ra xi, (xa 3, .inl (k 6, 4, .inr (.inr (.inr (.inr (fun i => some (sa i))))))), (sa j, .inr (2, [.ref qa])), (qa, .inl (k 0, sn, .inr (.inl sg)))] A) A 3 222 H locs 0 ls [] from hw s.heap [] hP hS
  clear hP hS
  intro H locs hP hS
  unfold fX0_bitBecomes_s3x at hf
  refine lv_aload_n hx hb dX0_bitBecomes_0 rfl (lv_at hl 0 rfl) ?_
  refine va_get (D := D) (cl := vwCl) (ci := 0) (v := .ref (xa 3)) (C := RX0) (T := TX0) (N := 15) hx hb hts in_X0 hown hK.1 hP 0 rfl rfl 12 (by decide) (hts _ q203) (fun _ h9 => h9) rfl dX0_bitBecomes_1 ?_
  refine lv_iload_n hx hb dX0_bitBecomes_4 rfl (lv_at hl 1 rfl) ?_
  refine x_aald hx hb hK hP 1 6 (j := j) (n := 4) rfl hj (by decide) rfl rfl rfl dX0_bitBecomes_5 ?_
  refine va_getN (D := D) (cl := vwCl) (ci := 2) (v := .ref qa) (C := RX2) (T := TX2) (N := 1) hx hb hts in_X2 hown hK.1 hP 2 rfl rfl 0 (by decide) (hK.nw 8 rfl) (fun _ h9 => h9) rfl dX0_bitBecomes_6 ?_
  refine lv_astore (lv' := [(5, .ref qa), (0, .ref (xa 0)), (1, .int (nI j)), (2, .int p2), (3, .int p3), (4, .int p4)]) hx hb dX0_bitBecomes_9 hl (by decide) rfl (fun ls hl => ?_)
  refine lv_iload_n hx hb dX0_bitBecomes_11 rfl (lv_at hl 4 rfl) ?_
  refine lv_iload_n hx hb dX0_bitBecomes_12 rfl (lv_at hl 3 rfl) ?_
  obtain ⟨v1, ev1, hf⟩ := ob hf
  refine rd_callS (As := [.int p2]) (rest := [.int p3]) ⟨hx, hb, hml, hown, hts⟩ (mX0_bitsOf l D k   p2 _ ev1) (va_cwS 1 hts (lw_S q899 q900 q90 q901) rfl rfl rfl hdX0_bitsOf ⟨Nat.le_of_ble_eq_true rfl, Nat.le_of_ble_eq_true rfl⟩) hK rfl hl.1 rfl (Nat.le_of_ble_eq_true rfl) dX0_bitBecomes_13 ⟨Nat.le_of_ble_eq_true rfl, Nat.le_of_ble_eq_true rfl⟩ ?_
  have c3 := on_z hf
  have hf := oi_f c3 hf
  refine lv_idiv hx hb dX0_bitBecomes_16 c3 ?_
  obtain ⟨y4, ey4, hf⟩ := ob hf
  refine x_asI ey4 ?_
  refine lv_istore (lv' := [(6, .int y4), (5, .ref qa), (0, .ref (xa 0)), (1, .int (nI j)), (2, .int p2), (3, .int p3), (4, .int p4)]) hx hb dX0_bitBecomes_17 hl (by decide) rfl (fun ls hl => ?_)
  refine lv_iload_n hx hb dX0_bitBecomes_19 rfl (lv_at hl 4 rfl) ?_
  have hB60 : ∀ (sg_60 : Nat → Int64) (x6_60 : Int32) (s0_60 : Int64), ∀ (H : Heap) (locs : List Loc), va_P D vwCl [oX xa ra xi, (xa 3, .inl (k 6, 4, .inr (.inr (.inr (.inr (fun i => some (sa i))))))), (sa j, .inr (2, [.ref qa])), (qa, .inl (k 0, sn, .inr (.inl sg_60)))] H → va_D A [oX xa ra xi, (xa 3, .inl (k 6, 4, .inr (.inr (.inr (.inr (fun i => some (sa i))))))), (sa j, .inr (2, [.ref qa])), (qa, .inl (k 0, sn, .inr (.inl sg_60)))] → va_S A s.heap H locs → fX0_bitBecomes_s3x_B60 j sn p2 p3 p4 sg_60 x6_60 s0_60 = some E → ∀ ls : Array Slot, lv_has ls 11 [(0, .ref (xa 0)), (1, .int (nI j)), (2, .int p2), (3, .int p3), (4, .int p4), (6, .int x6_60)] → gX p l e rmX0_bitBecomes_s3x s m [.ref (xa 0), .int (nI j), .int p2, .int p3, .int p4] below meth c (va_Qv (fun (_ : Unit) => False) (fun _ _ => True) A) (xcE D (exN E) [oX xa ra xi, (xa 3, .inl (k 6, 4, .inr (.inr (.inr (.inr (fun i => some (sa i))))))), (sa j, .inr (2, [.ref qa])), (qa, .inl (k 0, sn, .inr (.inl sg)))] A) A 3 222 H locs 60 ls [.long s0_60] := by
    intro sg_60 x6_60 s0_60 H locs hP hD hS hf ls hl
    unfold fX0_bitBecomes_s3x_B60 at hf
    refine lv_lstore (lv' := [(7, .long s0_60), (0, .ref (xa 0)), (1, .int (nI j)), (2, .int p2), (3, .int p3), (4, .int p4), (6, .int x6_60)]) hx hb dX0_bitBecomes_60 hl (by decide) rfl (fun ls hl => ?_)
    refine lv_lconst (v := 1) hx hb dX0_bitBecomes_62 (by decide) ?_
    refine lv_iload_n hx hb dX0_bitBecomes_63 rfl (lv_at hl 4 rfl) ?_
    refine lv_iload_n hx hb dX0_bitBecomes_64 rfl (lv_at hl 3 rfl) ?_
    obtain ⟨v6, ev6, hf⟩ := ob hf
    refine rd_callS (As := [.int p2]) (rest := [.int p3, .long (1 : Int64)]) ⟨hx, hb, hml, hown, hts⟩ (mX0_bitsOf l D k   p2 _ ev6) (va_cwS 1 hts (lw_S q899 q900 q90 q901) rfl rfl rfl hdX0_bitsOf ⟨Nat.le_of_ble_eq_true rfl, Nat.le_of_ble_eq_true rfl⟩) hK rfl hl.1 rfl (Nat.le_of_ble_eq_true rfl) dX0_bitBecomes_65 ⟨Nat.le_of_ble_eq_true rfl, Nat.le_of_ble_eq_true rfl⟩ ?_
    have c8 := on_z hf
    have hf := oi_f c8 hf
    refine lv_irem hx hb dX0_bitBecomes_68 c8 ?_
    refine lv_lshl hx hb dX0_bitBecomes_69 rfl ?_
    obtain ⟨y9, ey9, hf⟩ := ob hf
    refine x_asL ey9 ?_
    refine lv_lstore (lv' := [(9, .long y9), (7, .long s0_60), (0, .ref (xa 0)), (1, .int (nI j)), (2, .int p2), (3, .int p3), (4, .int p4), (6, .int x6_60)]) hx hb dX0_bitBecomes_70 hl (by decide) rfl (fun ls hl => ?_)
    refine lv_aload_n hx hb dX0_bitBecomes_72 rfl (lv_at hl 2 rfl) ?_
    refine lv_iload_n hx hb dX0_bitBecomes_73 rfl (lv_at hl 3 rfl) ?_
    refine lv_iload hx hb dX0_bitBecomes_74 (lv_at hl 7 rfl) ?_
    refine lv_iload hx hb dX0_bitBecomes_76 (lv_at hl 6 rfl) ?_
    have hB98 : ∀ (sg_98 : Nat → Int64) (s0_98 : Int64) (s1_98 : Int32), ∀ (H : Heap) (locs : List Loc), va_P D vwCl [oX xa ra xi, (xa 3, .inl (k 6, 4, .inr (.inr (.inr (.inr (fun i => some (sa i))))))), (sa j, .inr (2, [.ref qa])), (qa, .inl (k 0, sn, .inr (.inl sg_98)))] H → va_D A [oX xa ra xi, (xa 3, .inl (k 6, 4, .inr (.inr (.inr (.inr (fun i => some (sa i))))))), (sa j, .inr (2, [.ref qa])), (qa, .inl (k 0, sn, .inr (.inl sg_98)))] → va_S A s.heap H locs → fX0_bitBecomes_s3x_B98 j sn p2 p3 p4 sg_98 s0_98 s1_98 = some E → ∀ ls : Array Slot, lv_has ls 11 [] → gX p l e rmX0_bitBecomes_s3x s m [.ref (xa 0), .int (nI j), .int p2, .int p3, .int p4] below meth c (va_Qv (fun (_ : Unit) => False) (fun _ _ => True) A) (xcE D (exN E) [oX xa ra xi, (xa 3, .inl (k 6, 4, .inr (.inr (.inr (.inr (fun i => some (sa i))))))), (sa j, .inr (2, [.ref qa])), (qa, .inl (k 0, sn, .inr (.inl sg)))] A) A 3 222 H locs 98 ls [.long s0_98, .int s1_98, .int (nI j), .ref (xa 0)] := by
      intro sg_98 s0_98 s1_98 H locs hP hD hS hf ls hl
      unfold fX0_bitBecomes_s3x_B98 at hf
      obtain ⟨⟨v11, g12⟩, et13, hf⟩ := ob hf
      refine wr_callVW (As := [.int (nI j), .int s1_98, .long s0_98]) (rest := []) ⟨hx, hb, hml, hown, hts⟩ (mX0_lay_s3n l D k xa ra sa qa j sn hj hsn xi sg_98 s1_98 s0_98 _ _ _ et13) (vx_cwVW 3 hts (lw_VW q915 q822 q823 q90 q824) rfl rfl rfl ⟨rfl, hdX0_lay_s3n⟩ ⟨Nat.le_of_ble_eq_true rfl, Nat.le_of_ble_eq_true rfl⟩) hK hP hD hS hA [0, 1, 2, 3] [] [oX xa ra xi, (xa 3, .inl (k 6, 4, .inr (.inr (.inr (.inr (fun i => some (sa i))))))), (sa j, .inr (2, [.ref qa])), (qa, .inl (k 0, sn, .inr (.inl g12)))] rfl rfl fm_n 4 rfl (by decide) (by decide) [(xa 0), (xa 3), (sa j), qa] rfl rfl 0 0 rfl rfl rfl hl.1 rfl (Nat.le_of_ble_eq_true rfl) dX0_bitBecomes_98 ⟨Nat.le_of_ble_eq_true rfl, Nat.le_of_ble_eq_true rfl⟩ (fun H locs hP hD hS => ?_)
      refine lv_pop hx hb dX0_bitBecomes_101 rfl ?_
      cases hf
    refine lv_if_eq (tgt := 89) hx hb dX0_bitBecomes_78 (by decide) (fun c10 => ?_) (fun c10 => ?_)
    · have hf := oi_t c10 hf
      refine lv_lload hx hb dX0_bitBecomes_89 (lv_at hl 1 rfl) ?_
      refine lv_lload hx hb dX0_bitBecomes_91 (lv_at hl 0 rfl) ?_
      refine lv_ldc2 hx hb hown (hts _ q914) dX0_bitBecomes_93 ?_
      refine lv_lxor hx hb dX0_bitBecomes_96 ?_
      refine lv_land hx hb dX0_bitBecomes_97 ?_
      exact hB98 sg_60 (s0_60 &&& (y9 ^^^ (-1 : Int64))) x6_60 H locs hP hD hS hf ls (lv_sub hl [] rfl)
    · have hf := oi_f c10 hf
      refine lv_lload hx hb dX0_bitBecomes_81 (lv_at hl 1 rfl) ?_
      refine lv_lload hx hb dX0_bitBecomes_83 (lv_at hl 0 rfl) ?_
      refine lv_lor hx hb dX0_bitBecomes_85 ?_
      refine lv_goto (tgt := 98) hx hb dX0_bitBecomes_86 (by decide) ?_
      exact hB98 sg_60 (s0_60 ||| y9) x6_60 H locs hP hD hS hf ls (lv_sub hl [] rfl)
  refine lv_if_ne (tgt := 35) hx hb dX0_bitBecomes_20 (by decide) (fun c5 => ?_) (fun c5 => ?_)
  · have hf := oi_f c5 hf
    refine lv_iload_n hx hb dX0_bitBecomes_35 rfl (lv_at hl 4 rfl) ?_
    refine lv_iconst (v := 1) hx hb dX0_bitBecomes_36 (by decide) ?_
    refine lv_icmp_ne (tgt := 52) hx hb dX0_bitBecomes_37 (by decide) (fun c14 => ?_) (fun c14 => ?_)
    · have hf := oi_f c14 hf
      refine lv_aload hx hb dX0_bitBecomes_52 (lv_at hl 1 rfl) ?_
      refine x_castA hx hb hK hown (hts _ q871) hP 3 0 rfl rfl (by decide +kernel) dX0_bitBecomes_54 ?_
      refine lv_iload hx hb dX0_bitBecomes_57 (lv_at hl 0 rfl) ?_
      by_cases c15 : y4 < 0 ∨ sn ≤ (y4).toNatClampNeg
      · have hf := oi_t c15 hf
        refine vx_laldZ hx hb hK.1 hP 3 0 rfl rfl (fun z => z c15) dX0_bitBecomes_59 (fun tx htx => ?_)
        refine x_noteA htx hsn hx hst hts hK hP hZ hS (hl.1.trans hml.symm) (Nat.le_of_ble_eq_true rfl) (Nat.le_of_ble_eq_true rfl) (Nat.le_of_ble_eq_true rfl) (Nat.le_of_ble_eq_true rfl) hlk (fun H q9 ce hP hS hc9 hv9 hcl9 => ?_)
        cases hf
        exact wx_out hex hlk hc9 hv9 hcl9 hP hS (Nat.le_of_ble_eq_true rfl) (Nat.le_of_ble_eq_true rfl)
      have hf := oi_f c15 hf
      obtain ⟨v16, ev16, hf⟩ := ob hf
      refine x_lald hx hb hK hP 3 0 ev16 rfl rfl dX0_bitBecomes_59 ?_
      exact hB60 sg y4 v16 H locs hP hD hS hf ls (lv_sub hl [2, 3, 4, 5, 6, 0] rfl)
    · have hf := oi_t c14 hf
      refine lv_aload hx hb dX0_bitBecomes_40 (lv_at hl 1 rfl) ?_
      refine x_castX (na := "[J") hx hb hK hown (hts _ q870) hP 3 0 1 rfl rfl rfl (by decide +kernel) (by decide +kernel) (by decide +kernel) (by decide +kernel) (hK.nc 5 rfl) cce_JI dX0_bitBecomes_42 (fun tx htx => ?_)
      refine x_noteC htx hx hst hts hK hP hZ hS (hl.1.trans hml.symm) (Nat.le_of_ble_eq_true rfl) (Nat.le_of_ble_eq_true rfl) (Nat.le_of_ble_eq_true rfl) (Nat.le_of_ble_eq_true rfl) hlk (fun H q9 ce hP hS hc9 hv9 hcl9 => ?_)
      cases hf
      exact wx_out hex hlk hc9 hv9 hcl9 hP hS (Nat.le_of_ble_eq_true rfl) (Nat.le_of_ble_eq_true rfl)
  · have hf := oi_t c5 hf
    refine lv_aload hx hb dX0_bitBecomes_23 (lv_at hl 1 rfl) ?_
    refine x_castX (na := "[J") hx hb hK hown (hts _ q869) hP 3 0 3 rfl rfl rfl (by decide +kernel) (by decide +kernel) (by decide +kernel) (by decide +kernel) (hK.nc 4 rfl) cce_JB dX0_bitBecomes_25 (fun tx htx => ?_)
    refine x_noteC htx hx hst hts hK hP hZ hS (hl.1.trans hml.symm) (Nat.le_of_ble_eq_true rfl) (Nat.le_of_ble_eq_true rfl) (Nat.le_of_ble_eq_true rfl) (Nat.le_of_ble_eq_true rfl) hlk (fun H q9 ce hP hS hc9 hv9 hcl9 => ?_)
    cases hf
    exact wx_out hex hlk hc9 hv9 hcl9 hP hS (Nat.le_of_ble_eq_true rfl) (Nat.le_of_ble_eq_true rfl)

abbrev rmX0_lay_s3 : Room := { frames := 8, cells := 3, slots := 222, locals := 10248 }
theorem hdX0_lay_s3 : yX0_lay.cls ≠ "java/lang/invoke/MethodHandle" ∧ yX0_lay.cls ≠ "java/lang/invoke/VarHandle" ∧ (parseMethodDescriptor yX0_lay.desc).map (fun d => d.parameters.length) = some 3 := by decide +kernel
abbrev qcX0_lay_s3 (D : va_G) (k : Nat → ClassId) (xa : Nat → Nat) (ra : Nat → Nat → Nat) (sa : Nat → Nat) (qa : Nat) (j : Nat) (sn : Nat) (xi : Nat → Int32) (sg : Nat → Int64) (r : Int32) (A : Nat → Prop) : Array Value → State → Outcome → State → Prop := va_Qi (fun x (_ : Unit) => x = r) (fun _ t => va_P D vwCl [oX xa ra xi, (xa 3, .inl (k 6, 4, .inr (.inr (.inr (.inr (fun i => some (sa i))))))), (sa j, .inr (2, [.ref qa])), (qa, .inl (k 0, sn, .inr (.inl sg)))] t.heap) A
set_option maxHeartbeats 4000000 in
theorem mX0_lay_s3 (l : Launch) (hst : l.stackTraces = false) (D : va_G) (k : Nat → ClassId) (xa : Nat → Nat) (ra : Nat → Nat → Nat) (sa : Nat → Nat) (qa : Nat) (j : Nat) (sn : Nat) (hj : j < 4) (hsn : sn < 2 ^ 31) (xi : Nat → Int32) (sg : Nat → Int64) (p2 : Int32) (p3 : Int64) (sz : Nat) (r : Int32) (sg_o : Nat → Int64) (hf : fX0_lay_s3 j sn sg p2 p3 = some (r, sg_o)) : Met l yX0_lay (wsW_ yX0_lay cX0_lay 7 (some .int) [(25, 75, 76, 324), (25, 75, 81, 326)]) rmX0_lay_s3 (wxP D k [oX xa ra xi, (xa 3, .inl (k 6, 4, .inr (.inr (.inr (.inr (fun i => some (sa i))))))), (sa j, .inr (2, [.ref qa])), (qa, .inl (k 0, sn, .inr (.inl sg)))] sz [.ref (xa 0), .int (nI j), .int p2, .long p3]) (qcX0_lay_s3 D k xa ra sa qa j sn xi sg_o r (va_A [oX xa ra xi, (xa 3, .inl (k 6, 4, .inr (.inr (.inr (.inr (fun i => some (sa i))))))), (sa j, .inr (2, [.ref qa])), (qa, .inl (k 0, sn, .inr (.inl sg)))] sz)) 3 222 (va_A [oX xa ra xi, (xa 3, .inl (k 6, 4, .inr (.inr (.inr (.inr (fun i => some (sa i))))))), (sa j, .inr (2, [.ref qa])), (qa, .inl (k 0, sn, .inr (.inl sg)))] sz) := by
  refine wx_startW (Qc := fun A => qcX0_lay_s3 D k xa ra sa qa j sn xi sg_o r A) (by decide +kernel) (Nat.le_of_ble_eq_true rfl) ?_
  intro p e s m below meth c ls A hA hx hb hr hlk hml hown hts hP hK hD hZ hexc hl
  have hl : lv_has ls 7 [(0, .ref (xa 0)), (1, .int (nI j)), (2, .int p2), (3, .long p3)] := hl
  have hown : s.vm.findClass RX0 = some m.cls := hown
  have hS : va_S A s.heap s.heap [] := va_S.rf
  suffices hw : ∀ (H : Heap) (locs : List Loc), va_P D vwCl [oX xa ra xi, (xa 3, .inl (k 6, 4, .inr (.inr (.inr (.inr (fun i => some (sa i))))))), (sa j, .inr (2, [.ref qa])), (qa, .inl (k 0, sn, .inr (.inl sg)))] H → va_S A s.heap H locs → gW p l e rmX0_lay_s3 s m [.ref (xa 0), .int (nI j), .int p2, .long p3] below meth c (qcX0_lay_s3 D k xa ra sa qa j sn xi sg_o r A) A 3 222 H locs 0 ls [] from hw s.heap [] hP hS
  clear hP hS
  intro H locs hP hS
  unfold fX0_lay_s3 at hf
  refine lv_iload_n hx hb dX0_lay_0 rfl (lv_at hl 1 rfl) ?_
  refine lv_i2l hx hb dX0_lay_1 rfl ?_
  refine lv_lconst (v := 0) hx hb dX0_lay_2 (by decide) ?_
  refine lv_ldc2 hx hb hown (hts _ q520) dX0_lay_3 ?_
  obtain ⟨v1, ev1, hf⟩ := ob hf
  refine rd_callSZ (As := [.long (((nI j)).toInt64), .long (0 : Int64), .long (3 : Int64)]) (rest := []) ⟨hx, hb, hml, hown, hts⟩ (mX0_in l D k   (((nI j)).toInt64) (0 : Int64) (3 : Int64) _ ev1) (va_cwS 3 hts (lw_S q242 q243 q90 q244) rfl rfl rfl hdX0_in ⟨Nat.le_of_ble_eq_true rfl, Nat.le_of_ble_eq_true rfl⟩) hK rfl hl.1 rfl (Nat.le_of_ble_eq_true rfl) dX0_lay_6 ⟨Nat.le_of_ble_eq_true rfl, Nat.le_of_ble_eq_true rfl⟩ (fun zv1 => ?_)
  refine lv_if_ne (tgt := 14) hx hb dX0_lay_9 (by decide) (fun c3 => ?_) (fun c3 => ?_)
  · have hf := oi_f c3 hf
    refine lv_aload_n hx hb dX0_lay_14 rfl (lv_at hl 0 rfl) ?_
    refine va_get (D := D) (cl := vwCl) (ci := 0) (v := .ref (xa 3)) (C := RX0) (T := TX0) (N := 15) hx hb hts in_X0 hown hK.1 hP 0 rfl rfl 12 (by decide) (hts _ q203) (fun _ h9 => h9) rfl dX0_lay_15 ?_
    refine lv_iload_n hx hb dX0_lay_18 rfl (lv_at hl 1 rfl) ?_
    refine x_aald hx hb hK hP 1 6 (j := j) (n := 4) rfl hj (by decide) rfl rfl rfl dX0_lay_19 ?_
    refine va_getN (D := D) (cl := vwCl) (ci := 2) (v := .ref qa) (C := RX2) (T := TX2) (N := 1) hx hb hts in_X2 hown hK.1 hP 2 rfl rfl 0 (by decide) (hK.nw 8 rfl) (fun _ h9 => h9) rfl dX0_lay_20 ?_
    refine lv_astore (lv' := [(5, .ref qa), (0, .ref (xa 0)), (1, .int (nI j)), (2, .int p2), (3, .long p3)]) hx hb dX0_lay_23 hl (by decide) rfl (fun ls hl => ?_)
    refine lv_aload hx hb dX0_lay_25 (lv_at hl 0 rfl) ?_
    refine x_instN (na := "[J") hx hb hK hown (hts _ q869) hP 3 0 rfl rfl (by decide +kernel) (hK.nc 4 rfl) dX0_lay_27 ?_
    refine lv_if_eq (tgt := 46) hx hb dX0_lay_30 (by decide) (fun _ => ?_) (fun c9 => absurd c9 (by decide))
    refine lv_aload hx hb dX0_lay_46 (lv_at hl 0 rfl) ?_
    refine x_instN (na := "[J") hx hb hK hown (hts _ q870) hP 3 0 rfl rfl (by decide +kernel) (hK.nc 5 rfl) dX0_lay_48 ?_
    refine lv_if_eq (tgt := 66) hx hb dX0_lay_51 (by decide) (fun _ => ?_) (fun c9 => absurd c9 (by decide))
    refine lv_aload hx hb dX0_lay_66 (lv_at hl 0 rfl) ?_
    refine x_castA hx hb hK hown (hts _ q871) hP 3 0 rfl rfl (by decide +kernel) dX0_lay_68 ?_
    refine lv_iload_n hx hb dX0_lay_71 rfl (lv_at hl 3 rfl) ?_
    refine lv_lload_n hx hb dX0_lay_72 rfl (lv_at hl 4 rfl) ?_
    by_cases c4 : p2 < 0 ∨ sn ≤ (p2).toNatClampNeg
    · have hf := oi_t c4 hf
      refine vx_lastZ hx hb hK.1 hP 3 0 rfl rfl (fun z => z c4) dX0_lay_73 (fun tx htx => ?_)
      refine x_noteA htx hsn hx hst hts hK hP hZ hS (hl.1.trans hml.symm) (Nat.le_of_ble_eq_true rfl) (Nat.le_of_ble_eq_true rfl) (Nat.le_of_ble_eq_true rfl) (Nat.le_of_ble_eq_true rfl) hlk (fun H q9 ce hP hS hc9 hv9 hcl9 => ?_)
      refine vx_catch hown [_] _ _ (hexc.trans rfl) (fm_c (Or.inr ⟨by decide, "java/lang/NullPointerException", hts _ q825, hK.nc 6 rfl⟩) fm_n) rfl (by decide) (hts _ q850) (hK.nw 17 rfl) hc9 hv9 hcl9 ?_
      refine lv_astore (lv' := [(6, .ref q9), (5, .ref qa), (0, .ref (xa 0)), (1, .int (nI j)), (2, .int p2), (3, .long p3)]) hx hb dX0_lay_81 hl (by decide) rfl (fun ls hl => ?_)
      refine lv_bipush (v := (-12)) hx hb dX0_lay_83 (by decide) ?_
      obtain ⟨he1, he2⟩ := prod2 hf
      rw [he2] at hP
      refine W.widen (k := 3) (n := 222) (Nat.le_of_ble_eq_true rfl) (Nat.le_of_ble_eq_true rfl) ?_
      exact wr_iret hx hb hr hlk he1 hP hS dX0_lay_85
    have hf := oi_f c4 hf
    obtain ⟨u5, eu5, hf⟩ := ob hf
    refine x_last hx hb hK hP hD hS 3 0 eu5 rfl rfl [oX xa ra xi, (xa 3, .inl (k 6, 4, .inr (.inr (.inr (.inr (fun i => some (sa i))))))), (sa j, .inr (2, [.ref qa])), (qa, .inl (k 0, sn, .inr (.inl u5)))] rfl dX0_lay_73 (fun H locs hP hD hS => ?_)
    refine lv_iconst (v := 1) hx hb dX0_lay_74 (by decide) ?_
    obtain ⟨he1, he2⟩ := prod2 hf
    rw [he2] at hP
    refine W.widen (k := 3) (n := 222) (Nat.le_of_ble_eq_true rfl) (Nat.le_of_ble_eq_true rfl) ?_
    exact wr_iret hx hb hr hlk he1 hP hS dX0_lay_75
  · have hf := oi_t c3 hf
    refine lv_iconst (v := (-1)) hx hb dX0_lay_12 (by decide) ?_
    obtain ⟨he1, he2⟩ := prod2 hf
    rw [he2] at hP
    refine W.widen (k := 3) (n := 222) (Nat.le_of_ble_eq_true rfl) (Nat.le_of_ble_eq_true rfl) ?_
    exact wr_iret hx hb hr hlk he1 hP hS dX0_lay_13

abbrev rmX0_look_s3 : Room := { frames := 8, cells := 3, slots := 222, locals := 10248 }
theorem hdX0_look_s3 : yX0_look.cls ≠ "java/lang/invoke/MethodHandle" ∧ yX0_look.cls ≠ "java/lang/invoke/VarHandle" ∧ (parseMethodDescriptor yX0_look.desc).map (fun d => d.parameters.length) = some 2 := by decide +kernel
abbrev qcX0_look_s3 (D : va_G) (k : Nat → ClassId) (xa : Nat → Nat) (ra : Nat → Nat → Nat) (sa : Nat → Nat) (qa : Nat) (j : Nat) (sn : Nat) (xi : Nat → Int32) (sg : Nat → Int64) (r : Int64) (A : Nat → Prop) : Array Value → State → Outcome → State → Prop := va_Ql (fun x (_ : Unit) => x = r) (fun _ t => va_P D vwCl [oX xa ra xi, (xa 3, .inl (k 6, 4, .inr (.inr (.inr (.inr (fun i => some (sa i))))))), (sa j, .inr (2, [.ref qa])), (qa, .inl (k 0, sn, .inr (.inl sg)))] t.heap) A
set_option maxHeartbeats 4000000 in
theorem mX0_look_s3 (l : Launch) (hst : l.stackTraces = false) (D : va_G) (k : Nat → ClassId) (xa : Nat → Nat) (ra : Nat → Nat → Nat) (sa : Nat → Nat) (qa : Nat) (j : Nat) (sn : Nat) (hj : j < 4) (hsn : sn < 2 ^ 31) (xi : Nat → Int32) (sg : Nat → Int64) (p2 : Int32) (sz : Nat) (r : Int64) (hf : fX0_look_s3 j sn sg p2 = some r) : Met l yX0_look (wsW_ yX0_look cX0_look 5 (some .long) [(24, 64, 65, 324), (24, 64, 65, 326)]) rmX0_look_s3 (wxP D k [oX xa ra xi, (xa 3, .inl (k 6, 4, .inr (.inr (.inr (.inr (fun i => some (sa i))))))), (sa j, .inr (2, [.ref qa])), (qa, .inl (k 0, sn, .inr (.inl sg)))] sz [.ref (xa 0), .int (nI j), .int p2]) (qcX0_look_s3 D k xa ra sa qa j sn xi sg r (va_A [oX xa ra xi, (xa 3, .inl (k 6, 4, .inr (.inr (.inr (.inr (fun i => some (sa i))))))), (sa j, .inr (2, [.ref qa])), (qa, .inl (k 0, sn, .inr (.inl sg)))] sz)) 3 222 (va_A [oX xa ra xi, (xa 3, .inl (k 6, 4, .inr (.inr (.inr (.inr (fun i => some (sa i))))))), (sa j, .inr (2, [.ref qa])), (qa, .inl (k 0, sn, .inr (.inl sg)))] sz) := by
  refine wx_startW (Qc := fun A => qcX0_look_s3 D k xa ra sa qa j sn xi sg r A) (by decide +kernel) (Nat.le_of_ble_eq_true rfl) ?_
  intro p e s m below meth c ls A hA hx hb hr hlk hml hown hts hP hK hD hZ hexc hl
  have hl : lv_has ls 5 [(0, .ref (xa 0)), (1, .int (nI j)), (2, .int p2)] := hl
  have hown : s.vm.findClass RX0 = some m.cls := hown
  have hS : va_S A s.heap s.heap [] := va_S.rf
  suffices hw : ∀ (H : Heap) (locs : List Loc), va_P D vwCl [oX xa ra xi, (xa 3, .inl (k 6, 4, .inr (.inr (.inr (.inr (fun i => some (sa i))))))), (sa j, .inr (2, [.ref qa])), (qa, .inl (k 0, sn, .inr (.inl sg)))] H → va_S A s.heap H locs → gW p l e rmX0_look_s3 s m [.ref (xa 0), .int (nI j), .int p2] below meth c (qcX0_look_s3 D k xa ra sa qa j sn xi sg r A) A 3 222 H locs 0 ls [] from hw s.heap [] hP hS
  clear hP hS
  intro H locs hP hS
  unfold fX0_look_s3 at hf
  refine lv_iload_n hx hb dX0_look_0 rfl (lv_at hl 1 rfl) ?_
  refine lv_i2l hx hb dX0_look_1 rfl ?_
  refine lv_lconst (v := 0) hx hb dX0_look_2 (by decide) ?_
  refine lv_ldc2 hx hb hown (hts _ q520) dX0_look_3 ?_
  obtain ⟨v1, ev1, hf⟩ := ob hf
  refine rd_callSZ (As := [.long (((nI j)).toInt64), .long (0 : Int64), .long (3 : Int64)]) (rest := []) ⟨hx, hb, hml, hown, hts⟩ (mX0_in l D k   (((nI j)).toInt64) (0 : Int64) (3 : Int64) _ ev1) (va_cwS 3 hts (lw_S q242 q243 q90 q244) rfl rfl rfl hdX0_in ⟨Nat.le_of_ble_eq_true rfl, Nat.le_of_ble_eq_true rfl⟩) hK rfl hl.1 rfl (Nat.le_of_ble_eq_true rfl) dX0_look_6 ⟨Nat.le_of_ble_eq_true rfl, Nat.le_of_ble_eq_true rfl⟩ (fun zv1 => ?_)
  refine lv_if_ne (tgt := 14) hx hb dX0_look_9 (by decide) (fun c3 => ?_) (fun c3 => ?_)
  · have hf := oi_f c3 hf
    refine lv_aload_n hx hb dX0_look_14 rfl (lv_at hl 0 rfl) ?_
    refine va_get (D := D) (cl := vwCl) (ci := 0) (v := .ref (xa 3)) (C := RX0) (T := TX0) (N := 15) hx hb hts in_X0 hown hK.1 hP 0 rfl rfl 12 (by decide) (hts _ q203) (fun _ h9 => h9) rfl dX0_look_15 ?_
    refine lv_iload_n hx hb dX0_look_18 rfl (lv_at hl 1 rfl) ?_
    refine x_aald hx hb hK hP 1 6 (j := j) (n := 4) rfl hj (by decide) rfl rfl rfl dX0_look_19 ?_
    refine va_getN (D := D) (cl := vwCl) (ci := 2) (v := .ref qa) (C := RX2) (T := TX2) (N := 1) hx hb hts in_X2 hown hK.1 hP 2 rfl rfl 0 (by decide) (hK.nw 8 rfl) (fun _ h9 => h9) rfl dX0_look_20 ?_
    refine lv_astore_n (lv' := [(3, .ref qa), (0, .ref (xa 0)), (1, .int (nI j)), (2, .int p2)]) hx hb dX0_look_23 rfl hl (by decide) rfl (fun ls hl => ?_)
    refine lv_aload_n hx hb dX0_look_24 rfl (lv_at hl 0 rfl) ?_
    refine x_instN (na := "[J") hx hb hK hown (hts _ q869) hP 3 0 rfl rfl (by decide +kernel) (hK.nc 4 rfl) dX0_look_25 ?_
    refine lv_if_eq (tgt := 41) hx hb dX0_look_28 (by decide) (fun _ => ?_) (fun c9 => absurd c9 (by decide))
    refine lv_aload_n hx hb dX0_look_41 rfl (lv_at hl 0 rfl) ?_
    refine x_instN (na := "[J") hx hb hK hown (hts _ q870) hP 3 0 rfl rfl (by decide +kernel) (hK.nc 5 rfl) dX0_look_42 ?_
    refine lv_if_eq (tgt := 58) hx hb dX0_look_45 (by decide) (fun _ => ?_) (fun c9 => absurd c9 (by decide))
    refine lv_aload_n hx hb dX0_look_58 rfl (lv_at hl 0 rfl) ?_
    refine x_castA hx hb hK hown (hts _ q871) hP 3 0 rfl rfl (by decide +kernel) dX0_look_59 ?_
    refine lv_iload_n hx hb dX0_look_62 rfl (lv_at hl 3 rfl) ?_
    by_cases c4 : p2 < 0 ∨ sn ≤ (p2).toNatClampNeg
    · have hf := oi_t c4 hf
      refine vx_laldZ hx hb hK.1 hP 3 0 rfl rfl (fun z => z c4) dX0_look_63 (fun tx htx => ?_)
      refine x_noteA htx hsn hx hst hts hK hP hZ hS (hl.1.trans hml.symm) (Nat.le_of_ble_eq_true rfl) (Nat.le_of_ble_eq_true rfl) (Nat.le_of_ble_eq_true rfl) (Nat.le_of_ble_eq_true rfl) hlk (fun H q9 ce hP hS hc9 hv9 hcl9 => ?_)
      refine vx_catch hown [_] _ _ (hexc.trans rfl) (fm_c (Or.inr ⟨by decide, "java/lang/NullPointerException", hts _ q825, hK.nc 6 rfl⟩) fm_n) rfl (by decide) (hts _ q850) (hK.nw 17 rfl) hc9 hv9 hcl9 ?_
      refine lv_astore (lv' := [(4, .ref q9), (3, .ref qa), (0, .ref (xa 0)), (1, .int (nI j)), (2, .int p2)]) hx hb dX0_look_65 hl (by decide) rfl (fun ls hl => ?_)
      refine lv_lconst (v := 0) hx hb dX0_look_67 (by decide) ?_
      have he1 := Option.some.inj hf
      refine W.widen (k := 3) (n := 222) (Nat.le_of_ble_eq_true rfl) (Nat.le_of_ble_eq_true rfl) ?_
      exact wr_lret hx hb hr hlk he1 hP hS dX0_look_68
    have hf := oi_f c4 hf
    obtain ⟨v5, ev5, hf⟩ := ob hf
    refine x_lald hx hb hK hP 3 0 ev5 rfl rfl dX0_look_63 ?_
    have he1 := Option.some.inj hf
    refine W.widen (k := 3) (n := 222) (Nat.le_of_ble_eq_true rfl) (Nat.le_of_ble_eq_true rfl) ?_
    exact wr_lret hx hb hr hlk he1 hP hS dX0_look_64
  · have hf := oi_t c3 hf
    refine lv_lconst (v := 0) hx hb dX0_look_12 (by decide) ?_
    have he1 := Option.some.inj hf
    refine W.widen (k := 3) (n := 222) (Nat.le_of_ble_eq_true rfl) (Nat.le_of_ble_eq_true rfl) ?_
    exact wr_lret hx hb hr hlk he1 hP hS dX0_look_13

abbrev rmX0_stow_s3 : Room := { frames := 9, cells := 3, slots := 222, locals := 10278 }
theorem hdX0_stow_s3 : yX0_stow.cls ≠ "java/lang/invoke/MethodHandle" ∧ yX0_stow.cls ≠ "java/lang/invoke/VarHandle" ∧ (parseMethodDescriptor yX0_stow.desc).map (fun d => d.parameters.length) = some 3 := by decide +kernel
abbrev qcX0_stow_s3 (D : va_G) (k : Nat → ClassId) (xa : Nat → Nat) (ra : Nat → Nat → Nat) (sa : Nat → Nat) (qa : Nat) (j : Nat) (sn : Nat) (xi : Nat → Int32) (rs : RS) (sg : Nat → Int64) (r : Int32) (A : Nat → Prop) : Array Value → State → Outcome → State → Prop := va_Qi (fun x (_ : Unit) => x = r) (fun _ t => va_P D vwCl (wN k xa ra xi rs ++ [(xa 3, .inl (k 6, 4, .inr (.inr (.inr (.inr (fun i => some (sa i))))))), (sa j, .inr (2, [.ref qa])), (qa, .inl (k 0, sn, .inr (.inl sg)))]) t.heap) A
set_option maxHeartbeats 4000000 in
theorem mX0_stow_s3 (l : Launch) (hst : l.stackTraces = false) (D : va_G) (k : Nat → ClassId) (xa : Nat → Nat) (ra : Nat → Nat → Nat) (sa : Nat → Nat) (qa : Nat) (j : Nat) (sn : Nat) (hj : j < 4) (hsn : sn < 2 ^ 31) (xi : Nat → Int32) (rs : RS) (sg : Nat → Int64) (p2 : Int32) (p3 : Int32) (sz : Nat) (r : Int32) (xi_o : Nat → Int32) (sg_o : Nat → Int64) (hf : fX0_stow_s3 j sn xi rs sg p2 p3 = some (r, xi_o, sg_o)) : Met l yX0_stow (wsW_ yX0_stow cX0_stow 8 (some .int) [(20, 57, 66, 324), (20, 57, 80, 342), (20, 57, 94, 326), (20, 57, 108, 0), (66, 71, 108, 0), (80, 85, 108, 0), (94, 99, 108, 0), (108, 110, 108, 0)]) rmX0_stow_s3 (wxP D k (wN k xa ra xi rs ++ [(xa 3, .inl (k 6, 4, .inr (.inr (.inr (.inr (fun i => some (sa i))))))), (sa j, .inr (2, [.ref qa])), (qa, .inl (k 0, sn, .inr (.inl sg)))]) sz [.ref (xa 0), .int (nI j), .int p2, .int p3]) (qcX0_stow_s3 D k xa ra sa qa j sn xi_o rs sg_o r (va_A (wN k xa ra xi rs ++ [(xa 3, .inl (k 6, 4, .inr (.inr (.inr (.inr (fun i => some (sa i))))))), (sa j, .inr (2, [.ref qa])), (qa, .inl (k 0, sn, .inr (.inl sg)))]) sz)) 3 222 (va_A (wN k xa ra xi rs ++ [(xa 3, .inl (k 6, 4, .inr (.inr (.inr (.inr (fun i => some (sa i))))))), (sa j, .inr (2, [.ref qa])), (qa, .inl (k 0, sn, .inr (.inl sg)))]) sz) := by
  refine wx_startW (Qc := fun A => qcX0_stow_s3 D k xa ra sa qa j sn xi_o rs sg_o r A) (by decide +kernel) (Nat.le_of_ble_eq_true rfl) ?_
  intro p e s m below meth c ls A hA hx hb hr hlk hml hown hts hP hK hD hZ hexc hl
  have hl : lv_has ls 8 [(0, .ref (xa 0)), (1, .int (nI j)), (2, .int p2), (3, .int p3)] := hl
  have hown : s.vm.findClass RX0 = some m.cls := hown
  have hS : va_S A s.heap s.heap [] := va_S.rf
  suffices hw : ∀ (H : Heap) (locs : List Loc), va_P D vwCl (wN k xa ra xi rs ++ [(xa 3, .inl (k 6, 4, .inr (.inr (.inr (.inr (fun i => some (sa i))))))), (sa j, .inr (2, [.ref qa])), (qa, .inl (k 0, sn, .inr (.inl sg)))]) H → va_S A s.heap H locs → gW p l e rmX0_stow_s3 s m [.ref (xa 0), .int (nI j), .int p2, .int p3] below meth c (qcX0_stow_s3 D k xa ra sa qa j sn xi_o rs sg_o r A) A 3 222 H locs 0 ls [] from hw s.heap [] hP hS
  clear hP hS
  intro H locs hP hS
  unfold fX0_stow_s3 at hf
  refine lv_iload_n hx hb dX0_stow_0 rfl (lv_at hl 1 rfl) ?_
  refine lv_iload_n hx hb dX0_stow_1 rfl (lv_at hl 2 rfl) ?_
  obtain ⟨v1, ev1, hf⟩ := ob hf
  refine rd_callSZ (As := [.int (nI j), .int p2]) (rest := []) ⟨hx, hb, hml, hown, hts⟩ (mX0_isSheet l D k   (nI j) p2 _ ev1) (va_cwS 2 hts (lw_S q818 q819 q90 q820) rfl rfl rfl hdX0_isSheet ⟨Nat.le_of_ble_eq_true rfl, Nat.le_of_ble_eq_true rfl⟩) hK rfl hl.1 rfl (Nat.le_of_ble_eq_true rfl) dX0_stow_2 ⟨Nat.le_of_ble_eq_true rfl, Nat.le_of_ble_eq_true rfl⟩ (fun zv1 => ?_)
  refine lv_if_eq (tgt := 12) hx hb dX0_stow_5 (by decide) (fun c3 => ?_) (fun c3 => ?_)
  · have hf := oi_t c3 hf
    refine lv_iconst (v := (-1)) hx hb dX0_stow_12 (by decide) ?_
    obtain ⟨he1, he2, he3⟩ := prod3 hf
    rw [he2] at hP
    rw [he3] at hP
    refine W.widen (k := 3) (n := 222) (Nat.le_of_ble_eq_true rfl) (Nat.le_of_ble_eq_true rfl) ?_
    exact wr_iret hx hb hr hlk he1 hP hS dX0_stow_13
  · have hf := oi_f c3 hf
    refine lv_iload_n hx hb dX0_stow_8 rfl (lv_at hl 3 rfl) ?_
    refine lv_if_ge (tgt := 14) hx hb dX0_stow_9 (by decide) (fun c4 => ?_) (fun c4 => ?_)
    · have hf := oi_t c4 hf
      refine lv_iconst (v := 0) hx hb dX0_stow_14 (by decide) ?_
      refine lv_istore (lv' := [(4, .int (0 : Int32)), (0, .ref (xa 0)), (1, .int (nI j)), (2, .int p2), (3, .int p3)]) hx hb dX0_stow_15 hl (by decide) rfl (fun ls hl => ?_)
      refine lv_iconst (v := 0) hx hb dX0_stow_17 (by decide) ?_
      refine lv_istore (lv' := [(5, .int (0 : Int32)), (4, .int (0 : Int32)), (0, .ref (xa 0)), (1, .int (nI j)), (2, .int p2), (3, .int p3)]) hx hb dX0_stow_18 hl (by decide) rfl (fun ls hl => ?_)
      have hL20 : ∀ (nn : Nat) (xi_20 : Nat → Int32) (sg_20 : Nat → Int64) (x4_20 : Int32) (x5_20 : Int32), ∀ (H : Heap) (locs : List Loc), va_P D vwCl (wN k xa ra xi_20 rs ++ [(xa 3, .inl (k 6, 4, .inr (.inr (.inr (.inr (fun i => some (sa i))))))), (sa j, .inr (2, [.ref qa])), (qa, .inl (k 0, sn, .inr (.inl sg_20)))]) H → va_D A (wN k xa ra xi_20 rs ++ [(xa 3, .inl (k 6, 4, .inr (.inr (.inr (.inr (fun i => some (sa i))))))), (sa j, .inr (2, [.ref qa])), (qa, .inl (k 0, sn, .inr (.inl sg_20)))]) → va_S A s.heap H locs → fX0_stow_s3_L20 j sn rs p2 p3 nn xi_20 sg_20 x4_20 x5_20 = some (r, xi_o, sg_o) → ∀ ls : Array Slot, lv_has ls 8 [(0, .ref (xa 0)), (1, .int (nI j)), (2, .int p2), (3, .int p3), (4, .int x4_20), (5, .int x5_20)] → gW p l e rmX0_stow_s3 s m [.ref (xa 0), .int (nI j), .int p2, .int p3] below meth c (qcX0_stow_s3 D k xa ra sa qa j sn xi_o rs sg_o r A) A 3 222 H locs 20 ls [] := by
        intro nn20
        induction nn20 with
        | zero =>
          intro xi_20 sg_20 x4_20 x5_20 H locs hP hD hS hf
          rw [fX0_stow_s3_L20] at hf; cases hf
        | succ nn20 ih20 =>
          intro xi_20 sg_20 x4_20 x5_20 H locs hP hD hS hf ls hl
          rw [fX0_stow_s3_L20] at hf
          refine lv_iload hx hb dX0_stow_20 (lv_at hl 5 rfl) ?_
          refine lv_aload_n hx hb dX0_stow_22 rfl (lv_at hl 0 rfl) ?_
          refine va_get (D := D) (cl := vwCl) (ci := 0) (v := .ref (ra 0 0)) (C := RX0) (T := TX0) (N := 15) hx hb hts in_X0 hown hK.1 hP 0 rfl rfl 0 (by decide) (hts _ q190) (fun _ h9 => h9) rfl dX0_stow_23 ?_
          refine va_getN (D := D) (cl := vwCl) (ci := 1) (v := .int (rP rs)) (C := RX1) (T := TX1) (N := 6) hx hb hts in_X1 hown hK.1 hP 1 rfl rfl 1 (by decide) (hK.nw 2 rfl) (fun _ h9 => h9) rfl dX0_stow_26 ?_
          refine lv_icmp_ge (tgt := 57) hx hb dX0_stow_29 (by decide) (fun c5 => ?_) (fun c5 => ?_)
          · have hf := oi_t c5 hf
            refine lv_aload_n hx hb dX0_stow_57 rfl (lv_at hl 0 rfl) ?_
            refine lv_iload hx hb dX0_stow_58 (lv_at hl 4 rfl) ?_
            refine va_put (D := D) (cl := vwCl) (ci := 0) (v := .int x4_20) (ty := .int) (C := RX0) (T := TX0) (N := 15) hx hb hts in_X0 tyX0 tyX0_ok nmX0 hown hK.1 hP hD hS 0 rfl rfl 14 (by decide) (hts _ q205) (fun _ h9 => h9) rfl (by decide +kernel) rfl rfl (Nat.le_of_ble_eq_true rfl) dX0_stow_60 (fun H locs hP hD hS => ?_)
            have hP : va_P D vwCl (wN k xa ra (upd xi_20 8 x4_20) rs ++ [(xa 3, .inl (k 6, 4, .inr (.inr (.inr (.inr (fun i => some (sa i))))))), (sa j, .inr (2, [.ref qa])), (qa, .inl (k 0, sn, .inr (.inl sg_20)))]) H := hP
            have hD : va_D A (wN k xa ra (upd xi_20 8 x4_20) rs ++ [(xa 3, .inl (k 6, 4, .inr (.inr (.inr (.inr (fun i => some (sa i))))))), (sa j, .inr (2, [.ref qa])), (qa, .inl (k 0, sn, .inr (.inl sg_20)))]) := hD
            refine lv_goto (tgt := 119) hx hb dX0_stow_63 (by decide) ?_
            refine lv_iload hx hb dX0_stow_119 (lv_at hl 5 rfl) ?_
            obtain ⟨he1, he2, he3⟩ := prod3 hf
            rw [he2] at hP
            rw [he3] at hP
            refine W.widen (k := 3) (n := 222) (Nat.le_of_ble_eq_true rfl) (Nat.le_of_ble_eq_true rfl) ?_
            exact wr_iret hx hb hr hlk he1 hP hS dX0_stow_121
          · have hf := oi_f c5 hf
            refine lv_aload_n hx hb dX0_stow_32 rfl (lv_at hl 0 rfl) ?_
            refine lv_iload_n hx hb dX0_stow_33 rfl (lv_at hl 1 rfl) ?_
            refine lv_iload_n hx hb dX0_stow_34 rfl (lv_at hl 2 rfl) ?_
            refine lv_iload_n hx hb dX0_stow_35 rfl (lv_at hl 3 rfl) ?_
            refine lv_iload hx hb dX0_stow_36 (lv_at hl 5 rfl) ?_
            refine lv_iadd hx hb dX0_stow_38 ?_
            refine lv_aload_n hx hb dX0_stow_39 rfl (lv_at hl 0 rfl) ?_
            refine va_get (D := D) (cl := vwCl) (ci := 0) (v := .ref (ra 0 0)) (C := RX0) (T := TX0) (N := 15) hx hb hts in_X0 hown hK.1 hP 0 rfl rfl 0 (by decide) (hts _ q190) (fun _ h9 => h9) rfl dX0_stow_40 ?_
            refine lv_iload hx hb dX0_stow_43 (lv_at hl 5 rfl) ?_
            obtain ⟨v6, ev6, hf⟩ := ob hf
            refine rd_callVZ (As := [.int x5_20]) (rest := [.int (p3 + x5_20), .int p2, .int (nI j), .ref (xa 0)]) ⟨hx, hb, hml, hown, hts⟩ (mX1_isOpen l D k (ra 0) rs x5_20 _ ev6) (cwV 1 hts (lw_V q439 q184 q185 q91 q186) rfl rfl rfl ⟨rfl, hdX1_isOpen⟩ ⟨Nat.le_of_ble_eq_true rfl, Nat.le_of_ble_eq_true rfl⟩) hK hP [1, 2, 3, 4, 5, 6] rfl 1 1 rfl rfl rfl hl.1 rfl (Nat.le_of_ble_eq_true rfl) dX0_stow_45 ⟨Nat.le_of_ble_eq_true rfl, Nat.le_of_ble_eq_true rfl⟩ (fun zv6 => ?_)
            by_cases c8 : fX0_bitBecomes_s3x j sn sg_20 p2 (p3 + x5_20) v6 = some 3
            · have hf := oi_t c8 hf
              refine wx_excVv (As := [.int (nI j), .int p2, .int (p3 + x5_20), .int v6]) (rest := []) ⟨hx, hb, hml, hown, hts⟩ (mX0_bitBecomes_s3x l hst D k xa ra sa qa j sn hj hsn xi_20 sg_20 p2 (p3 + x5_20) v6 _ 3 c8) (cwV 4 hts (lw_V q910 q912 qs53 q90 q913) rfl rfl rfl ⟨rfl, hdX0_bitBecomes_s3x⟩ ⟨Nat.le_of_ble_eq_true rfl, Nat.le_of_ble_eq_true rfl⟩) hK hZ hP hD hS hA [0, 7, 8, 9] [1, 2, 3, 4, 5, 6] rfl 10 rfl (by decide) (by decide) 0 0 rfl rfl rfl hl.1 rfl (Nat.le_of_ble_eq_true rfl) dX0_stow_48 ⟨Nat.le_of_ble_eq_true rfl, Nat.le_of_ble_eq_true rfl⟩ (fun H locs q9 ce hP hD hS hc9 hv9 hcl9 => ?_)
              refine vx_catch hown [_] _ _ (hexc.trans rfl) (fm_c (Or.inr ⟨by decide, "java/lang/NullPointerException", hts _ q825, hK.nc 8 rfl⟩) fm_n) rfl (by decide) (hts _ q880) (hK.nw 18 rfl) hc9 hv9 hcl9 ?_
              refine lv_astore (lv' := [(6, .ref q9), (0, .ref (xa 0)), (1, .int (nI j)), (2, .int p2), (3, .int p3), (4, .int x4_20), (5, .int x5_20)]) hx hb dX0_stow_80 hl (by decide) rfl (fun ls hl => ?_)
              refine lv_iconst (v := 3) hx hb dX0_stow_82 (by decide) ?_
              refine lv_istore (lv' := [(4, .int (3 : Int32)), (6, .ref q9), (0, .ref (xa 0)), (1, .int (nI j)), (2, .int p2), (3, .int p3), (5, .int x5_20)]) hx hb dX0_stow_83 hl (by decide) rfl (fun ls hl => ?_)
              refine lv_aload_n hx hb dX0_stow_85 rfl (lv_at hl 2 rfl) ?_
              refine lv_iload hx hb dX0_stow_86 (lv_at hl 0 rfl) ?_
              refine va_put (D := D) (cl := vwCl) (ci := 0) (v := .int (3 : Int32)) (ty := .int) (C := RX0) (T := TX0) (N := 15) hx hb hts in_X0 tyX0 tyX0_ok nmX0 hown hK.1 hP hD hS 0 rfl rfl 14 (by decide) (hts _ q205) (fun _ h9 => h9) rfl (by decide +kernel) rfl rfl (Nat.le_of_ble_eq_true rfl) dX0_stow_88 (fun H locs hP hD hS => ?_)
              have hP : va_P D vwCl (wN k xa ra (upd xi_20 8 (3 : Int32)) rs ++ [(xa 3, .inl (k 6, 4, .inr (.inr (.inr (.inr (fun i => some (sa i))))))), (sa j, .inr (2, [.ref qa])), (qa, .inl (k 0, sn, .inr (.inl sg_20)))]) H := hP
              have hD : va_D A (wN k xa ra (upd xi_20 8 (3 : Int32)) rs ++ [(xa 3, .inl (k 6, 4, .inr (.inr (.inr (.inr (fun i => some (sa i))))))), (sa j, .inr (2, [.ref qa])), (qa, .inl (k 0, sn, .inr (.inl sg_20)))]) := hD
              refine lv_goto (tgt := 119) hx hb dX0_stow_91 (by decide) ?_
              refine lv_iload hx hb dX0_stow_119 (lv_at hl 6 rfl) ?_
              obtain ⟨he1, he2, he3⟩ := prod3 hf
              rw [he2] at hP
              rw [he3] at hP
              refine W.widen (k := 3) (n := 222) (Nat.le_of_ble_eq_true rfl) (Nat.le_of_ble_eq_true rfl) ?_
              exact wr_iret hx hb hr hlk he1 hP hS dX0_stow_121
            have hf := oi_f c8 hf
            by_cases c9 : fX0_bitBecomes_s3x j sn sg_20 p2 (p3 + x5_20) v6 = some 2
            · have hf := oi_t c9 hf
              refine wx_excVv (As := [.int (nI j), .int p2, .int (p3 + x5_20), .int v6]) (rest := []) ⟨hx, hb, hml, hown, hts⟩ (mX0_bitBecomes_s3x l hst D k xa ra sa qa j sn hj hsn xi_20 sg_20 p2 (p3 + x5_20) v6 _ 2 c9) (cwV 4 hts (lw_V q910 q912 qs53 q90 q913) rfl rfl rfl ⟨rfl, hdX0_bitBecomes_s3x⟩ ⟨Nat.le_of_ble_eq_true rfl, Nat.le_of_ble_eq_true rfl⟩) hK hZ hP hD hS hA [0, 7, 8, 9] [1, 2, 3, 4, 5, 6] rfl 10 rfl (by decide) (by decide) 0 0 rfl rfl rfl hl.1 rfl (Nat.le_of_ble_eq_true rfl) dX0_stow_48 ⟨Nat.le_of_ble_eq_true rfl, Nat.le_of_ble_eq_true rfl⟩ (fun H locs q9 ce hP hD hS hc9 hv9 hcl9 => ?_)
              refine vx_catch hown [_, _] _ _ (hexc.trans rfl) (fm_c (Or.inr ⟨by decide, "java/lang/NullPointerException", hts _ q825, hK.nc 6 rfl⟩) (fm_c (Or.inr ⟨by decide, "java/lang/ClassCastException", hts _ q880, hK.nc 7 rfl⟩) fm_n)) rfl (by decide) (hts _ q850) (hK.nw 17 rfl) hc9 hv9 hcl9 ?_
              refine lv_astore (lv' := [(6, .ref q9), (0, .ref (xa 0)), (1, .int (nI j)), (2, .int p2), (3, .int p3), (4, .int x4_20), (5, .int x5_20)]) hx hb dX0_stow_94 hl (by decide) rfl (fun ls hl => ?_)
              refine lv_iconst (v := 2) hx hb dX0_stow_96 (by decide) ?_
              refine lv_istore (lv' := [(4, .int (2 : Int32)), (6, .ref q9), (0, .ref (xa 0)), (1, .int (nI j)), (2, .int p2), (3, .int p3), (5, .int x5_20)]) hx hb dX0_stow_97 hl (by decide) rfl (fun ls hl => ?_)
              refine lv_aload_n hx hb dX0_stow_99 rfl (lv_at hl 2 rfl) ?_
              refine lv_iload hx hb dX0_stow_100 (lv_at hl 0 rfl) ?_
              refine va_put (D := D) (cl := vwCl) (ci := 0) (v := .int (2 : Int32)) (ty := .int) (C := RX0) (T := TX0) (N := 15) hx hb hts in_X0 tyX0 tyX0_ok nmX0 hown hK.1 hP hD hS 0 rfl rfl 14 (by decide) (hts _ q205) (fun _ h9 => h9) rfl (by decide +kernel) rfl rfl (Nat.le_of_ble_eq_true rfl) dX0_stow_102 (fun H locs hP hD hS => ?_)
              have hP : va_P D vwCl (wN k xa ra (upd xi_20 8 (2 : Int32)) rs ++ [(xa 3, .inl (k 6, 4, .inr (.inr (.inr (.inr (fun i => some (sa i))))))), (sa j, .inr (2, [.ref qa])), (qa, .inl (k 0, sn, .inr (.inl sg_20)))]) H := hP
              have hD : va_D A (wN k xa ra (upd xi_20 8 (2 : Int32)) rs ++ [(xa 3, .inl (k 6, 4, .inr (.inr (.inr (.inr (fun i => some (sa i))))))), (sa j, .inr (2, [.ref qa])), (qa, .inl (k 0, sn, .inr (.inl sg_20)))]) := hD
              refine lv_goto (tgt := 119) hx hb dX0_stow_105 (by decide) ?_
              refine lv_iload hx hb dX0_stow_119 (lv_at hl 6 rfl) ?_
              obtain ⟨he1, he2, he3⟩ := prod3 hf
              rw [he2] at hP
              rw [he3] at hP
              refine W.widen (k := 3) (n := 222) (Nat.le_of_ble_eq_true rfl) (Nat.le_of_ble_eq_true rfl) ?_
              exact wr_iret hx hb hr hlk he1 hP hS dX0_stow_121
            have hf := oi_f c9 hf
            obtain ⟨g10, et11, hf⟩ := ob hf
            refine wr_callVv (As := [.int (nI j), .int p2, .int (p3 + x5_20), .int v6]) (rest := []) ⟨hx, hb, hml, hown, hts⟩ (mX0_bitBecomes_s3 l D k xa ra sa qa j sn hj hsn xi_20 sg_20 p2 (p3 + x5_20) v6 _ _ et11) (cwV 4 hts (lw_V q910 q912 qs53 q90 q913) rfl rfl rfl ⟨rfl, hdX0_bitBecomes_s3⟩ ⟨Nat.le_of_ble_eq_true rfl, Nat.le_of_ble_eq_true rfl⟩) hK hP hD hS hA [0, 7, 8, 9] [1, 2, 3, 4, 5, 6] (wN k xa ra xi_20 rs ++ [(xa 3, .inl (k 6, 4, .inr (.inr (.inr (.inr (fun i => some (sa i))))))), (sa j, .inr (2, [.ref qa])), (qa, .inl (k 0, sn, .inr (.inl g10)))]) rfl rfl (fm_c (fm_e _ rfl rfl) (fm_c (fm_e _ rfl rfl) (fm_c (fm_e _ rfl rfl) (fm_c (fm_e _ rfl rfl) (fm_c (fm_e _ rfl rfl) (fm_c (fm_e _ rfl rfl) fm_n)))))) 10 rfl (by decide) (by decide) [(xa 0), (ra 0 0), (ra 0 1), (ra 0 2), (ra 0 3), (ra 0 4), (ra 0 5), (xa 3), (sa j), qa] rfl rfl 0 0 rfl rfl rfl hl.1 rfl (Nat.le_of_ble_eq_true rfl) dX0_stow_48 ⟨Nat.le_of_ble_eq_true rfl, Nat.le_of_ble_eq_true rfl⟩ (fun H locs hP hD hS => ?_)
            refine lv_iinc (v := (x5_20 + 1)) (lv' := [(5, .int (x5_20 + 1)), (0, .ref (xa 0)), (1, .int (nI j)), (2, .int p2), (3, .int p3), (4, .int x4_20)]) hx hb dX0_stow_51 hl (k := 5) rfl rfl (by decide) rfl (fun ls hl => ?_)
            refine lv_goto (tgt := 20) hx hb dX0_stow_54 (by decide) ?_
            exact ih20 xi_20 g10 x4_20 (x5_20 + 1) H locs hP hD hS hf ls (lv_sub hl [1, 2, 3, 4, 5, 0] rfl)
      exact hL20 FU xi sg (0 : Int32) (0 : Int32) H locs hP hD hS hf ls (lv_sub hl [2, 3, 4, 5, 1, 0] rfl)
    · have hf := oi_f c4 hf
      refine lv_iconst (v := (-1)) hx hb dX0_stow_12 (by decide) ?_
      obtain ⟨he1, he2, he3⟩ := prod3 hf
      rw [he2] at hP
      rw [he3] at hP
      refine W.widen (k := 3) (n := 222) (Nat.le_of_ble_eq_true rfl) (Nat.le_of_ble_eq_true rfl) ?_
      exact wr_iret hx hb hr hlk he1 hP hS dX0_stow_13

abbrev rmX0_read_s3 : Room := { frames := 9, cells := 3, slots := 222, locals := 10275 }
theorem hdX0_read_s3 : yX0_read.cls ≠ "java/lang/invoke/MethodHandle" ∧ yX0_read.cls ≠ "java/lang/invoke/VarHandle" ∧ (parseMethodDescriptor yX0_read.desc).map (fun d => d.parameters.length) = some 4 := by decide +kernel
abbrev qcX0_read_s3 (D : va_G) (k : Nat → ClassId) (xa : Nat → Nat) (ra : Nat → Nat → Nat) (sa : Nat → Nat) (qa : Nat) (j : Nat) (sn : Nat) (xi : Nat → Int32) (rs : RS) (rt : RS) (sg : Nat → Int64) (r : Int32) (A : Nat → Prop) : Array Value → State → Outcome → State → Prop := va_Qi (fun x (_ : Unit) => x = r) (fun _ t => va_P D vwCl (wN k xa ra xi rs ++ (wR k (ra 4) rt ++ [(xa 3, .inl (k 6, 4, .inr (.inr (.inr (.inr (fun i => some (sa i))))))), (sa j, .inr (2, [.ref qa])), (qa, .inl (k 0, sn, .inr (.inl sg)))])) t.heap) A
set_option maxHeartbeats 4000000 in
theorem mX0_read_s3 (l : Launch) (hst : l.stackTraces = false) (D : va_G) (k : Nat → ClassId) (xa : Nat → Nat) (ra : Nat → Nat → Nat) (sa : Nat → Nat) (qa : Nat) (j : Nat) (sn : Nat) (hj : j < 4) (hsn : sn < 2 ^ 31) (xi : Nat → Int32) (rs : RS) (rt : RS) (sg : Nat → Int64) (p2 : Int32) (p3 : Int32) (p4 : Int32) (sz : Nat) (r : Int32) (rs_o : RS) (rt_o : RS) (hf : fX0_read_s3 j sn rs rt sg p2 p3 p4 = some (r, rs_o, rt_o)) : Met l yX0_read (wsW_ yX0_read cX0_read 6 (some .int) [(47, 82, 85, 324), (47, 82, 90, 342), (47, 82, 95, 326)]) rmX0_read_s3 (wxP D k (wN k xa ra xi rs ++ (wR k (ra 4) rt ++ [(xa 3, .inl (k 6, 4, .inr (.inr (.inr (.inr (fun i => some (sa i))))))), (sa j, .inr (2, [.ref qa])), (qa, .inl (k 0, sn, .inr (.inl sg)))])) sz [.ref (xa 0), .int (nI j), .int p2, .int p3, .int p4]) (qcX0_read_s3 D k xa ra sa qa j sn xi rs_o rt_o sg r (va_A (wN k xa ra xi rs ++ (wR k (ra 4) rt ++ [(xa 3, .inl (k 6, 4, .inr (.inr (.inr (.inr (fun i => some (sa i))))))), (sa j, .inr (2, [.ref qa])), (qa, .inl (k 0, sn, .inr (.inl sg)))])) sz)) 3 222 (va_A (wN k xa ra xi rs ++ (wR k (ra 4) rt ++ [(xa 3, .inl (k 6, 4, .inr (.inr (.inr (.inr (fun i => some (sa i))))))), (sa j, .inr (2, [.ref qa])), (qa, .inl (k 0, sn, .inr (.inl sg)))])) sz) := by
  refine wx_startW (Qc := fun A => qcX0_read_s3 D k xa ra sa qa j sn xi rs_o rt_o sg r A) (by decide +kernel) (Nat.le_of_ble_eq_true rfl) ?_
  intro p e s m below meth c ls A hA hx hb hr hlk hml hown hts hP hK hD hZ hexc hl
  have hl : lv_has ls 6 [(0, .ref (xa 0)), (1, .int (nI j)), (2, .int p2), (3, .int p3), (4, .int p4)] := hl
  have hown : s.vm.findClass RX0 = some m.cls := hown
  have hS : va_S A s.heap s.heap [] := va_S.rf
  suffices hw : ∀ (H : Heap) (locs : List Loc), va_P D vwCl (wN k xa ra xi rs ++ (wR k (ra 4) rt ++ [(xa 3, .inl (k 6, 4, .inr (.inr (.inr (.inr (fun i => some (sa i))))))), (sa j, .inr (2, [.ref qa])), (qa, .inl (k 0, sn, .inr (.inl sg)))])) H → va_S A s.heap H locs → gW p l e rmX0_read_s3 s m [.ref (xa 0), .int (nI j), .int p2, .int p3, .int p4] below meth c (qcX0_read_s3 D k xa ra sa qa j sn xi rs_o rt_o sg r A) A 3 222 H locs 0 ls [] from hw s.heap [] hP hS
  clear hP hS
  intro H locs hP hS
  unfold fX0_read_s3 at hf
  refine lv_iload_n hx hb dX0_read_0 rfl (lv_at hl 1 rfl) ?_
  refine lv_iload_n hx hb dX0_read_1 rfl (lv_at hl 2 rfl) ?_
  obtain ⟨v1, ev1, hf⟩ := ob hf
  refine rd_callSZ (As := [.int (nI j), .int p2]) (rest := []) ⟨hx, hb, hml, hown, hts⟩ (mX0_isSheet l D k   (nI j) p2 _ ev1) (va_cwS 2 hts (lw_S q818 q819 q90 q820) rfl rfl rfl hdX0_isSheet ⟨Nat.le_of_ble_eq_true rfl, Nat.le_of_ble_eq_true rfl⟩) hK rfl hl.1 rfl (Nat.le_of_ble_eq_true rfl) dX0_read_2 ⟨Nat.le_of_ble_eq_true rfl, Nat.le_of_ble_eq_true rfl⟩ (fun zv1 => ?_)
  refine lv_if_eq (tgt := 25) hx hb dX0_read_5 (by decide) (fun c3 => ?_) (fun c3 => ?_)
  · have hf := oi_t c3 hf
    refine lv_iconst (v := (-1)) hx hb dX0_read_25 (by decide) ?_
    obtain ⟨he1, he2, he3⟩ := prod3 hf
    rw [he2] at hP
    rw [he3] at hP
    refine W.widen (k := 3) (n := 222) (Nat.le_of_ble_eq_true rfl) (Nat.le_of_ble_eq_true rfl) ?_
    exact wr_iret hx hb hr hlk he1 hP hS dX0_read_26
  · have hf := oi_f c3 hf
    refine lv_iload hx hb dX0_read_8 (lv_at hl 4 rfl) ?_
    refine lv_i2l hx hb dX0_read_10 rfl ?_
    refine lv_lconst (v := 0) hx hb dX0_read_11 (by decide) ?_
    refine lv_ldc2 hx hb hown (hts _ q894) dX0_read_12 ?_
    obtain ⟨v4, ev4, hf⟩ := ob hf
    refine rd_callSZ (As := [.long ((p4).toInt64), .long (0 : Int64), .long (128 : Int64)]) (rest := []) ⟨hx, hb, hml, hown, hts⟩ (mX0_in l D k   ((p4).toInt64) (0 : Int64) (128 : Int64) _ ev4) (va_cwS 3 hts (lw_S q242 q243 q90 q244) rfl rfl rfl hdX0_in ⟨Nat.le_of_ble_eq_true rfl, Nat.le_of_ble_eq_true rfl⟩) hK rfl hl.1 rfl (Nat.le_of_ble_eq_true rfl) dX0_read_15 ⟨Nat.le_of_ble_eq_true rfl, Nat.le_of_ble_eq_true rfl⟩ (fun zv4 => ?_)
    refine lv_if_eq (tgt := 25) hx hb dX0_read_18 (by decide) (fun c6 => ?_) (fun c6 => ?_)
    · have hf := oi_t c6 hf
      refine lv_iconst (v := (-1)) hx hb dX0_read_25 (by decide) ?_
      obtain ⟨he1, he2, he3⟩ := prod3 hf
      rw [he2] at hP
      rw [he3] at hP
      refine W.widen (k := 3) (n := 222) (Nat.le_of_ble_eq_true rfl) (Nat.le_of_ble_eq_true rfl) ?_
      exact wr_iret hx hb hr hlk he1 hP hS dX0_read_26
    · have hf := oi_f c6 hf
      refine lv_iload_n hx hb dX0_read_21 rfl (lv_at hl 3 rfl) ?_
      refine lv_if_ge (tgt := 27) hx hb dX0_read_22 (by decide) (fun c7 => ?_) (fun c7 => ?_)
      · have hf := oi_t c7 hf
        refine lv_aload_n hx hb dX0_read_27 rfl (lv_at hl 0 rfl) ?_
        refine va_get (D := D) (cl := vwCl) (ci := 0) (v := .ref (ra 4 0)) (C := RX0) (T := TX0) (N := 15) hx hb hts in_X0 hown hK.1 hP 0 rfl rfl 13 (by decide) (hts _ q204) (fun _ h9 => h9) rfl dX0_read_28 ?_
        refine va_getN (D := D) (cl := vwCl) (ci := 1) (v := .ref (ra 4 1)) (C := RX1) (T := TX1) (N := 6) hx hb hts in_X1 hown hK.1 hP 7 rfl rfl 0 (by decide) (hK.nw 1 rfl) (fun _ h9 => h9) rfl dX0_read_31 ?_
        refine lv_lconst (v := 0) hx hb dX0_read_34 (by decide) ?_
        obtain ⟨g8, et9, hf⟩ := ob hf
        refine wr_callSv (As := [.ref (ra 4 1), .long (0 : Int64)]) (rest := []) ⟨hx, hb, hml, hown, hts⟩ (mJ7_fill l D k (ra 4 1) (rW rt) (0 : Int64) _ _ et9) (va_cwS 2 hts (lw_S q784 q785 q104 q786) rfl rfl rfl hdJ7_fill ⟨Nat.le_of_ble_eq_true rfl, Nat.le_of_ble_eq_true rfl⟩) hK hP hD hS hA [8] [0, 1, 2, 3, 4, 5, 6, 7, 9, 10, 11, 12, 13, 14, 15] (wN k xa ra xi rs ++ (wR k (ra 4) (rsW rt g8) ++ [(xa 3, .inl (k 6, 4, .inr (.inr (.inr (.inr (fun i => some (sa i))))))), (sa j, .inr (2, [.ref qa])), (qa, .inl (k 0, sn, .inr (.inl sg)))])) rfl rfl (fm_c (fm_e _ rfl rfl) (fm_c (fm_e _ rfl rfl) (fm_c (fm_e _ rfl rfl) (fm_c (fm_e _ rfl rfl) (fm_c (fm_e _ rfl rfl) (fm_c (fm_e _ rfl rfl) (fm_c (fm_e _ rfl rfl) (fm_c (fm_e _ rfl rfl) (fm_c (fm_e _ rfl rfl) (fm_c (fm_e _ rfl rfl) (fm_c (fm_e _ rfl rfl) (fm_c (fm_e _ rfl rfl) (fm_c (fm_e _ rfl rfl) (fm_c (fm_e _ rfl rfl) (fm_c (fm_e _ rfl rfl) fm_n))))))))))))))) 16 rfl (by decide) (by decide) [(xa 0), (ra 0 0), (ra 0 1), (ra 0 2), (ra 0 3), (ra 0 4), (ra 0 5), (ra 4 0), (ra 4 1), (ra 4 2), (ra 4 3), (ra 4 4), (ra 4 5), (xa 3), (sa j), qa] rfl rfl rfl hl.1 rfl (Nat.le_of_ble_eq_true rfl) dX0_read_35 ⟨Nat.le_of_ble_eq_true rfl, Nat.le_of_ble_eq_true rfl⟩ (fun H locs hP hD hS => ?_)
        refine lv_aload_n hx hb dX0_read_38 rfl (lv_at hl 0 rfl) ?_
        refine va_get (D := D) (cl := vwCl) (ci := 0) (v := .ref (ra 4 0)) (C := RX0) (T := TX0) (N := 15) hx hb hts in_X0 hown hK.1 hP 0 rfl rfl 13 (by decide) (hts _ q204) (fun _ h9 => h9) rfl dX0_read_39 ?_
        refine lv_iload hx hb dX0_read_42 (lv_at hl 4 rfl) ?_
        refine va_putN (D := D) (cl := vwCl) (ci := 1) (v := .int p4) (ty := .int) (C := RX1) (T := TX1) (N := 6) hx hb hts in_X1 tyX1 tyX1_ok nmX1 hown hK.1 hP hD hS 7 rfl rfl 1 (by decide) (hK.nw 2 rfl) (fun _ h9 => h9) rfl (by decide +kernel) rfl rfl (Nat.le_of_ble_eq_true rfl) dX0_read_44 (fun H locs hP hD hS => ?_)
        have hP : va_P D vwCl (wN k xa ra xi rs ++ (wR k (ra 4) (rsP (rsW rt g8) p4) ++ [(xa 3, .inl (k 6, 4, .inr (.inr (.inr (.inr (fun i => some (sa i))))))), (sa j, .inr (2, [.ref qa])), (qa, .inl (k 0, sn, .inr (.inl sg)))])) H := hP
        have hD : va_D A (wN k xa ra xi rs ++ (wR k (ra 4) (rsP (rsW rt g8) p4) ++ [(xa 3, .inl (k 6, 4, .inr (.inr (.inr (.inr (fun i => some (sa i))))))), (sa j, .inr (2, [.ref qa])), (qa, .inl (k 0, sn, .inr (.inl sg)))])) := hD
        refine lv_iconst (v := 0) hx hb dX0_read_47 (by decide) ?_
        refine lv_istore (lv' := [(5, .int (0 : Int32)), (0, .ref (xa 0)), (1, .int (nI j)), (2, .int p2), (3, .int p3), (4, .int p4)]) hx hb dX0_read_48 hl (by decide) rfl (fun ls hl => ?_)
        have hL50 : ∀ (nn : Nat) (rs_50 : RS) (rt_50 : RS) (x5_50 : Int32), ∀ (H : Heap) (locs : List Loc), va_P D vwCl (wN k xa ra xi rs_50 ++ (wR k (ra 4) rt_50 ++ [(xa 3, .inl (k 6, 4, .inr (.inr (.inr (.inr (fun i => some (sa i))))))), (sa j, .inr (2, [.ref qa])), (qa, .inl (k 0, sn, .inr (.inl sg)))])) H → va_D A (wN k xa ra xi rs_50 ++ (wR k (ra 4) rt_50 ++ [(xa 3, .inl (k 6, 4, .inr (.inr (.inr (.inr (fun i => some (sa i))))))), (sa j, .inr (2, [.ref qa])), (qa, .inl (k 0, sn, .inr (.inl sg)))])) → va_S A s.heap H locs → fX0_read_s3_L50 j sn sg p2 p3 p4 nn rs_50 rt_50 x5_50 = some (r, rs_o, rt_o) → ∀ ls : Array Slot, lv_has ls 6 [(0, .ref (xa 0)), (1, .int (nI j)), (2, .int p2), (3, .int p3), (4, .int p4), (5, .int x5_50)] → gW p l e rmX0_read_s3 s m [.ref (xa 0), .int (nI j), .int p2, .int p3, .int p4] below meth c (qcX0_read_s3 D k xa ra sa qa j sn xi rs_o rt_o sg r A) A 3 222 H locs 50 ls [] := by
          intro nn50
          induction nn50 with
          | zero =>
            intro rs_50 rt_50 x5_50 H locs hP hD hS hf
            rw [fX0_read_s3_L50] at hf; cases hf
          | succ nn50 ih50 =>
            intro rs_50 rt_50 x5_50 H locs hP hD hS hf ls hl
            rw [fX0_read_s3_L50] at hf
            refine lv_iload hx hb dX0_read_50 (lv_at hl 5 rfl) ?_
            refine lv_iload hx hb dX0_read_52 (lv_at hl 4 rfl) ?_
            refine lv_icmp_ge (tgt := 82) hx hb dX0_read_54 (by decide) (fun c10 => ?_) (fun c10 => ?_)
            · have hf := oi_t c10 hf
              refine lv_goto (tgt := 100) hx hb dX0_read_82 (by decide) ?_
              refine lv_aload_n hx hb dX0_read_100 rfl (lv_at hl 0 rfl) ?_
              obtain ⟨v11, ev11, hf⟩ := ob hf
              refine rd_callVZ (As := []) (rest := []) ⟨hx, hb, hml, hown, hts⟩ (mX0_isTree l D k xa ra xi rt_50  _ ev11) (cwV 0 hts (lw_V q902 q904 qs52 q90 q905) rfl rfl rfl ⟨rfl, hdX0_isTree⟩ ⟨Nat.le_of_ble_eq_true rfl, Nat.le_of_ble_eq_true rfl⟩) hK hP [0, 7, 8, 9, 10, 11, 12] rfl 0 0 rfl rfl rfl hl.1 rfl (Nat.le_of_ble_eq_true rfl) dX0_read_101 ⟨Nat.le_of_ble_eq_true rfl, Nat.le_of_ble_eq_true rfl⟩ (fun zv11 => ?_)
              refine lv_if_ne (tgt := 110) hx hb dX0_read_104 (by decide) (fun c13 => ?_) (fun c13 => ?_)
              · have hf := oi_f c13 hf
                refine lv_aload_n hx hb dX0_read_110 rfl (lv_at hl 0 rfl) ?_
                refine va_get (D := D) (cl := vwCl) (ci := 0) (v := .ref (ra 4 0)) (C := RX0) (T := TX0) (N := 15) hx hb hts in_X0 hown hK.1 hP 0 rfl rfl 13 (by decide) (hts _ q204) (fun _ h9 => h9) rfl dX0_read_111 ?_
                obtain ⟨g14, et15, hf⟩ := ob hf
                refine wr_callVv (As := []) (rest := []) ⟨hx, hb, hml, hown, hts⟩ (mX1_summariseAll l D k (ra 4) rt_50  _ _ et15) (cwV 0 hts (lw_V q168 q169 q170 q91 q171) rfl rfl rfl ⟨rfl, hdX1_summariseAll⟩ ⟨Nat.le_of_ble_eq_true rfl, Nat.le_of_ble_eq_true rfl⟩) hK hP hD hS hA [7, 8, 9, 10, 11, 12] [0, 1, 2, 3, 4, 5, 6, 13, 14, 15] (wN k xa ra xi rs_50 ++ (wR k (ra 4) g14 ++ [(xa 3, .inl (k 6, 4, .inr (.inr (.inr (.inr (fun i => some (sa i))))))), (sa j, .inr (2, [.ref qa])), (qa, .inl (k 0, sn, .inr (.inl sg)))])) rfl rfl (fm_c (fm_e _ rfl rfl) (fm_c (fm_e _ rfl rfl) (fm_c (fm_e _ rfl rfl) (fm_c (fm_e _ rfl rfl) (fm_c (fm_e _ rfl rfl) (fm_c (fm_e _ rfl rfl) (fm_c (fm_e _ rfl rfl) (fm_c (fm_e _ rfl rfl) (fm_c (fm_e _ rfl rfl) (fm_c (fm_e _ rfl rfl) fm_n)))))))))) 16 rfl (by decide) (by decide) [(xa 0), (ra 0 0), (ra 0 1), (ra 0 2), (ra 0 3), (ra 0 4), (ra 0 5), (ra 4 0), (ra 4 1), (ra 4 2), (ra 4 3), (ra 4 4), (ra 4 5), (xa 3), (sa j), qa] rfl rfl 7 1 rfl rfl rfl hl.1 rfl (Nat.le_of_ble_eq_true rfl) dX0_read_114 ⟨Nat.le_of_ble_eq_true rfl, Nat.le_of_ble_eq_true rfl⟩ (fun H locs hP hD hS => ?_)
                refine lv_aload_n hx hb dX0_read_117 rfl (lv_at hl 0 rfl) ?_
                refine va_get (D := D) (cl := vwCl) (ci := 0) (v := .ref (ra 0 0)) (C := RX0) (T := TX0) (N := 15) hx hb hts in_X0 hown hK.1 hP 0 rfl rfl 0 (by decide) (hts _ q190) (fun _ h9 => h9) rfl dX0_read_118 ?_
                refine lv_aload_n hx hb dX0_read_121 rfl (lv_at hl 0 rfl) ?_
                refine va_get (D := D) (cl := vwCl) (ci := 0) (v := .ref (ra 4 0)) (C := RX0) (T := TX0) (N := 15) hx hb hts in_X0 hown hK.1 hP 0 rfl rfl 13 (by decide) (hts _ q204) (fun _ h9 => h9) rfl dX0_read_122 ?_
                obtain ⟨g16, et17, hf⟩ := ob hf
                refine wr_callVv (As := [.ref (ra 4 0)]) (rest := []) ⟨hx, hb, hml, hown, hts⟩ (mX1_as l D k (ra 0) (ra 4) rs_50 g14  _ _ et17) (cwV 1 hts (lw_V q406 q407 q408 q91 q409) rfl rfl rfl ⟨rfl, hdX1_as⟩ ⟨Nat.le_of_ble_eq_true rfl, Nat.le_of_ble_eq_true rfl⟩) hK hP hD hS hA [1, 2, 3, 4, 5, 6, 7, 8, 9, 10, 11, 12] [0, 13, 14, 15] (wN k xa ra xi g16 ++ (wR k (ra 4) g14 ++ [(xa 3, .inl (k 6, 4, .inr (.inr (.inr (.inr (fun i => some (sa i))))))), (sa j, .inr (2, [.ref qa])), (qa, .inl (k 0, sn, .inr (.inl sg)))])) rfl rfl (fm_c (fm_e _ rfl rfl) (fm_c (fm_e _ rfl rfl) (fm_c (fm_e _ rfl rfl) (fm_c (fm_e _ rfl rfl) fm_n)))) 16 rfl (by decide) (by decide) [(xa 0), (ra 0 0), (ra 0 1), (ra 0 2), (ra 0 3), (ra 0 4), (ra 0 5), (ra 4 0), (ra 4 1), (ra 4 2), (ra 4 3), (ra 4 4), (ra 4 5), (xa 3), (sa j), qa] rfl rfl 1 1 rfl rfl rfl hl.1 rfl (Nat.le_of_ble_eq_true rfl) dX0_read_125 ⟨Nat.le_of_ble_eq_true rfl, Nat.le_of_ble_eq_true rfl⟩ (fun H locs hP hD hS => ?_)
                refine lv_aload_n hx hb dX0_read_128 rfl (lv_at hl 0 rfl) ?_
                obtain ⟨v18, ev18, hf⟩ := ob hf
                refine rd_callV (As := []) (rest := []) ⟨hx, hb, hml, hown, hts⟩ (mX0_nodes l D k xa ra xi g16  _ ev18) (cwV 0 hts (lw_V q421 q423 qs7 q90 q424) rfl rfl rfl ⟨rfl, hdX0_nodes⟩ ⟨Nat.le_of_ble_eq_true rfl, Nat.le_of_ble_eq_true rfl⟩) hK hP [0, 1, 2, 3, 4, 5, 6] rfl 0 0 rfl rfl rfl hl.1 rfl (Nat.le_of_ble_eq_true rfl) dX0_read_129 ⟨Nat.le_of_ble_eq_true rfl, Nat.le_of_ble_eq_true rfl⟩ ?_
                obtain ⟨he1, he2, he3⟩ := prod3 hf
                rw [he2] at hP
                rw [he3] at hP
                refine W.widen (k := 3) (n := 222) (Nat.le_of_ble_eq_true rfl) (Nat.le_of_ble_eq_true rfl) ?_
                exact wr_iret hx hb hr hlk he1 hP hS dX0_read_132
              · have hf := oi_t c13 hf
                refine lv_bipush (v := (-2)) hx hb dX0_read_107 (by decide) ?_
                obtain ⟨he1, he2, he3⟩ := prod3 hf
                rw [he2] at hP
                rw [he3] at hP
                refine W.widen (k := 3) (n := 222) (Nat.le_of_ble_eq_true rfl) (Nat.le_of_ble_eq_true rfl) ?_
                exact wr_iret hx hb hr hlk he1 hP hS dX0_read_109
            · have hf := oi_f c10 hf
              refine lv_aload_n hx hb dX0_read_57 rfl (lv_at hl 0 rfl) ?_
              refine va_get (D := D) (cl := vwCl) (ci := 0) (v := .ref (ra 4 0)) (C := RX0) (T := TX0) (N := 15) hx hb hts in_X0 hown hK.1 hP 0 rfl rfl 13 (by decide) (hts _ q204) (fun _ h9 => h9) rfl dX0_read_58 ?_
              refine lv_iload hx hb dX0_read_61 (lv_at hl 5 rfl) ?_
              refine lv_aload_n hx hb dX0_read_63 rfl (lv_at hl 0 rfl) ?_
              refine lv_iload_n hx hb dX0_read_64 rfl (lv_at hl 1 rfl) ?_
              refine lv_iload_n hx hb dX0_read_65 rfl (lv_at hl 2 rfl) ?_
              refine lv_iload_n hx hb dX0_read_66 rfl (lv_at hl 3 rfl) ?_
              refine lv_iload hx hb dX0_read_67 (lv_at hl 5 rfl) ?_
              refine lv_iadd hx hb dX0_read_69 ?_
              by_cases c20 : fX0_isBit_s3x j sn sg p2 (p3 + x5_50) = some 3
              · have hf := oi_t c20 hf
                refine wx_excV (As := [.int (nI j), .int p2, .int (p3 + x5_50)]) (rest := [.int x5_50, .ref (ra 4 0)]) ⟨hx, hb, hml, hown, hts⟩ (mX0_isBit_s3x l hst D k xa ra sa qa j sn hj hsn xi sg p2 (p3 + x5_50) _ 3 c20) (cwV 3 hts (lw_V q895 q897 qs51 q90 q898) rfl rfl rfl ⟨rfl, hdX0_isBit_s3x⟩ ⟨Nat.le_of_ble_eq_true rfl, Nat.le_of_ble_eq_true rfl⟩) hK hZ hP hD hS hA [0, 13, 14, 15] [1, 2, 3, 4, 5, 6, 7, 8, 9, 10, 11, 12] rfl 16 rfl (by decide) (by decide) 0 0 rfl rfl rfl hl.1 rfl (Nat.le_of_ble_eq_true rfl) dX0_read_70 ⟨Nat.le_of_ble_eq_true rfl, Nat.le_of_ble_eq_true rfl⟩ (fun H locs q9 ce hP hD hS hc9 hv9 hcl9 => ?_)
                refine vx_catch hown [_] _ _ (hexc.trans rfl) (fm_c (Or.inr ⟨by decide, "java/lang/NullPointerException", hts _ q825, hK.nc 8 rfl⟩) fm_n) rfl (by decide) (hts _ q880) (hK.nw 18 rfl) hc9 hv9 hcl9 ?_
                refine lv_astore (lv' := [(5, .ref q9), (0, .ref (xa 0)), (1, .int (nI j)), (2, .int p2), (3, .int p3), (4, .int p4)]) hx hb dX0_read_90 hl (by decide) rfl (fun ls hl => ?_)
                refine lv_bipush (v := (-13)) hx hb dX0_read_92 (by decide) ?_
                obtain ⟨he1, he2, he3⟩ := prod3 hf
                rw [he2] at hP
                rw [he3] at hP
                refine W.widen (k := 3) (n := 222) (Nat.le_of_ble_eq_true rfl) (Nat.le_of_ble_eq_true rfl) ?_
                exact wr_iret hx hb hr hlk he1 hP hS dX0_read_94
              have hf := oi_f c20 hf
              by_cases c21 : fX0_isBit_s3x j sn sg p2 (p3 + x5_50) = some 2
              · have hf := oi_t c21 hf
                refine wx_excV (As := [.int (nI j), .int p2, .int (p3 + x5_50)]) (rest := [.int x5_50, .ref (ra 4 0)]) ⟨hx, hb, hml, hown, hts⟩ (mX0_isBit_s3x l hst D k xa ra sa qa j sn hj hsn xi sg p2 (p3 + x5_50) _ 2 c21) (cwV 3 hts (lw_V q895 q897 qs51 q90 q898) rfl rfl rfl ⟨rfl, hdX0_isBit_s3x⟩ ⟨Nat.le_of_ble_eq_true rfl, Nat.le_of_ble_eq_true rfl⟩) hK hZ hP hD hS hA [0, 13, 14, 15] [1, 2, 3, 4, 5, 6, 7, 8, 9, 10, 11, 12] rfl 16 rfl (by decide) (by decide) 0 0 rfl rfl rfl hl.1 rfl (Nat.le_of_ble_eq_true rfl) dX0_read_70 ⟨Nat.le_of_ble_eq_true rfl, Nat.le_of_ble_eq_true rfl⟩ (fun H locs q9 ce hP hD hS hc9 hv9 hcl9 => ?_)
                refine vx_catch hown [_, _] _ _ (hexc.trans rfl) (fm_c (Or.inr ⟨by decide, "java/lang/NullPointerException", hts _ q825, hK.nc 6 rfl⟩) (fm_c (Or.inr ⟨by decide, "java/lang/ClassCastException", hts _ q880, hK.nc 7 rfl⟩) fm_n)) rfl (by decide) (hts _ q850) (hK.nw 17 rfl) hc9 hv9 hcl9 ?_
                refine lv_astore (lv' := [(5, .ref q9), (0, .ref (xa 0)), (1, .int (nI j)), (2, .int p2), (3, .int p3), (4, .int p4)]) hx hb dX0_read_95 hl (by decide) rfl (fun ls hl => ?_)
                refine lv_bipush (v := (-12)) hx hb dX0_read_97 (by decide) ?_
                obtain ⟨he1, he2, he3⟩ := prod3 hf
                rw [he2] at hP
                rw [he3] at hP
                refine W.widen (k := 3) (n := 222) (Nat.le_of_ble_eq_true rfl) (Nat.le_of_ble_eq_true rfl) ?_
                exact wr_iret hx hb hr hlk he1 hP hS dX0_read_99
              have hf := oi_f c21 hf
              obtain ⟨v22, ev22, hf⟩ := ob hf
              refine rd_callVZ (As := [.int (nI j), .int p2, .int (p3 + x5_50)]) (rest := [.int x5_50, .ref (ra 4 0)]) ⟨hx, hb, hml, hown, hts⟩ (mX0_isBit_s3 l D k xa ra sa qa j sn hj hsn xi sg p2 (p3 + x5_50) _ ev22) (cwV 3 hts (lw_V q895 q897 qs51 q90 q898) rfl rfl rfl ⟨rfl, hdX0_isBit_s3⟩ ⟨Nat.le_of_ble_eq_true rfl, Nat.le_of_ble_eq_true rfl⟩) hK hP [0, 13, 14, 15] rfl 0 0 rfl rfl rfl hl.1 rfl (Nat.le_of_ble_eq_true rfl) dX0_read_70 ⟨Nat.le_of_ble_eq_true rfl, Nat.le_of_ble_eq_true rfl⟩ (fun zv22 => ?_)
              obtain ⟨g24, et25, hf⟩ := ob hf
              refine wr_callVv (As := [.int x5_50, .int v22]) (rest := []) ⟨hx, hb, hml, hown, hts⟩ (mX1_becomes l D k (ra 4) rt_50 x5_50 v22 _ _ et25) (cwV 2 hts (lw_V q725 q397 q398 q91 q399) rfl rfl rfl ⟨rfl, hdX1_becomes⟩ ⟨Nat.le_of_ble_eq_true rfl, Nat.le_of_ble_eq_true rfl⟩) hK hP hD hS hA [7, 8, 9, 10, 11, 12] [0, 1, 2, 3, 4, 5, 6, 13, 14, 15] (wN k xa ra xi rs_50 ++ (wR k (ra 4) g24 ++ [(xa 3, .inl (k 6, 4, .inr (.inr (.inr (.inr (fun i => some (sa i))))))), (sa j, .inr (2, [.ref qa])), (qa, .inl (k 0, sn, .inr (.inl sg)))])) rfl rfl (fm_c (fm_e _ rfl rfl) (fm_c (fm_e _ rfl rfl) (fm_c (fm_e _ rfl rfl) (fm_c (fm_e _ rfl rfl) (fm_c (fm_e _ rfl rfl) (fm_c (fm_e _ rfl rfl) (fm_c (fm_e _ rfl rfl) (fm_c (fm_e _ rfl rfl) (fm_c (fm_e _ rfl rfl) (fm_c (fm_e _ rfl rfl) fm_n)))))))))) 16 rfl (by decide) (by decide) [(xa 0), (ra 0 0), (ra 0 1), (ra 0 2), (ra 0 3), (ra 0 4), (ra 0 5), (ra 4 0), (ra 4 1), (ra 4 2), (ra 4 3), (ra 4 4), (ra 4 5), (xa 3), (sa j), qa] rfl rfl 7 1 rfl rfl rfl hl.1 rfl (Nat.le_of_ble_eq_true rfl) dX0_read_73 ⟨Nat.le_of_ble_eq_true rfl, Nat.le_of_ble_eq_true rfl⟩ (fun H locs hP hD hS => ?_)
              refine lv_iinc (v := (x5_50 + 1)) (lv' := [(5, .int (x5_50 + 1)), (0, .ref (xa 0)), (1, .int (nI j)), (2, .int p2), (3, .int p3), (4, .int p4)]) hx hb dX0_read_76 hl (k := 5) rfl rfl (by decide) rfl (fun ls hl => ?_)
              refine lv_goto (tgt := 50) hx hb dX0_read_79 (by decide) ?_
              exact ih50 rs_50 g24 (x5_50 + 1) H locs hP hD hS hf ls (lv_sub hl [1, 2, 3, 4, 5, 0] rfl)
        exact hL50 FU rs (rsP (rsW rt g8) p4) (0 : Int32) H locs hP hD hS hf ls (lv_sub hl [1, 2, 3, 4, 5, 0] rfl)
      · have hf := oi_f c7 hf
        refine lv_iconst (v := (-1)) hx hb dX0_read_25 (by decide) ?_
        obtain ⟨he1, he2, he3⟩ := prod3 hf
        rw [he2] at hP
        rw [he3] at hP
        refine W.widen (k := 3) (n := 222) (Nat.le_of_ble_eq_true rfl) (Nat.le_of_ble_eq_true rfl) ?_
        exact wr_iret hx hb hr hlk he1 hP hS dX0_read_26

abbrev rmX0_count_s3 : Room := { frames := 1, cells := 0, slots := 0, locals := 21 }
theorem hdX0_count_s3 : yX0_count.cls ≠ "java/lang/invoke/MethodHandle" ∧ yX0_count.cls ≠ "java/lang/invoke/VarHandle" ∧ (parseMethodDescriptor yX0_count.desc).map (fun d => d.parameters.length) = some 1 := by decide +kernel
set_option maxHeartbeats 4000000 in
theorem mX0_count_s3 (l : Launch) (D : va_G) (k : Nat → ClassId) (xa : Nat → Nat) (ra : Nat → Nat → Nat) (sa : Nat → Nat) (qa : Nat) (sn : Nat) (hsn : sn < 2 ^ 31) (xi : Nat → Int32) (rs : RS) (sg : Nat → Int64) (p1 : Int32) (r : Int32) (hf : fX0_count_s3 sn xi rs p1 = some r) : CtI l yX0_count cX0_count 10 rmX0_count_s3 [.ref (xa 0), .int p1] D k (wN k xa ra xi rs ++ [(xa 3, .inl (k 6, 4, .inr (.inr (.inr (.inr (fun i => some (sa i))))))), (sa 0, .inr (2, [.ref qa])), (qa, .inl (k 0, sn, .inr (.inl sg)))]) r := by
  refine rd_start (by decide +kernel) (Nat.le_of_ble_eq_true rfl) ?_
  intro p e s m below meth c ls hx hb hr hlk hml hown hts hP hK hl
  have hl : lv_has ls 10 [(0, .ref (xa 0)), (1, .int p1)] := hl
  have hown : s.vm.findClass RX0 = some m.cls := hown
  unfold fX0_count_s3 at hf
  refine lv_aload_n hx hb dX0_count_0 rfl (lv_at hl 0 rfl) ?_
  refine va_get (D := D) (cl := vwCl) (ci := 0) (v := .ref (xa 3)) (C := RX0) (T := TX0) (N := 15) hx hb hts in_X0 hown hK.1 hP 0 rfl rfl 12 (by decide) (hts _ q203) (fun _ h9 => h9) rfl dX0_count_1 ?_
  refine lv_iconst (v := 0) hx hb dX0_count_4 (by decide) ?_
  refine x_aald hx hb hK hP 7 6 (j := 0) (n := 4) rfl (by decide) (by decide) rfl rfl rfl dX0_count_5 ?_
  refine va_getN (D := D) (cl := vwCl) (ci := 2) (v := .ref qa) (C := RX2) (T := TX2) (N := 1) hx hb hts in_X2 hown hK.1 hP 8 rfl rfl 0 (by decide) (hK.nw 8 rfl) (fun _ h9 => h9) rfl dX0_count_6 ?_
  refine lv_astore_n (lv' := [(2, .ref qa), (0, .ref (xa 0)), (1, .int p1)]) hx hb dX0_count_9 rfl hl (by decide) rfl (fun ls hl => ?_)
  refine lv_aload_n hx hb dX0_count_10 rfl (lv_at hl 0 rfl) ?_
  refine x_instN (na := "[J") hx hb hK hown (hts _ q869) hP 9 0 rfl rfl (by decide +kernel) (hK.nc 4 rfl) dX0_count_11 ?_
  refine lv_if_eq (tgt := 25) hx hb dX0_count_14 (by decide) (fun _ => ?_) (fun c9 => absurd c9 (by decide))
  refine lv_aload_n hx hb dX0_count_25 rfl (lv_at hl 0 rfl) ?_
  refine x_instN (na := "[J") hx hb hK hown (hts _ q870) hP 9 0 rfl rfl (by decide +kernel) (hK.nc 5 rfl) dX0_count_26 ?_
  refine lv_if_eq (tgt := 40) hx hb dX0_count_29 (by decide) (fun _ => ?_) (fun c9 => absurd c9 (by decide))
  refine lv_aload_n hx hb dX0_count_40 rfl (lv_at hl 0 rfl) ?_
  refine x_instA hx hb hK hown (hts _ q871) hP 9 0 rfl rfl (by decide +kernel) dX0_count_41 ?_
  refine lv_if_eq (tgt := 55) hx hb dX0_count_44 (by decide) (fun c9 => absurd c9 (by decide)) (fun _ => ?_)
  refine lv_aload_n hx hb dX0_count_47 rfl (lv_at hl 0 rfl) ?_
  refine x_castA hx hb hK hown (hts _ q871) hP 9 0 rfl rfl (by decide +kernel) dX0_count_48 ?_
  refine va_alen hx hb hK.1 hP 9 0 rfl rfl rfl dX0_count_51 ?_
  refine lv_goto (tgt := 57) hx hb dX0_count_52 (by decide) ?_
  have hB57 : ∀ (s0_57 : Int32), fX0_count_s3_B57 sn xi rs p1 s0_57 = some r → ∀ ls : Array Slot, lv_has ls 10 [(0, .ref (xa 0)), (1, .int p1)] → gR p l e rmX0_count_s3 s m [.ref (xa 0), .int p1] below meth c (vp_Si (fun x => x = r)) 57 ls [.int s0_57] := by
    intro s0_57 hf ls hl
    unfold fX0_count_s3_B57 at hf
    refine lv_istore_n (lv' := [(3, .int s0_57), (0, .ref (xa 0)), (1, .int p1)]) hx hb dX0_count_57 rfl hl (by decide) rfl (fun ls hl => ?_)
    refine lv_iconst (v := 0) hx hb dX0_count_58 (by decide) ?_
    refine lv_istore (lv' := [(4, .int (0 : Int32)), (3, .int s0_57), (0, .ref (xa 0)), (1, .int p1)]) hx hb dX0_count_59 hl (by decide) rfl (fun ls hl => ?_)
    refine lv_aload_n hx hb dX0_count_61 rfl (lv_at hl 2 rfl) ?_
    refine va_get (D := D) (cl := vwCl) (ci := 0) (v := .ref (ra 0 0)) (C := RX0) (T := TX0) (N := 15) hx hb hts in_X0 hown hK.1 hP 0 rfl rfl 0 (by decide) (hts _ q190) (fun _ h9 => h9) rfl dX0_count_62 ?_
    refine va_getN (D := D) (cl := vwCl) (ci := 1) (v := .ref (ra 0 1)) (C := RX1) (T := TX1) (N := 6) hx hb hts in_X1 hown hK.1 hP 1 rfl rfl 0 (by decide) (hK.nw 1 rfl) (fun _ h9 => h9) rfl dX0_count_65 ?_
    refine lv_astore (lv' := [(5, .ref (ra 0 1)), (4, .int (0 : Int32)), (3, .int s0_57), (0, .ref (xa 0)), (1, .int p1)]) hx hb dX0_count_68 hl (by decide) rfl (fun ls hl => ?_)
    refine lv_aload hx hb dX0_count_70 (lv_at hl 0 rfl) ?_
    refine va_alen hx hb hK.1 hP 2 0 rfl rfl rfl dX0_count_72 ?_
    refine lv_istore (lv' := [(6, .int (2 : Int32)), (5, .ref (ra 0 1)), (4, .int (0 : Int32)), (3, .int s0_57), (0, .ref (xa 0)), (1, .int p1)]) hx hb dX0_count_73 hl (by decide) rfl (fun ls hl => ?_)
    refine lv_iconst (v := 0) hx hb dX0_count_75 (by decide) ?_
    refine lv_istore (lv' := [(7, .int (0 : Int32)), (6, .int (2 : Int32)), (5, .ref (ra 0 1)), (4, .int (0 : Int32)), (3, .int s0_57), (0, .ref (xa 0)), (1, .int p1)]) hx hb dX0_count_76 hl (by decide) rfl (fun ls hl => ?_)
    have hL78 : ∀ (nn : Nat) (x3_78 : Int32) (x4_78 : Int32) (x6_78 : Int32) (x7_78 : Int32), fX0_count_s3_L78 sn xi rs p1 nn x3_78 x4_78 x6_78 x7_78 = some r → ∀ ls : Array Slot, lv_has ls 10 [(0, .ref (xa 0)), (1, .int p1), (3, .int x3_78), (4, .int x4_78), (5, .ref (ra 0 1)), (6, .int x6_78), (7, .int x7_78)] → gR p l e rmX0_count_s3 s m [.ref (xa 0), .int p1] below meth c (vp_Si (fun x => x = r)) 78 ls [] := by
      intro nn78
      induction nn78 with
      | zero =>
        intro x3_78 x4_78 x6_78 x7_78 hf
        rw [fX0_count_s3_L78] at hf; cases hf
      | succ nn78 ih78 =>
        intro x3_78 x4_78 x6_78 x7_78 hf ls hl
        rw [fX0_count_s3_L78] at hf
        refine lv_iload hx hb dX0_count_78 (lv_at hl 6 rfl) ?_
        refine lv_iload hx hb dX0_count_80 (lv_at hl 5 rfl) ?_
        refine lv_icmp_ge (tgt := 112) hx hb dX0_count_82 (by decide) (fun c1 => ?_) (fun c1 => ?_)
        · have hf := oi_t c1 hf
          refine lv_iload_n hx hb dX0_count_112 rfl (lv_at hl 1 rfl) ?_
          by_cases c2 : p1 = 0
          · have hf := oi_t c2 hf
            refine lv_tableIn (off := 31) (tgt := 144) hx hb dX0_count_113 (by rw [c2]; decide) (by rw [c2]; decide) (by rw [c2]; rfl) (by decide) ?_
            refine lv_aload_n hx hb dX0_count_144 rfl (lv_at hl 0 rfl) ?_
            refine va_get (D := D) (cl := vwCl) (ci := 0) (v := .int (xi 0)) (C := RX0) (T := TX0) (N := 15) hx hb hts in_X0 hown hK.1 hP 0 rfl rfl 2 (by decide) (hts _ q192) (fun _ h9 => h9) rfl dX0_count_145 ?_
            obtain ⟨v3, ev3, hf⟩ := ob hf
            refine rd_callS (As := [.int (xi 0)]) (rest := []) ⟨hx, hb, hml, hown, hts⟩ (mJ13_bitCount l D k   (xi 0) _ ev3) (va_cwS 1 hts (lw_S q926 q927 q110 q928) rfl rfl rfl hdJ13_bitCount ⟨Nat.le_of_ble_eq_true rfl, Nat.le_of_ble_eq_true rfl⟩) hK rfl hl.1 rfl (Nat.le_of_ble_eq_true rfl) dX0_count_148 ⟨Nat.le_of_ble_eq_true rfl, Nat.le_of_ble_eq_true rfl⟩ ?_
            exact rd_iret hx hb hr hlk (Option.some.inj hf) dX0_count_151
          have hf := oi_f c2 hf
          by_cases c5 : p1 = 1
          · have hf := oi_t c5 hf
            refine lv_tableIn (off := 39) (tgt := 152) hx hb dX0_count_113 (by rw [c5]; decide) (by rw [c5]; decide) (by rw [c5]; rfl) (by decide) ?_
            refine lv_aload_n hx hb dX0_count_152 rfl (lv_at hl 0 rfl) ?_
            refine va_get (D := D) (cl := vwCl) (ci := 0) (v := .int (xi 6)) (C := RX0) (T := TX0) (N := 15) hx hb hts in_X0 hown hK.1 hP 0 rfl rfl 9 (by decide) (hts _ q200) (fun _ h9 => h9) rfl dX0_count_153 ?_
            exact rd_iret hx hb hr hlk (Option.some.inj hf) dX0_count_156
          have hf := oi_f c5 hf
          by_cases c6 : p1 = 2
          · have hf := oi_t c6 hf
            refine lv_tableIn (off := 44) (tgt := 157) hx hb dX0_count_113 (by rw [c6]; decide) (by rw [c6]; decide) (by rw [c6]; rfl) (by decide) ?_
            refine lv_iload_n hx hb dX0_count_157 rfl (lv_at hl 2 rfl) ?_
            exact rd_iret hx hb hr hlk (Option.some.inj hf) dX0_count_158
          have hf := oi_f c6 hf
          by_cases c7 : p1 = 3
          · have hf := oi_t c7 hf
            refine lv_tableIn (off := 46) (tgt := 159) hx hb dX0_count_113 (by rw [c7]; decide) (by rw [c7]; decide) (by rw [c7]; rfl) (by decide) ?_
            refine lv_iload hx hb dX0_count_159 (lv_at hl 3 rfl) ?_
            exact rd_iret hx hb hr hlk (Option.some.inj hf) dX0_count_161
          have hf := oi_f c7 hf
          refine lv_tableOut (tgt := 162) hx hb dX0_count_113 (tb_out4 c2 c5 c6 c7) (by decide) ?_
          refine lv_iconst (v := (-1)) hx hb dX0_count_162 (by decide) ?_
          exact rd_iret hx hb hr hlk (Option.some.inj hf) dX0_count_163
        · have hf := oi_f c1 hf
          refine lv_aload hx hb dX0_count_85 (lv_at hl 4 rfl) ?_
          refine lv_iload hx hb dX0_count_87 (lv_at hl 6 rfl) ?_
          obtain ⟨v8, ev8, hf⟩ := ob hf
          refine x_lald hx hb hK hP 2 0 ev8 rfl rfl dX0_count_89 ?_
          refine lv_lstore (lv' := [(8, .long v8), (0, .ref (xa 0)), (1, .int p1), (3, .int x3_78), (4, .int x4_78), (5, .ref (ra 0 1)), (6, .int x6_78), (7, .int x7_78)]) hx hb dX0_count_90 hl (by decide) rfl (fun ls hl => ?_)
          refine lv_iload hx hb dX0_count_92 (lv_at hl 4 rfl) ?_
          refine lv_lload hx hb dX0_count_94 (lv_at hl 0 rfl) ?_
          refine lv_ldc2 hx hb hown (hts _ q924) dX0_count_96 ?_
          refine lv_land hx hb dX0_count_99 ?_
          obtain ⟨v9, ev9, hf⟩ := ob hf
          refine rd_callS (As := [.long (v8 &&& (-6148914691236517206 : Int64))]) (rest := [.int x4_78]) ⟨hx, hb, hml, hown, hts⟩ (mJ3_bitCount l D k   (v8 &&& (-6148914691236517206 : Int64)) _ ev9) (va_cwS 1 hts (lw_S q925 q434 q100 q435) rfl rfl rfl hdJ3_bitCount ⟨Nat.le_of_ble_eq_true rfl, Nat.le_of_ble_eq_true rfl⟩) hK rfl hl.1 rfl (Nat.le_of_ble_eq_true rfl) dX0_count_100 ⟨Nat.le_of_ble_eq_true rfl, Nat.le_of_ble_eq_true rfl⟩ ?_
          refine lv_iadd hx hb dX0_count_103 ?_
          obtain ⟨y11, ey11, hf⟩ := ob hf
          refine x_asI ey11 ?_
          refine lv_istore (lv' := [(4, .int y11), (8, .long v8), (0, .ref (xa 0)), (1, .int p1), (3, .int x3_78), (5, .ref (ra 0 1)), (6, .int x6_78), (7, .int x7_78)]) hx hb dX0_count_104 hl (by decide) rfl (fun ls hl => ?_)
          refine lv_iinc (v := (x7_78 + 1)) (lv' := [(7, .int (x7_78 + 1)), (4, .int y11), (8, .long v8), (0, .ref (xa 0)), (1, .int p1), (3, .int x3_78), (5, .ref (ra 0 1)), (6, .int x6_78)]) hx hb dX0_count_106 hl (k := 7) rfl rfl (by decide) rfl (fun ls hl => ?_)
          refine lv_goto (tgt := 78) hx hb dX0_count_109 (by decide) ?_
          exact ih78 x3_78 y11 x6_78 (x7_78 + 1) hf ls (lv_sub hl [3, 4, 5, 1, 6, 7, 0] rfl)
    exact hL78 FU s0_57 (0 : Int32) (2 : Int32) (0 : Int32) hf ls (lv_sub hl [5, 6, 4, 3, 2, 1, 0] rfl)
  exact hB57 (Int32.ofNat sn) hf ls (lv_sub hl [1, 2] rfl)

abbrev rmX0_sumBelow : Room := { frames := 7, cells := 0, slots := 0, locals := 158 }
theorem hdX0_sumBelow : yX0_sumBelow.cls ≠ "java/lang/invoke/MethodHandle" ∧ yX0_sumBelow.cls ≠ "java/lang/invoke/VarHandle" ∧ (parseMethodDescriptor yX0_sumBelow.desc).map (fun d => d.parameters.length) = some 1 := by decide +kernel
set_option maxHeartbeats 4000000 in
theorem mX0_sumBelow (l : Launch) (D : va_G) (k : Nat → ClassId) (xa : Nat → Nat) (ra : Nat → Nat → Nat) (xi : Nat → Int32) (rs : RS) (p1 : Int32) (r : Int32) (hf : fX0_sumBelow rs p1 = some r) : CtI l yX0_sumBelow cX0_sumBelow 4 rmX0_sumBelow [.ref (xa 0), .int p1] D k (wN k xa ra xi rs) r := by
  refine rd_start (by decide +kernel) (Nat.le_of_ble_eq_true rfl) ?_
  intro p e s m below meth c ls hx hb hr hlk hml hown hts hP hK hl
  have hl : lv_has ls 4 [(0, .ref (xa 0)), (1, .int p1)] := hl
  have hown : s.vm.findClass RX0 = some m.cls := hown
  unfold fX0_sumBelow at hf
  refine lv_iconst (v := 0) hx hb dX0_sumBelow_0 (by decide) ?_
  refine lv_istore_n (lv' := [(2, .int (0 : Int32)), (0, .ref (xa 0)), (1, .int p1)]) hx hb dX0_sumBelow_1 rfl hl (by decide) rfl (fun ls hl => ?_)
  refine lv_iload_n hx hb dX0_sumBelow_2 rfl (lv_at hl 2 rfl) ?_
  refine lv_istore_n (lv' := [(3, .int p1), (2, .int (0 : Int32)), (0, .ref (xa 0)), (1, .int p1)]) hx hb dX0_sumBelow_3 rfl hl (by decide) rfl (fun ls hl => ?_)
  have hL4 : ∀ (nn : Nat) (x2_4 : Int32) (x3_4 : Int32), fX0_sumBelow_L4 rs p1 nn x2_4 x3_4 = some r → ∀ ls : Array Slot, lv_has ls 4 [(0, .ref (xa 0)), (1, .int p1), (2, .int x2_4), (3, .int x3_4)] → gR p l e rmX0_sumBelow s m [.ref (xa 0), .int p1] below meth c (vp_Si (fun x => x = r)) 4 ls [] := by
    intro nn4
    induction nn4 with
    | zero =>
      intro x2_4 x3_4 hf
      rw [fX0_sumBelow_L4] at hf; cases hf
    | succ nn4 ih4 =>
      intro x2_4 x3_4 hf ls hl
      rw [fX0_sumBelow_L4] at hf
      refine lv_iload_n hx hb dX0_sumBelow_4 rfl (lv_at hl 3 rfl) ?_
      refine lv_iload_n hx hb dX0_sumBelow_5 rfl (lv_at hl 1 rfl) ?_
      refine lv_aload_n hx hb dX0_sumBelow_6 rfl (lv_at hl 0 rfl) ?_
      refine lv_iload_n hx hb dX0_sumBelow_7 rfl (lv_at hl 1 rfl) ?_
      obtain ⟨v1, ev1, hf⟩ := ob hf
      refine rd_callV (As := [.int p1]) (rest := [.int p1, .int x3_4]) ⟨hx, hb, hml, hown, hts⟩ (mX0_sizeOf l D k xa ra xi rs p1 _ ev1) (cwV 1 hts (lw_V q578 q580 qs30 q90 q581) rfl rfl rfl ⟨rfl, hdX0_sizeOf⟩ ⟨Nat.le_of_ble_eq_true rfl, Nat.le_of_ble_eq_true rfl⟩) hK hP [0, 1, 2, 3, 4, 5, 6] rfl 0 0 rfl rfl rfl hl.1 rfl (Nat.le_of_ble_eq_true rfl) dX0_sumBelow_8 ⟨Nat.le_of_ble_eq_true rfl, Nat.le_of_ble_eq_true rfl⟩ ?_
      refine lv_iadd hx hb dX0_sumBelow_11 ?_
      refine lv_icmp_ge (tgt := 35) hx hb dX0_sumBelow_12 (by decide) (fun c3 => ?_) (fun c3 => ?_)
      · have hf := oi_t c3 hf
        refine lv_iload_n hx hb dX0_sumBelow_35 rfl (lv_at hl 2 rfl) ?_
        exact rd_iret hx hb hr hlk (Option.some.inj hf) dX0_sumBelow_36
      · have hf := oi_f c3 hf
        refine lv_iload_n hx hb dX0_sumBelow_15 rfl (lv_at hl 2 rfl) ?_
        refine lv_aload_n hx hb dX0_sumBelow_16 rfl (lv_at hl 0 rfl) ?_
        refine va_get (D := D) (cl := vwCl) (ci := 0) (v := .ref (ra 0 0)) (C := RX0) (T := TX0) (N := 15) hx hb hts in_X0 hown hK.1 hP 0 rfl rfl 0 (by decide) (hts _ q190) (fun _ h9 => h9) rfl dX0_sumBelow_17 ?_
        refine va_getN (D := D) (cl := vwCl) (ci := 1) (v := .ref (ra 0 2)) (C := RX1) (T := TX1) (N := 6) hx hb hts in_X1 hown hK.1 hP 1 rfl rfl 2 (by decide) (hK.nw 3 rfl) (fun _ h9 => h9) rfl dX0_sumBelow_20 ?_
        refine lv_iload_n hx hb dX0_sumBelow_23 rfl (lv_at hl 3 rfl) ?_
        obtain ⟨v4, ev4, hf⟩ := ob hf
        refine x_iald hx hb hK hP 3 1 ev4 rfl rfl dX0_sumBelow_24 ?_
        obtain ⟨v5, ev5, hf⟩ := ob hf
        refine rd_callS (As := [.int x2_4, .int v4]) (rest := []) ⟨hx, hb, hml, hown, hts⟩ (mJ0_addExact l D k   x2_4 v4 _ ev5) (va_cwS 2 hts (lw_S q703 q704 q93 q705) rfl rfl rfl hdJ0_addExact ⟨Nat.le_of_ble_eq_true rfl, Nat.le_of_ble_eq_true rfl⟩) hK rfl hl.1 rfl (Nat.le_of_ble_eq_true rfl) dX0_sumBelow_25 ⟨Nat.le_of_ble_eq_true rfl, Nat.le_of_ble_eq_true rfl⟩ ?_
        refine lv_istore_n (lv' := [(2, .int v5), (0, .ref (xa 0)), (1, .int p1), (3, .int x3_4)]) hx hb dX0_sumBelow_28 rfl hl (by decide) rfl (fun ls hl => ?_)
        refine lv_iinc (v := (x3_4 + 1)) (lv' := [(3, .int (x3_4 + 1)), (2, .int v5), (0, .ref (xa 0)), (1, .int p1)]) hx hb dX0_sumBelow_29 hl (k := 3) rfl rfl (by decide) rfl (fun ls hl => ?_)
        refine lv_goto (tgt := 4) hx hb dX0_sumBelow_32 (by decide) ?_
        exact ih4 v5 (x3_4 + 1) hf ls (lv_sub hl [2, 3, 1, 0] rfl)
  exact hL4 FU (0 : Int32) p1 hf ls (lv_sub hl [2, 3, 1, 0] rfl)

abbrev rmX0_sumBelow_x : Room := { frames := 9, cells := 3, slots := 222, locals := 10270 }
theorem hdX0_sumBelow_x : yX0_sumBelow.cls ≠ "java/lang/invoke/MethodHandle" ∧ yX0_sumBelow.cls ≠ "java/lang/invoke/VarHandle" ∧ (parseMethodDescriptor yX0_sumBelow.desc).map (fun d => d.parameters.length) = some 1 := by decide +kernel
set_option maxHeartbeats 4000000 in
theorem mX0_sumBelow_x (l : Launch) (hst : l.stackTraces = false) (D : va_G) (k : Nat → ClassId) (xa : Nat → Nat) (ra : Nat → Nat → Nat) (xi : Nat → Int32) (rs : RS) (p1 : Int32) (sz : Nat) (E : Nat) (hf : fX0_sumBelow_x rs p1 = some E) : vx_Met l yX0_sumBelow (ws_ yX0_sumBelow cX0_sumBelow 4 (some .int)) rmX0_sumBelow_x (wxP D k (wN k xa ra xi rs) sz [.ref (xa 0), .int p1]) (va_Qi (fun (_ : Int32) (_ : Unit) => False) (fun _ _ => True) (va_A (wN k xa ra xi rs) sz)) (xcE D (exN E) (wN k xa ra xi rs) (va_A (wN k xa ra xi rs) sz)) 3 222 (va_A (wN k xa ra xi rs) sz) := by
  refine wx_startX (Qc := fun A => (va_Qi (fun (_ : Int32) (_ : Unit) => False) (fun _ _ => True) A)) (XC := fun A => xcE D (exN E) (wN k xa ra xi rs) A) (by decide +kernel) (Nat.le_of_ble_eq_true rfl) ?_
  intro p e s m below meth c ls A hA hx hb hr hlk hml hown hts hP hK hD hZ hex hl
  have hl : lv_has ls 4 [(0, .ref (xa 0)), (1, .int p1)] := hl
  have hown : s.vm.findClass RX0 = some m.cls := hown
  have hS : va_S A s.heap s.heap [] := va_S.rf
  suffices hw : ∀ (H : Heap) (locs : List Loc), va_P D vwCl (wN k xa ra xi rs) H → va_S A s.heap H locs → gX p l e rmX0_sumBelow_x s m [.ref (xa 0), .int p1] below meth c (va_Qi (fun (_ : Int32) (_ : Unit) => False) (fun _ _ => True) A) (xcE D (exN E) (wN k xa ra xi rs) A) A 3 222 H locs 0 ls [] from hw s.heap [] hP hS
  clear hP hS
  intro H locs hP hS
  unfold fX0_sumBelow_x at hf
  refine lv_iconst (v := 0) hx hb dX0_sumBelow_0 (by decide) ?_
  refine lv_istore_n (lv' := [(2, .int (0 : Int32)), (0, .ref (xa 0)), (1, .int p1)]) hx hb dX0_sumBelow_1 rfl hl (by decide) rfl (fun ls hl => ?_)
  refine lv_iload_n hx hb dX0_sumBelow_2 rfl (lv_at hl 2 rfl) ?_
  refine lv_istore_n (lv' := [(3, .int p1), (2, .int (0 : Int32)), (0, .ref (xa 0)), (1, .int p1)]) hx hb dX0_sumBelow_3 rfl hl (by decide) rfl (fun ls hl => ?_)
  have hL4 : ∀ (nn : Nat) (x2_4 : Int32) (x3_4 : Int32), ∀ (H : Heap) (locs : List Loc), va_P D vwCl (wN k xa ra xi rs) H → va_D A (wN k xa ra xi rs) → va_S A s.heap H locs → fX0_sumBelow_x_L4 rs p1 nn x2_4 x3_4 = some E → ∀ ls : Array Slot, lv_has ls 4 [(0, .ref (xa 0)), (1, .int p1), (2, .int x2_4), (3, .int x3_4)] → gX p l e rmX0_sumBelow_x s m [.ref (xa 0), .int p1] below meth c (va_Qi (fun (_ : Int32) (_ : Unit) => False) (fun _ _ => True) A) (xcE D (exN E) (wN k xa ra xi rs) A) A 3 222 H locs 4 ls [] := by
    intro nn4
    induction nn4 with
    | zero =>
      intro x2_4 x3_4 H locs hP hD hS hf
      rw [fX0_sumBelow_x_L4] at hf; cases hf
    | succ nn4 ih4 =>
      intro x2_4 x3_4 H locs hP hD hS hf ls hl
      rw [fX0_sumBelow_x_L4] at hf
      refine lv_iload_n hx hb dX0_sumBelow_4 rfl (lv_at hl 3 rfl) ?_
      refine lv_iload_n hx hb dX0_sumBelow_5 rfl (lv_at hl 1 rfl) ?_
      refine lv_aload_n hx hb dX0_sumBelow_6 rfl (lv_at hl 0 rfl) ?_
      refine lv_iload_n hx hb dX0_sumBelow_7 rfl (lv_at hl 1 rfl) ?_
      obtain ⟨v1, ev1, hf⟩ := ob hf
      refine rd_callV (As := [.int p1]) (rest := [.int p1, .int x3_4]) ⟨hx, hb, hml, hown, hts⟩ (mX0_sizeOf l D k xa ra xi rs p1 _ ev1) (cwV 1 hts (lw_V q578 q580 qs30 q90 q581) rfl rfl rfl ⟨rfl, hdX0_sizeOf⟩ ⟨Nat.le_of_ble_eq_true rfl, Nat.le_of_ble_eq_true rfl⟩) hK hP [0, 1, 2, 3, 4, 5, 6] rfl 0 0 rfl rfl rfl hl.1 rfl (Nat.le_of_ble_eq_true rfl) dX0_sumBelow_8 ⟨Nat.le_of_ble_eq_true rfl, Nat.le_of_ble_eq_true rfl⟩ ?_
      refine lv_iadd hx hb dX0_sumBelow_11 ?_
      refine lv_icmp_ge (tgt := 35) hx hb dX0_sumBelow_12 (by decide) (fun c3 => ?_) (fun c3 => ?_)
      · have hf := oi_t c3 hf
        refine lv_iload_n hx hb dX0_sumBelow_35 rfl (lv_at hl 2 rfl) ?_
        cases hf
      · have hf := oi_f c3 hf
        refine lv_iload_n hx hb dX0_sumBelow_15 rfl (lv_at hl 2 rfl) ?_
        refine lv_aload_n hx hb dX0_sumBelow_16 rfl (lv_at hl 0 rfl) ?_
        refine va_get (D := D) (cl := vwCl) (ci := 0) (v := .ref (ra 0 0)) (C := RX0) (T := TX0) (N := 15) hx hb hts in_X0 hown hK.1 hP 0 rfl rfl 0 (by decide) (hts _ q190) (fun _ h9 => h9) rfl dX0_sumBelow_17 ?_
        refine va_getN (D := D) (cl := vwCl) (ci := 1) (v := .ref (ra 0 2)) (C := RX1) (T := TX1) (N := 6) hx hb hts in_X1 hown hK.1 hP 1 rfl rfl 2 (by decide) (hK.nw 3 rfl) (fun _ h9 => h9) rfl dX0_sumBelow_20 ?_
        refine lv_iload_n hx hb dX0_sumBelow_23 rfl (lv_at hl 3 rfl) ?_
        obtain ⟨v4, ev4, hf⟩ := ob hf
        refine x_iald hx hb hK hP 3 1 ev4 rfl rfl dX0_sumBelow_24 ?_
        by_cases c5 : ovf x2_4 v4
        · have hf := oi_t c5 hf
          refine wx_excS (As := [.int x2_4, .int v4]) (rest := []) ⟨hx, hb, hml, hown, hts⟩ (mJ0_addExact_x l hst D k x2_4 v4 _ c5) (va_cwS 2 hts (lw_S q703 q704 q93 q705) rfl rfl rfl hdJ0_addExact_x ⟨Nat.le_of_ble_eq_true rfl, Nat.le_of_ble_eq_true rfl⟩) hK hZ hP hD hS hA rfl hl.1 rfl (Nat.le_of_ble_eq_true rfl) dX0_sumBelow_25 ⟨Nat.le_of_ble_eq_true rfl, Nat.le_of_ble_eq_true rfl⟩ (fun H locs q9 ce hP hD hS hc9 hv9 hcl9 => ?_)
          cases hf
          exact wx_out hex hlk hc9 hv9 hcl9 hP hS (Nat.le_of_ble_eq_true rfl) (Nat.le_of_ble_eq_true rfl)
        have hf := oi_f c5 hf
        obtain ⟨v6, ev6, hf⟩ := ob hf
        refine rd_callS (As := [.int x2_4, .int v4]) (rest := []) ⟨hx, hb, hml, hown, hts⟩ (mJ0_addExact l D k   x2_4 v4 _ ev6) (va_cwS 2 hts (lw_S q703 q704 q93 q705) rfl rfl rfl hdJ0_addExact ⟨Nat.le_of_ble_eq_true rfl, Nat.le_of_ble_eq_true rfl⟩) hK rfl hl.1 rfl (Nat.le_of_ble_eq_true rfl) dX0_sumBelow_25 ⟨Nat.le_of_ble_eq_true rfl, Nat.le_of_ble_eq_true rfl⟩ ?_
        refine lv_istore_n (lv' := [(2, .int v6), (0, .ref (xa 0)), (1, .int p1), (3, .int x3_4)]) hx hb dX0_sumBelow_28 rfl hl (by decide) rfl (fun ls hl => ?_)
        refine lv_iinc (v := (x3_4 + 1)) (lv' := [(3, .int (x3_4 + 1)), (2, .int v6), (0, .ref (xa 0)), (1, .int p1)]) hx hb dX0_sumBelow_29 hl (k := 3) rfl rfl (by decide) rfl (fun ls hl => ?_)
        refine lv_goto (tgt := 4) hx hb dX0_sumBelow_32 (by decide) ?_
        exact ih4 v6 (x3_4 + 1) H locs hP hD hS hf ls (lv_sub hl [2, 3, 1, 0] rfl)
  exact hL4 FU (0 : Int32) p1 H locs hP hD hS hf ls (lv_sub hl [2, 3, 1, 0] rfl)

abbrev rmX0_sumAbove : Room := { frames := 5, cells := 0, slots := 0, locals := 118 }
theorem hdX0_sumAbove : yX0_sumAbove.cls ≠ "java/lang/invoke/MethodHandle" ∧ yX0_sumAbove.cls ≠ "java/lang/invoke/VarHandle" ∧ (parseMethodDescriptor yX0_sumAbove.desc).map (fun d => d.parameters.length) = some 1 := by decide +kernel
set_option maxHeartbeats 4000000 in
theorem mX0_sumAbove (l : Launch) (D : va_G) (k : Nat → ClassId) (xa : Nat → Nat) (ra : Nat → Nat → Nat) (xi : Nat → Int32) (rs : RS) (p1 : Int32) (r : Int32) (hf : fX0_sumAbove rs p1 = some r) : CtI l yX0_sumAbove cX0_sumAbove 4 rmX0_sumAbove [.ref (xa 0), .int p1] D k (wN k xa ra xi rs) r := by
  refine rd_start (by decide +kernel) (Nat.le_of_ble_eq_true rfl) ?_
  intro p e s m below meth c ls hx hb hr hlk hml hown hts hP hK hl
  have hl : lv_has ls 4 [(0, .ref (xa 0)), (1, .int p1)] := hl
  have hown : s.vm.findClass RX0 = some m.cls := hown
  unfold fX0_sumAbove at hf
  refine lv_iconst (v := 0) hx hb dX0_sumAbove_0 (by decide) ?_
  refine lv_istore_n (lv' := [(2, .int (0 : Int32)), (0, .ref (xa 0)), (1, .int p1)]) hx hb dX0_sumAbove_1 rfl hl (by decide) rfl (fun ls hl => ?_)
  refine lv_iload_n hx hb dX0_sumAbove_2 rfl (lv_at hl 2 rfl) ?_
  refine lv_istore_n (lv' := [(3, .int p1), (2, .int (0 : Int32)), (0, .ref (xa 0)), (1, .int p1)]) hx hb dX0_sumAbove_3 rfl hl (by decide) rfl (fun ls hl => ?_)
  have hL4 : ∀ (nn : Nat) (x2_4 : Int32) (x3_4 : Int32), fX0_sumAbove_L4 rs p1 nn x2_4 x3_4 = some r → ∀ ls : Array Slot, lv_has ls 4 [(0, .ref (xa 0)), (2, .int x2_4), (3, .int x3_4)] → gR p l e rmX0_sumAbove s m [.ref (xa 0), .int p1] below meth c (vp_Si (fun x => x = r)) 4 ls [] := by
    intro nn4
    induction nn4 with
    | zero =>
      intro x2_4 x3_4 hf
      rw [fX0_sumAbove_L4] at hf; cases hf
    | succ nn4 ih4 =>
      intro x2_4 x3_4 hf ls hl
      rw [fX0_sumAbove_L4] at hf
      refine lv_iload_n hx hb dX0_sumAbove_4 rfl (lv_at hl 2 rfl) ?_
      refine lv_bipush (v := (-4)) hx hb dX0_sumAbove_5 (by decide) ?_
      refine lv_icmp_eq (tgt := 33) hx hb dX0_sumAbove_7 (by decide) (fun c1 => ?_) (fun c1 => ?_)
      · have hf := oi_t c1 hf
        refine lv_iload_n hx hb dX0_sumAbove_33 rfl (lv_at hl 1 rfl) ?_
        exact rd_iret hx hb hr hlk (Option.some.inj hf) dX0_sumAbove_34
      · have hf := oi_f c1 hf
        refine lv_iload_n hx hb dX0_sumAbove_10 rfl (lv_at hl 1 rfl) ?_
        refine lv_aload_n hx hb dX0_sumAbove_11 rfl (lv_at hl 0 rfl) ?_
        refine va_get (D := D) (cl := vwCl) (ci := 0) (v := .ref (ra 0 0)) (C := RX0) (T := TX0) (N := 15) hx hb hts in_X0 hown hK.1 hP 0 rfl rfl 0 (by decide) (hts _ q190) (fun _ h9 => h9) rfl dX0_sumAbove_12 ?_
        refine va_getN (D := D) (cl := vwCl) (ci := 1) (v := .ref (ra 0 2)) (C := RX1) (T := TX1) (N := 6) hx hb hts in_X1 hown hK.1 hP 1 rfl rfl 2 (by decide) (hK.nw 3 rfl) (fun _ h9 => h9) rfl dX0_sumAbove_15 ?_
        refine lv_iload_n hx hb dX0_sumAbove_18 rfl (lv_at hl 2 rfl) ?_
        obtain ⟨v2, ev2, hf⟩ := ob hf
        refine x_iald hx hb hK hP 3 1 ev2 rfl rfl dX0_sumAbove_19 ?_
        obtain ⟨v3, ev3, hf⟩ := ob hf
        refine rd_callS (As := [.int x2_4, .int v2]) (rest := []) ⟨hx, hb, hml, hown, hts⟩ (mJ0_addExact l D k   x2_4 v2 _ ev3) (va_cwS 2 hts (lw_S q703 q704 q93 q705) rfl rfl rfl hdJ0_addExact ⟨Nat.le_of_ble_eq_true rfl, Nat.le_of_ble_eq_true rfl⟩) hK rfl hl.1 rfl (Nat.le_of_ble_eq_true rfl) dX0_sumAbove_20 ⟨Nat.le_of_ble_eq_true rfl, Nat.le_of_ble_eq_true rfl⟩ ?_
        refine lv_istore_n (lv' := [(2, .int v3), (0, .ref (xa 0)), (3, .int x3_4)]) hx hb dX0_sumAbove_23 rfl hl (by decide) rfl (fun ls hl => ?_)
        refine lv_aload_n hx hb dX0_sumAbove_24 rfl (lv_at hl 1 rfl) ?_
        refine lv_iload_n hx hb dX0_sumAbove_25 rfl (lv_at hl 2 rfl) ?_
        obtain ⟨v5, ev5, hf⟩ := ob hf
        refine rd_callV (As := [.int x3_4]) (rest := []) ⟨hx, hb, hml, hown, hts⟩ (mX0_parentOf l D k xa ra xi rs x3_4 _ ev5) (cwV 1 hts (lw_V q550 q552 qs23 q90 q553) rfl rfl rfl ⟨rfl, hdX0_parentOf⟩ ⟨Nat.le_of_ble_eq_true rfl, Nat.le_of_ble_eq_true rfl⟩) hK hP [0, 1, 2, 3, 4, 5, 6] rfl 0 0 rfl rfl rfl hl.1 rfl (Nat.le_of_ble_eq_true rfl) dX0_sumAbove_26 ⟨Nat.le_of_ble_eq_true rfl, Nat.le_of_ble_eq_true rfl⟩ ?_
        refine lv_istore_n (lv' := [(3, .int v5), (2, .int v3), (0, .ref (xa 0))]) hx hb dX0_sumAbove_29 rfl hl (by decide) rfl (fun ls hl => ?_)
        refine lv_goto (tgt := 4) hx hb dX0_sumAbove_30 (by decide) ?_
        exact ih4 v3 v5 hf ls (lv_sub hl [2, 1, 0] rfl)
  exact hL4 FU (0 : Int32) p1 hf ls (lv_sub hl [2, 1, 0] rfl)

abbrev rmX0_sumAbove_x : Room := { frames := 9, cells := 3, slots := 222, locals := 10270 }
theorem hdX0_sumAbove_x : yX0_sumAbove.cls ≠ "java/lang/invoke/MethodHandle" ∧ yX0_sumAbove.cls ≠ "java/lang/invoke/VarHandle" ∧ (parseMethodDescriptor yX0_sumAbove.desc).map (fun d => d.parameters.length) = some 1 := by decide +kernel
set_option maxHeartbeats 4000000 in
theorem mX0_sumAbove_x (l : Launch) (hst : l.stackTraces = false) (D : va_G) (k : Nat → ClassId) (xa : Nat → Nat) (ra : Nat → Nat → Nat) (xi : Nat → Int32) (rs : RS) (p1 : Int32) (sz : Nat) (E : Nat) (hf : fX0_sumAbove_x rs p1 = some E) : vx_Met l yX0_sumAbove (ws_ yX0_sumAbove cX0_sumAbove 4 (some .int)) rmX0_sumAbove_x (wxP D k (wN k xa ra xi rs) sz [.ref (xa 0), .int p1]) (va_Qi (fun (_ : Int32) (_ : Unit) => False) (fun _ _ => True) (va_A (wN k xa ra xi rs) sz)) (xcE D (exN E) (wN k xa ra xi rs) (va_A (wN k xa ra xi rs) sz)) 3 222 (va_A (wN k xa ra xi rs) sz) := by
  refine wx_startX (Qc := fun A => (va_Qi (fun (_ : Int32) (_ : Unit) => False) (fun _ _ => True) A)) (XC := fun A => xcE D (exN E) (wN k xa ra xi rs) A) (by decide +kernel) (Nat.le_of_ble_eq_true rfl) ?_
  intro p e s m below meth c ls A hA hx hb hr hlk hml hown hts hP hK hD hZ hex hl
  have hl : lv_has ls 4 [(0, .ref (xa 0)), (1, .int p1)] := hl
  have hown : s.vm.findClass RX0 = some m.cls := hown
  have hS : va_S A s.heap s.heap [] := va_S.rf
  suffices hw : ∀ (H : Heap) (locs : List Loc), va_P D vwCl (wN k xa ra xi rs) H → va_S A s.heap H locs → gX p l e rmX0_sumAbove_x s m [.ref (xa 0), .int p1] below meth c (va_Qi (fun (_ : Int32) (_ : Unit) => False) (fun _ _ => True) A) (xcE D (exN E) (wN k xa ra xi rs) A) A 3 222 H locs 0 ls [] from hw s.heap [] hP hS
  clear hP hS
  intro H locs hP hS
  unfold fX0_sumAbove_x at hf
  refine lv_iconst (v := 0) hx hb dX0_sumAbove_0 (by decide) ?_
  refine lv_istore_n (lv' := [(2, .int (0 : Int32)), (0, .ref (xa 0)), (1, .int p1)]) hx hb dX0_sumAbove_1 rfl hl (by decide) rfl (fun ls hl => ?_)
  refine lv_iload_n hx hb dX0_sumAbove_2 rfl (lv_at hl 2 rfl) ?_
  refine lv_istore_n (lv' := [(3, .int p1), (2, .int (0 : Int32)), (0, .ref (xa 0)), (1, .int p1)]) hx hb dX0_sumAbove_3 rfl hl (by decide) rfl (fun ls hl => ?_)
  have hL4 : ∀ (nn : Nat) (x2_4 : Int32) (x3_4 : Int32), ∀ (H : Heap) (locs : List Loc), va_P D vwCl (wN k xa ra xi rs) H → va_D A (wN k xa ra xi rs) → va_S A s.heap H locs → fX0_sumAbove_x_L4 rs p1 nn x2_4 x3_4 = some E → ∀ ls : Array Slot, lv_has ls 4 [(0, .ref (xa 0)), (2, .int x2_4), (3, .int x3_4)] → gX p l e rmX0_sumAbove_x s m [.ref (xa 0), .int p1] below meth c (va_Qi (fun (_ : Int32) (_ : Unit) => False) (fun _ _ => True) A) (xcE D (exN E) (wN k xa ra xi rs) A) A 3 222 H locs 4 ls [] := by
    intro nn4
    induction nn4 with
    | zero =>
      intro x2_4 x3_4 H locs hP hD hS hf
      rw [fX0_sumAbove_x_L4] at hf; cases hf
    | succ nn4 ih4 =>
      intro x2_4 x3_4 H locs hP hD hS hf ls hl
      rw [fX0_sumAbove_x_L4] at hf
      refine lv_iload_n hx hb dX0_sumAbove_4 rfl (lv_at hl 2 rfl) ?_
      refine lv_bipush (v := (-4)) hx hb dX0_sumAbove_5 (by decide) ?_
      refine lv_icmp_eq (tgt := 33) hx hb dX0_sumAbove_7 (by decide) (fun c1 => ?_) (fun c1 => ?_)
      · have hf := oi_t c1 hf
        refine lv_iload_n hx hb dX0_sumAbove_33 rfl (lv_at hl 1 rfl) ?_
        cases hf
      · have hf := oi_f c1 hf
        refine lv_iload_n hx hb dX0_sumAbove_10 rfl (lv_at hl 1 rfl) ?_
        refine lv_aload_n hx hb dX0_sumAbove_11 rfl (lv_at hl 0 rfl) ?_
        refine va_get (D := D) (cl := vwCl) (ci := 0) (v := .ref (ra 0 0)) (C := RX0) (T := TX0) (N := 15) hx hb hts in_X0 hown hK.1 hP 0 rfl rfl 0 (by decide) (hts _ q190) (fun _ h9 => h9) rfl dX0_sumAbove_12 ?_
        refine va_getN (D := D) (cl := vwCl) (ci := 1) (v := .ref (ra 0 2)) (C := RX1) (T := TX1) (N := 6) hx hb hts in_X1 hown hK.1 hP 1 rfl rfl 2 (by decide) (hK.nw 3 rfl) (fun _ h9 => h9) rfl dX0_sumAbove_15 ?_
        refine lv_iload_n hx hb dX0_sumAbove_18 rfl (lv_at hl 2 rfl) ?_
        obtain ⟨v2, ev2, hf⟩ := ob hf
        refine x_iald hx hb hK hP 3 1 ev2 rfl rfl dX0_sumAbove_19 ?_
        by_cases c3 : ovf x2_4 v2
        · have hf := oi_t c3 hf
          refine wx_excS (As := [.int x2_4, .int v2]) (rest := []) ⟨hx, hb, hml, hown, hts⟩ (mJ0_addExact_x l hst D k x2_4 v2 _ c3) (va_cwS 2 hts (lw_S q703 q704 q93 q705) rfl rfl rfl hdJ0_addExact_x ⟨Nat.le_of_ble_eq_true rfl, Nat.le_of_ble_eq_true rfl⟩) hK hZ hP hD hS hA rfl hl.1 rfl (Nat.le_of_ble_eq_true rfl) dX0_sumAbove_20 ⟨Nat.le_of_ble_eq_true rfl, Nat.le_of_ble_eq_true rfl⟩ (fun H locs q9 ce hP hD hS hc9 hv9 hcl9 => ?_)
          cases hf
          exact wx_out hex hlk hc9 hv9 hcl9 hP hS (Nat.le_of_ble_eq_true rfl) (Nat.le_of_ble_eq_true rfl)
        have hf := oi_f c3 hf
        obtain ⟨v4, ev4, hf⟩ := ob hf
        refine rd_callS (As := [.int x2_4, .int v2]) (rest := []) ⟨hx, hb, hml, hown, hts⟩ (mJ0_addExact l D k   x2_4 v2 _ ev4) (va_cwS 2 hts (lw_S q703 q704 q93 q705) rfl rfl rfl hdJ0_addExact ⟨Nat.le_of_ble_eq_true rfl, Nat.le_of_ble_eq_true rfl⟩) hK rfl hl.1 rfl (Nat.le_of_ble_eq_true rfl) dX0_sumAbove_20 ⟨Nat.le_of_ble_eq_true rfl, Nat.le_of_ble_eq_true rfl⟩ ?_
        refine lv_istore_n (lv' := [(2, .int v4), (0, .ref (xa 0)), (3, .int x3_4)]) hx hb dX0_sumAbove_23 rfl hl (by decide) rfl (fun ls hl => ?_)
        refine lv_aload_n hx hb dX0_sumAbove_24 rfl (lv_at hl 1 rfl) ?_
        refine lv_iload_n hx hb dX0_sumAbove_25 rfl (lv_at hl 2 rfl) ?_
        obtain ⟨v6, ev6, hf⟩ := ob hf
        refine rd_callV (As := [.int x3_4]) (rest := []) ⟨hx, hb, hml, hown, hts⟩ (mX0_parentOf l D k xa ra xi rs x3_4 _ ev6) (cwV 1 hts (lw_V q550 q552 qs23 q90 q553) rfl rfl rfl ⟨rfl, hdX0_parentOf⟩ ⟨Nat.le_of_ble_eq_true rfl, Nat.le_of_ble_eq_true rfl⟩) hK hP [0, 1, 2, 3, 4, 5, 6] rfl 0 0 rfl rfl rfl hl.1 rfl (Nat.le_of_ble_eq_true rfl) dX0_sumAbove_26 ⟨Nat.le_of_ble_eq_true rfl, Nat.le_of_ble_eq_true rfl⟩ ?_
        refine lv_istore_n (lv' := [(3, .int v6), (2, .int v4), (0, .ref (xa 0))]) hx hb dX0_sumAbove_29 rfl hl (by decide) rfl (fun ls hl => ?_)
        refine lv_goto (tgt := 4) hx hb dX0_sumAbove_30 (by decide) ?_
        exact ih4 v4 v6 H locs hP hD hS hf ls (lv_sub hl [2, 1, 0] rfl)
  exact hL4 FU (0 : Int32) p1 H locs hP hD hS hf ls (lv_sub hl [2, 1, 0] rfl)

abbrev rmX0_sum : Room := { frames := 10, cells := 3, slots := 222, locals := 10293 }
theorem hdX0_sum : yX0_sum.cls ≠ "java/lang/invoke/MethodHandle" ∧ yX0_sum.cls ≠ "java/lang/invoke/VarHandle" ∧ (parseMethodDescriptor yX0_sum.desc).map (fun d => d.parameters.length) = some 2 := by decide +kernel
abbrev qcX0_sum (D : va_G) (k : Nat → ClassId) (xa : Nat → Nat) (ra : Nat → Nat → Nat) (xi : Nat → Int32) (rs : RS) (r : Int32) (A : Nat → Prop) : Array Value → State → Outcome → State → Prop := va_Qi (fun x (_ : Unit) => x = r) (fun _ t => va_P D vwCl (wN k xa ra xi rs) t.heap) A
set_option maxHeartbeats 4000000 in
theorem mX0_sum (l : Launch) (hst : l.stackTraces = false) (D : va_G) (k : Nat → ClassId) (xa : Nat → Nat) (ra : Nat → Nat → Nat) (xi : Nat → Int32) (rs : RS) (p1 : Int32) (p2 : Int32) (sz : Nat) (r : Int32) (hf : fX0_sum rs p1 p2 = some r) : Met l yX0_sum (wsW_ yX0_sum cX0_sum 4 (some .int) [(20, 37, 38, 256)]) rmX0_sum (wxP D k (wN k xa ra xi rs) sz [.ref (xa 0), .int p1, .int p2]) (qcX0_sum D k xa ra xi rs r (va_A (wN k xa ra xi rs) sz)) 3 222 (va_A (wN k xa ra xi rs) sz) := by
  refine wx_startW (Qc := fun A => qcX0_sum D k xa ra xi rs r A) (by decide +kernel) (Nat.le_of_ble_eq_true rfl) ?_
  intro p e s m below meth c ls A hA hx hb hr hlk hml hown hts hP hK hD hZ hexc hl
  have hl : lv_has ls 4 [(0, .ref (xa 0)), (1, .int p1), (2, .int p2)] := hl
  have hown : s.vm.findClass RX0 = some m.cls := hown
  have hS : va_S A s.heap s.heap [] := va_S.rf
  suffices hw : ∀ (H : Heap) (locs : List Loc), va_P D vwCl (wN k xa ra xi rs) H → va_S A s.heap H locs → gW p l e rmX0_sum s m [.ref (xa 0), .int p1, .int p2] below meth c (qcX0_sum D k xa ra xi rs r A) A 3 222 H locs 0 ls [] from hw s.heap [] hP hS
  clear hP hS
  intro H locs hP hS
  unfold fX0_sum at hf
  refine lv_aload_n hx hb dX0_sum_0 rfl (lv_at hl 0 rfl) ?_
  refine lv_iload_n hx hb dX0_sum_1 rfl (lv_at hl 1 rfl) ?_
  obtain ⟨v1, ev1, hf⟩ := ob hf
  refine rd_callVZ (As := [.int p1]) (rest := []) ⟨hx, hb, hml, hown, hts⟩ (mX0_isNode l D k xa ra xi rs p1 _ ev1) (cwV 1 hts (lw_V q534 q536 qs19 q90 q537) rfl rfl rfl ⟨rfl, hdX0_isNode⟩ ⟨Nat.le_of_ble_eq_true rfl, Nat.le_of_ble_eq_true rfl⟩) hK hP [0, 1, 2, 3, 4, 5, 6] rfl 0 0 rfl rfl rfl hl.1 rfl (Nat.le_of_ble_eq_true rfl) dX0_sum_2 ⟨Nat.le_of_ble_eq_true rfl, Nat.le_of_ble_eq_true rfl⟩ (fun zv1 => ?_)
  refine lv_if_eq (tgt := 18) hx hb dX0_sum_5 (by decide) (fun c3 => ?_) (fun c3 => ?_)
  · have hf := oi_t c3 hf
    refine lv_iconst (v := (-1)) hx hb dX0_sum_18 (by decide) ?_
    have he1 := Option.some.inj hf
    refine W.widen (k := 3) (n := 222) (Nat.le_of_ble_eq_true rfl) (Nat.le_of_ble_eq_true rfl) ?_
    exact wr_iret hx hb hr hlk he1 hP hS dX0_sum_19
  · have hf := oi_f c3 hf
    refine lv_iload_n hx hb dX0_sum_8 rfl (lv_at hl 2 rfl) ?_
    refine lv_i2l hx hb dX0_sum_9 rfl ?_
    refine lv_lconst (v := 0) hx hb dX0_sum_10 (by decide) ?_
    refine lv_lconst (v := 1) hx hb dX0_sum_11 (by decide) ?_
    obtain ⟨v4, ev4, hf⟩ := ob hf
    refine rd_callSZ (As := [.long ((p2).toInt64), .long (0 : Int64), .long (1 : Int64)]) (rest := []) ⟨hx, hb, hml, hown, hts⟩ (mX0_in l D k   ((p2).toInt64) (0 : Int64) (1 : Int64) _ ev4) (va_cwS 3 hts (lw_S q242 q243 q90 q244) rfl rfl rfl hdX0_in ⟨Nat.le_of_ble_eq_true rfl, Nat.le_of_ble_eq_true rfl⟩) hK rfl hl.1 rfl (Nat.le_of_ble_eq_true rfl) dX0_sum_12 ⟨Nat.le_of_ble_eq_true rfl, Nat.le_of_ble_eq_true rfl⟩ (fun zv4 => ?_)
    refine lv_if_ne (tgt := 20) hx hb dX0_sum_15 (by decide) (fun c6 => ?_) (fun c6 => ?_)
    · have hf := oi_f c6 hf
      refine lv_iload_n hx hb dX0_sum_20 rfl (lv_at hl 2 rfl) ?_
      refine lv_if_ne (tgt := 32) hx hb dX0_sum_21 (by decide) (fun c7 => ?_) (fun c7 => ?_)
      · have hf := oi_f c7 hf
        refine lv_aload_n hx hb dX0_sum_32 rfl (lv_at hl 0 rfl) ?_
        refine lv_iload_n hx hb dX0_sum_33 rfl (lv_at hl 1 rfl) ?_
        by_cases c8 : fX0_sumAbove_x rs p1 = some 4
        · have hf := oi_t c8 hf
          refine wx_excV (As := [.int p1]) (rest := []) ⟨hx, hb, hml, hown, hts⟩ (mX0_sumAbove_x l hst D k xa ra xi rs p1 _ 4 c8) (cwV 1 hts (lw_V q709 q711 qs42 q90 q712) rfl rfl rfl ⟨rfl, hdX0_sumAbove_x⟩ ⟨Nat.le_of_ble_eq_true rfl, Nat.le_of_ble_eq_true rfl⟩) hK hZ hP hD hS hA [0, 1, 2, 3, 4, 5, 6] [] rfl 7 rfl (by decide) (by decide) 0 0 rfl rfl rfl hl.1 rfl (Nat.le_of_ble_eq_true rfl) dX0_sum_34 ⟨Nat.le_of_ble_eq_true rfl, Nat.le_of_ble_eq_true rfl⟩ (fun H locs q9 ce hP hD hS hc9 hv9 hcl9 => ?_)
          refine vx_catch hown [] _ _ (hexc.trans rfl) fm_n rfl (by decide) (hts _ q670) (hK.nw 20 rfl) hc9 hv9 hcl9 ?_
          refine lv_astore_n (lv' := [(3, .ref q9), (0, .ref (xa 0)), (1, .int p1), (2, .int p2)]) hx hb dX0_sum_38 rfl hl (by decide) rfl (fun ls hl => ?_)
          refine lv_bipush (v := (-5)) hx hb dX0_sum_39 (by decide) ?_
          have he1 := Option.some.inj hf
          refine W.widen (k := 3) (n := 222) (Nat.le_of_ble_eq_true rfl) (Nat.le_of_ble_eq_true rfl) ?_
          exact wr_iret hx hb hr hlk he1 hP hS dX0_sum_41
        have hf := oi_f c8 hf
        obtain ⟨v9, ev9, hf⟩ := ob hf
        refine rd_callV (As := [.int p1]) (rest := []) ⟨hx, hb, hml, hown, hts⟩ (mX0_sumAbove l D k xa ra xi rs p1 _ ev9) (cwV 1 hts (lw_V q709 q711 qs42 q90 q712) rfl rfl rfl ⟨rfl, hdX0_sumAbove⟩ ⟨Nat.le_of_ble_eq_true rfl, Nat.le_of_ble_eq_true rfl⟩) hK hP [0, 1, 2, 3, 4, 5, 6] rfl 0 0 rfl rfl rfl hl.1 rfl (Nat.le_of_ble_eq_true rfl) dX0_sum_34 ⟨Nat.le_of_ble_eq_true rfl, Nat.le_of_ble_eq_true rfl⟩ ?_
        have he1 := Option.some.inj hf
        refine W.widen (k := 3) (n := 222) (Nat.le_of_ble_eq_true rfl) (Nat.le_of_ble_eq_true rfl) ?_
        exact wr_iret hx hb hr hlk he1 hP hS dX0_sum_37
      · have hf := oi_t c7 hf
        refine lv_aload_n hx hb dX0_sum_24 rfl (lv_at hl 0 rfl) ?_
        refine lv_iload_n hx hb dX0_sum_25 rfl (lv_at hl 1 rfl) ?_
        by_cases c11 : fX0_sumBelow_x rs p1 = some 4
        · have hf := oi_t c11 hf
          refine wx_excV (As := [.int p1]) (rest := []) ⟨hx, hb, hml, hown, hts⟩ (mX0_sumBelow_x l hst D k xa ra xi rs p1 _ 4 c11) (cwV 1 hts (lw_V q699 q701 qs41 q90 q702) rfl rfl rfl ⟨rfl, hdX0_sumBelow_x⟩ ⟨Nat.le_of_ble_eq_true rfl, Nat.le_of_ble_eq_true rfl⟩) hK hZ hP hD hS hA [0, 1, 2, 3, 4, 5, 6] [] rfl 7 rfl (by decide) (by decide) 0 0 rfl rfl rfl hl.1 rfl (Nat.le_of_ble_eq_true rfl) dX0_sum_26 ⟨Nat.le_of_ble_eq_true rfl, Nat.le_of_ble_eq_true rfl⟩ (fun H locs q9 ce hP hD hS hc9 hv9 hcl9 => ?_)
          refine vx_catch hown [] _ _ (hexc.trans rfl) fm_n rfl (by decide) (hts _ q670) (hK.nw 20 rfl) hc9 hv9 hcl9 ?_
          refine lv_astore_n (lv' := [(3, .ref q9), (0, .ref (xa 0)), (1, .int p1), (2, .int p2)]) hx hb dX0_sum_38 rfl hl (by decide) rfl (fun ls hl => ?_)
          refine lv_bipush (v := (-5)) hx hb dX0_sum_39 (by decide) ?_
          have he1 := Option.some.inj hf
          refine W.widen (k := 3) (n := 222) (Nat.le_of_ble_eq_true rfl) (Nat.le_of_ble_eq_true rfl) ?_
          exact wr_iret hx hb hr hlk he1 hP hS dX0_sum_41
        have hf := oi_f c11 hf
        obtain ⟨v12, ev12, hf⟩ := ob hf
        refine rd_callV (As := [.int p1]) (rest := []) ⟨hx, hb, hml, hown, hts⟩ (mX0_sumBelow l D k xa ra xi rs p1 _ ev12) (cwV 1 hts (lw_V q699 q701 qs41 q90 q702) rfl rfl rfl ⟨rfl, hdX0_sumBelow⟩ ⟨Nat.le_of_ble_eq_true rfl, Nat.le_of_ble_eq_true rfl⟩) hK hP [0, 1, 2, 3, 4, 5, 6] rfl 0 0 rfl rfl rfl hl.1 rfl (Nat.le_of_ble_eq_true rfl) dX0_sum_26 ⟨Nat.le_of_ble_eq_true rfl, Nat.le_of_ble_eq_true rfl⟩ ?_
        refine lv_goto (tgt := 37) hx hb dX0_sum_29 (by decide) ?_
        have he1 := Option.some.inj hf
        refine W.widen (k := 3) (n := 222) (Nat.le_of_ble_eq_true rfl) (Nat.le_of_ble_eq_true rfl) ?_
        exact wr_iret hx hb hr hlk he1 hP hS dX0_sum_37
    · have hf := oi_t c6 hf
      refine lv_iconst (v := (-1)) hx hb dX0_sum_18 (by decide) ?_
      have he1 := Option.some.inj hf
      refine W.widen (k := 3) (n := 222) (Nat.le_of_ble_eq_true rfl) (Nat.le_of_ble_eq_true rfl) ?_
      exact wr_iret hx hb hr hlk he1 hP hS dX0_sum_19

abbrev rmX0_lay_sx : Room := { frames := 1, cells := 3, slots := 222, locals := 25 }
theorem hdX0_lay_sx : yX0_lay.cls ≠ "java/lang/invoke/MethodHandle" ∧ yX0_lay.cls ≠ "java/lang/invoke/VarHandle" ∧ (parseMethodDescriptor yX0_lay.desc).map (fun d => d.parameters.length) = some 3 := by decide +kernel
abbrev qcX0_lay_sx (D : va_G) (k : Nat → ClassId) (xa : Nat → Nat) (ra : Nat → Nat → Nat) (xi : Nat → Int32) (r : Int32) (A : Nat → Prop) : Array Value → State → Outcome → State → Prop := va_Qi (fun x (_ : Unit) => x = r) (fun _ t => va_P D vwCl [oX xa ra xi] t.heap) A
set_option maxHeartbeats 4000000 in
theorem mX0_lay_sx (l : Launch) (hst : l.stackTraces = false) (D : va_G) (k : Nat → ClassId) (xa : Nat → Nat) (ra : Nat → Nat → Nat) (xi : Nat → Int32) (p1 : Int32) (p2 : Int32) (p3 : Int64) (sz : Nat) (r : Int32) (hf : fX0_lay_sx p1 p2 p3 = some r) : Met l yX0_lay (wsW_ yX0_lay cX0_lay 7 (some .int) [(25, 75, 76, 324), (25, 75, 81, 326)]) rmX0_lay_sx (wxP D k [oX xa ra xi] sz [.ref (xa 0), .int p1, .int p2, .long p3]) (qcX0_lay_sx D k xa ra xi r (va_A [oX xa ra xi] sz)) 3 222 (va_A [oX xa ra xi] sz) := by
  refine wx_startW (Qc := fun A => qcX0_lay_sx D k xa ra xi r A) (by decide +kernel) (Nat.le_of_ble_eq_true rfl) ?_
  intro p e s m below meth c ls A hA hx hb hr hlk hml hown hts hP hK hD hZ hexc hl
  have hl : lv_has ls 7 [(0, .ref (xa 0)), (1, .int p1), (2, .int p2), (3, .long p3)] := hl
  have hown : s.vm.findClass RX0 = some m.cls := hown
  have hS : va_S A s.heap s.heap [] := va_S.rf
  suffices hw : ∀ (H : Heap) (locs : List Loc), va_P D vwCl [oX xa ra xi] H → va_S A s.heap H locs → gW p l e rmX0_lay_sx s m [.ref (xa 0), .int p1, .int p2, .long p3] below meth c (qcX0_lay_sx D k xa ra xi r A) A 3 222 H locs 0 ls [] from hw s.heap [] hP hS
  clear hP hS
  intro H locs hP hS
  unfold fX0_lay_sx at hf
  refine lv_iload_n hx hb dX0_lay_0 rfl (lv_at hl 1 rfl) ?_
  refine lv_i2l hx hb dX0_lay_1 rfl ?_
  refine lv_lconst (v := 0) hx hb dX0_lay_2 (by decide) ?_
  refine lv_ldc2 hx hb hown (hts _ q520) dX0_lay_3 ?_
  obtain ⟨v1, ev1, hf⟩ := ob hf
  refine rd_callSZ (As := [.long ((p1).toInt64), .long (0 : Int64), .long (3 : Int64)]) (rest := []) ⟨hx, hb, hml, hown, hts⟩ (mX0_in l D k   ((p1).toInt64) (0 : Int64) (3 : Int64) _ ev1) (va_cwS 3 hts (lw_S q242 q243 q90 q244) rfl rfl rfl hdX0_in ⟨Nat.le_of_ble_eq_true rfl, Nat.le_of_ble_eq_true rfl⟩) hK rfl hl.1 rfl (Nat.le_of_ble_eq_true rfl) dX0_lay_6 ⟨Nat.le_of_ble_eq_true rfl, Nat.le_of_ble_eq_true rfl⟩ (fun zv1 => ?_)
  refine lv_if_ne (tgt := 14) hx hb dX0_lay_9 (by decide) (fun c3 => ?_) (fun c3 => ?_)
  · have hf := oi_f c3 hf
    refine lv_aload_n hx hb dX0_lay_14 rfl (lv_at hl 0 rfl) ?_
    refine va_get (D := D) (cl := vwCl) (ci := 0) (v := .ref (xa 3)) (C := RX0) (T := TX0) (N := 15) hx hb hts in_X0 hown hK.1 hP 0 rfl rfl 12 (by decide) (hts _ q203) (fun _ h9 => h9) rfl dX0_lay_15 ?_
    refine lv_iload_n hx hb dX0_lay_18 rfl (lv_at hl 1 rfl) ?_
    cases hf
  · have hf := oi_t c3 hf
    refine lv_iconst (v := (-1)) hx hb dX0_lay_12 (by decide) ?_
    have he1 := Option.some.inj hf
    refine W.widen (k := 3) (n := 222) (Nat.le_of_ble_eq_true rfl) (Nat.le_of_ble_eq_true rfl) ?_
    exact wr_iret hx hb hr hlk he1 hP hS dX0_lay_13

abbrev rmX0_look_sx : Room := { frames := 1, cells := 3, slots := 222, locals := 25 }
theorem hdX0_look_sx : yX0_look.cls ≠ "java/lang/invoke/MethodHandle" ∧ yX0_look.cls ≠ "java/lang/invoke/VarHandle" ∧ (parseMethodDescriptor yX0_look.desc).map (fun d => d.parameters.length) = some 2 := by decide +kernel
abbrev qcX0_look_sx (D : va_G) (k : Nat → ClassId) (xa : Nat → Nat) (ra : Nat → Nat → Nat) (xi : Nat → Int32) (r : Int64) (A : Nat → Prop) : Array Value → State → Outcome → State → Prop := va_Ql (fun x (_ : Unit) => x = r) (fun _ t => va_P D vwCl [oX xa ra xi] t.heap) A
set_option maxHeartbeats 4000000 in
theorem mX0_look_sx (l : Launch) (hst : l.stackTraces = false) (D : va_G) (k : Nat → ClassId) (xa : Nat → Nat) (ra : Nat → Nat → Nat) (xi : Nat → Int32) (p1 : Int32) (p2 : Int32) (sz : Nat) (r : Int64) (hf : fX0_look_sx p1 p2 = some r) : Met l yX0_look (wsW_ yX0_look cX0_look 5 (some .long) [(24, 64, 65, 324), (24, 64, 65, 326)]) rmX0_look_sx (wxP D k [oX xa ra xi] sz [.ref (xa 0), .int p1, .int p2]) (qcX0_look_sx D k xa ra xi r (va_A [oX xa ra xi] sz)) 3 222 (va_A [oX xa ra xi] sz) := by
  refine wx_startW (Qc := fun A => qcX0_look_sx D k xa ra xi r A) (by decide +kernel) (Nat.le_of_ble_eq_true rfl) ?_
  intro p e s m below meth c ls A hA hx hb hr hlk hml hown hts hP hK hD hZ hexc hl
  have hl : lv_has ls 5 [(0, .ref (xa 0)), (1, .int p1), (2, .int p2)] := hl
  have hown : s.vm.findClass RX0 = some m.cls := hown
  have hS : va_S A s.heap s.heap [] := va_S.rf
  suffices hw : ∀ (H : Heap) (locs : List Loc), va_P D vwCl [oX xa ra xi] H → va_S A s.heap H locs → gW p l e rmX0_look_sx s m [.ref (xa 0), .int p1, .int p2] below meth c (qcX0_look_sx D k xa ra xi r A) A 3 222 H locs 0 ls [] from hw s.heap [] hP hS
  clear hP hS
  intro H locs hP hS
  unfold fX0_look_sx at hf
  refine lv_iload_n hx hb dX0_look_0 rfl (lv_at hl 1 rfl) ?_
  refine lv_i2l hx hb dX0_look_1 rfl ?_
  refine lv_lconst (v := 0) hx hb dX0_look_2 (by decide) ?_
  refine lv_ldc2 hx hb hown (hts _ q520) dX0_look_3 ?_
  obtain ⟨v1, ev1, hf⟩ := ob hf
  refine rd_callSZ (As := [.long ((p1).toInt64), .long (0 : Int64), .long (3 : Int64)]) (rest := []) ⟨hx, hb, hml, hown, hts⟩ (mX0_in l D k   ((p1).toInt64) (0 : Int64) (3 : Int64) _ ev1) (va_cwS 3 hts (lw_S q242 q243 q90 q244) rfl rfl rfl hdX0_in ⟨Nat.le_of_ble_eq_true rfl, Nat.le_of_ble_eq_true rfl⟩) hK rfl hl.1 rfl (Nat.le_of_ble_eq_true rfl) dX0_look_6 ⟨Nat.le_of_ble_eq_true rfl, Nat.le_of_ble_eq_true rfl⟩ (fun zv1 => ?_)
  refine lv_if_ne (tgt := 14) hx hb dX0_look_9 (by decide) (fun c3 => ?_) (fun c3 => ?_)
  · have hf := oi_f c3 hf
    refine lv_aload_n hx hb dX0_look_14 rfl (lv_at hl 0 rfl) ?_
    refine va_get (D := D) (cl := vwCl) (ci := 0) (v := .ref (xa 3)) (C := RX0) (T := TX0) (N := 15) hx hb hts in_X0 hown hK.1 hP 0 rfl rfl 12 (by decide) (hts _ q203) (fun _ h9 => h9) rfl dX0_look_15 ?_
    refine lv_iload_n hx hb dX0_look_18 rfl (lv_at hl 1 rfl) ?_
    cases hf
  · have hf := oi_t c3 hf
    refine lv_lconst (v := 0) hx hb dX0_look_12 (by decide) ?_
    have he1 := Option.some.inj hf
    refine W.widen (k := 3) (n := 222) (Nat.le_of_ble_eq_true rfl) (Nat.le_of_ble_eq_true rfl) ?_
    exact wr_lret hx hb hr hlk he1 hP hS dX0_look_13

abbrev rmX0_sheet_sx : Room := { frames := 2, cells := 3, slots := 222, locals := 46 }
theorem hdX0_sheet_sx : yX0_sheet.cls ≠ "java/lang/invoke/MethodHandle" ∧ yX0_sheet.cls ≠ "java/lang/invoke/VarHandle" ∧ (parseMethodDescriptor yX0_sheet.desc).map (fun d => d.parameters.length) = some 3 := by decide +kernel
abbrev qcX0_sheet_sx (D : va_G) (k : Nat → ClassId) (xa : Nat → Nat) (ra : Nat → Nat → Nat) (xi : Nat → Int32) (r : Int32) (A : Nat → Prop) : Array Value → State → Outcome → State → Prop := va_Qi (fun x (_ : Unit) => x = r) (fun _ t => va_P D vwCl [oX xa ra xi] t.heap) A
set_option maxHeartbeats 4000000 in
theorem mX0_sheet_sx (l : Launch) (hst : l.stackTraces = false) (D : va_G) (k : Nat → ClassId) (xa : Nat → Nat) (ra : Nat → Nat → Nat) (xi : Nat → Int32) (p1 : Int32) (p2 : Int32) (p3 : Int32) (sz : Nat) (r : Int32) (hf : fX0_sheet_sx p1 p2 p3 = some r) : Met l yX0_sheet (wsW_ yX0_sheet cX0_sheet 5 (some .int) [(16, 50, 51, 319)]) rmX0_sheet_sx (wxP D k [oX xa ra xi] sz [.ref (xa 0), .int p1, .int p2, .int p3]) (qcX0_sheet_sx D k xa ra xi r (va_A [oX xa ra xi] sz)) 3 222 (va_A [oX xa ra xi] sz) := by
  refine wx_startW (Qc := fun A => qcX0_sheet_sx D k xa ra xi r A) (by decide +kernel) (Nat.le_of_ble_eq_true rfl) ?_
  intro p e s m below meth c ls A hA hx hb hr hlk hml hown hts hP hK hD hZ hexc hl
  have hl : lv_has ls 5 [(0, .ref (xa 0)), (1, .int p1), (2, .int p2), (3, .int p3)] := hl
  have hown : s.vm.findClass RX0 = some m.cls := hown
  have hS : va_S A s.heap s.heap [] := va_S.rf
  suffices hw : ∀ (H : Heap) (locs : List Loc), va_P D vwCl [oX xa ra xi] H → va_S A s.heap H locs → gW p l e rmX0_sheet_sx s m [.ref (xa 0), .int p1, .int p2, .int p3] below meth c (qcX0_sheet_sx D k xa ra xi r A) A 3 222 H locs 0 ls [] from hw s.heap [] hP hS
  clear hP hS
  intro H locs hP hS
  unfold fX0_sheet_sx at hf
  refine lv_iload_n hx hb dX0_sheet_0 rfl (lv_at hl 1 rfl) ?_
  refine lv_iload_n hx hb dX0_sheet_1 rfl (lv_at hl 2 rfl) ?_
  obtain ⟨v1, ev1, hf⟩ := ob hf
  refine rd_callSZ (As := [.int p1, .int p2]) (rest := []) ⟨hx, hb, hml, hown, hts⟩ (mX0_isSheet l D k   p1 p2 _ ev1) (va_cwS 2 hts (lw_S q818 q819 q90 q820) rfl rfl rfl hdX0_isSheet ⟨Nat.le_of_ble_eq_true rfl, Nat.le_of_ble_eq_true rfl⟩) hK rfl hl.1 rfl (Nat.le_of_ble_eq_true rfl) dX0_sheet_2 ⟨Nat.le_of_ble_eq_true rfl, Nat.le_of_ble_eq_true rfl⟩ (fun zv1 => ?_)
  refine lv_if_eq (tgt := 14) hx hb dX0_sheet_5 (by decide) (fun c3 => ?_) (fun c3 => ?_)
  · have hf := oi_t c3 hf
    refine lv_iconst (v := (-1)) hx hb dX0_sheet_14 (by decide) ?_
    have he1 := Option.some.inj hf
    refine W.widen (k := 3) (n := 222) (Nat.le_of_ble_eq_true rfl) (Nat.le_of_ble_eq_true rfl) ?_
    exact wr_iret hx hb hr hlk he1 hP hS dX0_sheet_15
  · have hf := oi_f c3 hf
    refine lv_iload_n hx hb dX0_sheet_8 rfl (lv_at hl 3 rfl) ?_
    refine lv_bipush (v := 40) hx hb dX0_sheet_9 (by decide) ?_
    refine lv_icmp_le (tgt := 16) hx hb dX0_sheet_11 (by decide) (fun c4 => ?_) (fun c4 => ?_)
    · have hf := oi_t c4 hf
      refine lv_aload_n hx hb dX0_sheet_16 rfl (lv_at hl 0 rfl) ?_
      refine va_get (D := D) (cl := vwCl) (ci := 0) (v := .ref (xa 3)) (C := RX0) (T := TX0) (N := 15) hx hb hts in_X0 hown hK.1 hP 0 rfl rfl 12 (by decide) (hts _ q203) (fun _ h9 => h9) rfl dX0_sheet_17 ?_
      refine lv_iload_n hx hb dX0_sheet_20 rfl (lv_at hl 1 rfl) ?_
      cases hf
    · have hf := oi_f c4 hf
      refine lv_iconst (v := (-1)) hx hb dX0_sheet_14 (by decide) ?_
      have he1 := Option.some.inj hf
      refine W.widen (k := 3) (n := 222) (Nat.le_of_ble_eq_true rfl) (Nat.le_of_ble_eq_true rfl) ?_
      exact wr_iret hx hb hr hlk he1 hP hS dX0_sheet_15

abbrev rmX0_stow_sx : Room := { frames := 2, cells := 3, slots := 222, locals := 46 }
theorem hdX0_stow_sx : yX0_stow.cls ≠ "java/lang/invoke/MethodHandle" ∧ yX0_stow.cls ≠ "java/lang/invoke/VarHandle" ∧ (parseMethodDescriptor yX0_stow.desc).map (fun d => d.parameters.length) = some 3 := by decide +kernel
abbrev qcX0_stow_sx (D : va_G) (k : Nat → ClassId) (xa : Nat → Nat) (ra : Nat → Nat → Nat) (xi : Nat → Int32) (r : Int32) (A : Nat → Prop) : Array Value → State → Outcome → State → Prop := va_Qi (fun x (_ : Unit) => x = r) (fun _ t => va_P D vwCl [oX xa ra xi] t.heap) A
set_option maxHeartbeats 4000000 in
theorem mX0_stow_sx (l : Launch) (hst : l.stackTraces = false) (D : va_G) (k : Nat → ClassId) (xa : Nat → Nat) (ra : Nat → Nat → Nat) (xi : Nat → Int32) (p1 : Int32) (p2 : Int32) (p3 : Int32) (sz : Nat) (r : Int32) (hf : fX0_stow_sx p1 p2 p3 = some r) : Met l yX0_stow (wsW_ yX0_stow cX0_stow 8 (some .int) [(20, 57, 66, 324), (20, 57, 80, 342), (20, 57, 94, 326), (20, 57, 108, 0), (66, 71, 108, 0), (80, 85, 108, 0), (94, 99, 108, 0), (108, 110, 108, 0)]) rmX0_stow_sx (wxP D k [oX xa ra xi] sz [.ref (xa 0), .int p1, .int p2, .int p3]) (qcX0_stow_sx D k xa ra xi r (va_A [oX xa ra xi] sz)) 3 222 (va_A [oX xa ra xi] sz) := by
  refine wx_startW (Qc := fun A => qcX0_stow_sx D k xa ra xi r A) (by decide +kernel) (Nat.le_of_ble_eq_true rfl) ?_
  intro p e s m below meth c ls A hA hx hb hr hlk hml hown hts hP hK hD hZ hexc hl
  have hl : lv_has ls 8 [(0, .ref (xa 0)), (1, .int p1), (2, .int p2), (3, .int p3)] := hl
  have hown : s.vm.findClass RX0 = some m.cls := hown
  have hS : va_S A s.heap s.heap [] := va_S.rf
  suffices hw : ∀ (H : Heap) (locs : List Loc), va_P D vwCl [oX xa ra xi] H → va_S A s.heap H locs → gW p l e rmX0_stow_sx s m [.ref (xa 0), .int p1, .int p2, .int p3] below meth c (qcX0_stow_sx D k xa ra xi r A) A 3 222 H locs 0 ls [] from hw s.heap [] hP hS
  clear hP hS
  intro H locs hP hS
  unfold fX0_stow_sx at hf
  refine lv_iload_n hx hb dX0_stow_0 rfl (lv_at hl 1 rfl) ?_
  refine lv_iload_n hx hb dX0_stow_1 rfl (lv_at hl 2 rfl) ?_
  obtain ⟨v1, ev1, hf⟩ := ob hf
  refine rd_callSZ (As := [.int p1, .int p2]) (rest := []) ⟨hx, hb, hml, hown, hts⟩ (mX0_isSheet l D k   p1 p2 _ ev1) (va_cwS 2 hts (lw_S q818 q819 q90 q820) rfl rfl rfl hdX0_isSheet ⟨Nat.le_of_ble_eq_true rfl, Nat.le_of_ble_eq_true rfl⟩) hK rfl hl.1 rfl (Nat.le_of_ble_eq_true rfl) dX0_stow_2 ⟨Nat.le_of_ble_eq_true rfl, Nat.le_of_ble_eq_true rfl⟩ (fun zv1 => ?_)
  refine lv_if_eq (tgt := 12) hx hb dX0_stow_5 (by decide) (fun c3 => ?_) (fun c3 => ?_)
  · have hf := oi_t c3 hf
    refine lv_iconst (v := (-1)) hx hb dX0_stow_12 (by decide) ?_
    have he1 := Option.some.inj hf
    refine W.widen (k := 3) (n := 222) (Nat.le_of_ble_eq_true rfl) (Nat.le_of_ble_eq_true rfl) ?_
    exact wr_iret hx hb hr hlk he1 hP hS dX0_stow_13
  · have hf := oi_f c3 hf
    refine lv_iload_n hx hb dX0_stow_8 rfl (lv_at hl 3 rfl) ?_
    refine lv_if_ge (tgt := 14) hx hb dX0_stow_9 (by decide) (fun c4 => ?_) (fun c4 => ?_)
    · have hf := oi_t c4 hf
      refine lv_iconst (v := 0) hx hb dX0_stow_14 (by decide) ?_
      refine lv_istore (lv' := [(4, .int (0 : Int32)), (0, .ref (xa 0)), (1, .int p1), (2, .int p2), (3, .int p3)]) hx hb dX0_stow_15 hl (by decide) rfl (fun ls hl => ?_)
      refine lv_iconst (v := 0) hx hb dX0_stow_17 (by decide) ?_
      refine lv_istore (lv' := [(5, .int (0 : Int32)), (4, .int (0 : Int32)), (0, .ref (xa 0)), (1, .int p1), (2, .int p2), (3, .int p3)]) hx hb dX0_stow_18 hl (by decide) rfl (fun ls hl => ?_)
      have hL20 : ∀ (nn : Nat) (x4_20 : Int32) (x5_20 : Int32), ∀ (H : Heap) (locs : List Loc), va_P D vwCl [oX xa ra xi] H → va_D A [oX xa ra xi] → va_S A s.heap H locs → fX0_stow_sx_L20 p1 p2 p3 nn x4_20 x5_20 = some r → ∀ ls : Array Slot, lv_has ls 8 [(0, .ref (xa 0)), (1, .int p1), (2, .int p2), (3, .int p3), (4, .int x4_20), (5, .int x5_20)] → gW p l e rmX0_stow_sx s m [.ref (xa 0), .int p1, .int p2, .int p3] below meth c (qcX0_stow_sx D k xa ra xi r A) A 3 222 H locs 20 ls [] := by
        intro nn20
        induction nn20 with
        | zero =>
          intro x4_20 x5_20 H locs hP hD hS hf
          rw [fX0_stow_sx_L20] at hf; cases hf
        | succ nn20 ih20 =>
          intro x4_20 x5_20 H locs hP hD hS hf ls hl
          rw [fX0_stow_sx_L20] at hf
          refine lv_iload hx hb dX0_stow_20 (lv_at hl 5 rfl) ?_
          refine lv_aload_n hx hb dX0_stow_22 rfl (lv_at hl 0 rfl) ?_
          refine va_get (D := D) (cl := vwCl) (ci := 0) (v := .ref (ra 0 0)) (C := RX0) (T := TX0) (N := 15) hx hb hts in_X0 hown hK.1 hP 0 rfl rfl 0 (by decide) (hts _ q190) (fun _ h9 => h9) rfl dX0_stow_23 ?_
          cases hf
      exact hL20 FU (0 : Int32) (0 : Int32) H locs hP hD hS hf ls (lv_sub hl [2, 3, 4, 5, 1, 0] rfl)
    · have hf := oi_f c4 hf
      refine lv_iconst (v := (-1)) hx hb dX0_stow_12 (by decide) ?_
      have he1 := Option.some.inj hf
      refine W.widen (k := 3) (n := 222) (Nat.le_of_ble_eq_true rfl) (Nat.le_of_ble_eq_true rfl) ?_
      exact wr_iret hx hb hr hlk he1 hP hS dX0_stow_13

abbrev rmX0_read_sx : Room := { frames := 2, cells := 3, slots := 222, locals := 46 }
theorem hdX0_read_sx : yX0_read.cls ≠ "java/lang/invoke/MethodHandle" ∧ yX0_read.cls ≠ "java/lang/invoke/VarHandle" ∧ (parseMethodDescriptor yX0_read.desc).map (fun d => d.parameters.length) = some 4 := by decide +kernel
abbrev qcX0_read_sx (D : va_G) (k : Nat → ClassId) (xa : Nat → Nat) (ra : Nat → Nat → Nat) (xi : Nat → Int32) (r : Int32) (A : Nat → Prop) : Array Value → State → Outcome → State → Prop := va_Qi (fun x (_ : Unit) => x = r) (fun _ t => va_P D vwCl [oX xa ra xi] t.heap) A
set_option maxHeartbeats 4000000 in
theorem mX0_read_sx (l : Launch) (hst : l.stackTraces = false) (D : va_G) (k : Nat → ClassId) (xa : Nat → Nat) (ra : Nat → Nat → Nat) (xi : Nat → Int32) (p1 : Int32) (p2 : Int32) (p3 : Int32) (p4 : Int32) (sz : Nat) (r : Int32) (hf : fX0_read_sx p1 p2 p3 p4 = some r) : Met l yX0_read (wsW_ yX0_read cX0_read 6 (some .int) [(47, 82, 85, 324), (47, 82, 90, 342), (47, 82, 95, 326)]) rmX0_read_sx (wxP D k [oX xa ra xi] sz [.ref (xa 0), .int p1, .int p2, .int p3, .int p4]) (qcX0_read_sx D k xa ra xi r (va_A [oX xa ra xi] sz)) 3 222 (va_A [oX xa ra xi] sz) := by
  refine wx_startW (Qc := fun A => qcX0_read_sx D k xa ra xi r A) (by decide +kernel) (Nat.le_of_ble_eq_true rfl) ?_
  intro p e s m below meth c ls A hA hx hb hr hlk hml hown hts hP hK hD hZ hexc hl
  have hl : lv_has ls 6 [(0, .ref (xa 0)), (1, .int p1), (2, .int p2), (3, .int p3), (4, .int p4)] := hl
  have hown : s.vm.findClass RX0 = some m.cls := hown
  have hS : va_S A s.heap s.heap [] := va_S.rf
  suffices hw : ∀ (H : Heap) (locs : List Loc), va_P D vwCl [oX xa ra xi] H → va_S A s.heap H locs → gW p l e rmX0_read_sx s m [.ref (xa 0), .int p1, .int p2, .int p3, .int p4] below meth c (qcX0_read_sx D k xa ra xi r A) A 3 222 H locs 0 ls [] from hw s.heap [] hP hS
  clear hP hS
  intro H locs hP hS
  unfold fX0_read_sx at hf
  refine lv_iload_n hx hb dX0_read_0 rfl (lv_at hl 1 rfl) ?_
  refine lv_iload_n hx hb dX0_read_1 rfl (lv_at hl 2 rfl) ?_
  obtain ⟨v1, ev1, hf⟩ := ob hf
  refine rd_callSZ (As := [.int p1, .int p2]) (rest := []) ⟨hx, hb, hml, hown, hts⟩ (mX0_isSheet l D k   p1 p2 _ ev1) (va_cwS 2 hts (lw_S q818 q819 q90 q820) rfl rfl rfl hdX0_isSheet ⟨Nat.le_of_ble_eq_true rfl, Nat.le_of_ble_eq_true rfl⟩) hK rfl hl.1 rfl (Nat.le_of_ble_eq_true rfl) dX0_read_2 ⟨Nat.le_of_ble_eq_true rfl, Nat.le_of_ble_eq_true rfl⟩ (fun zv1 => ?_)
  refine lv_if_eq (tgt := 25) hx hb dX0_read_5 (by decide) (fun c3 => ?_) (fun c3 => ?_)
  · have hf := oi_t c3 hf
    refine lv_iconst (v := (-1)) hx hb dX0_read_25 (by decide) ?_
    have he1 := Option.some.inj hf
    refine W.widen (k := 3) (n := 222) (Nat.le_of_ble_eq_true rfl) (Nat.le_of_ble_eq_true rfl) ?_
    exact wr_iret hx hb hr hlk he1 hP hS dX0_read_26
  · have hf := oi_f c3 hf
    refine lv_iload hx hb dX0_read_8 (lv_at hl 4 rfl) ?_
    refine lv_i2l hx hb dX0_read_10 rfl ?_
    refine lv_lconst (v := 0) hx hb dX0_read_11 (by decide) ?_
    refine lv_ldc2 hx hb hown (hts _ q894) dX0_read_12 ?_
    obtain ⟨v4, ev4, hf⟩ := ob hf
    refine rd_callSZ (As := [.long ((p4).toInt64), .long (0 : Int64), .long (128 : Int64)]) (rest := []) ⟨hx, hb, hml, hown, hts⟩ (mX0_in l D k   ((p4).toInt64) (0 : Int64) (128 : Int64) _ ev4) (va_cwS 3 hts (lw_S q242 q243 q90 q244) rfl rfl rfl hdX0_in ⟨Nat.le_of_ble_eq_true rfl, Nat.le_of_ble_eq_true rfl⟩) hK rfl hl.1 rfl (Nat.le_of_ble_eq_true rfl) dX0_read_15 ⟨Nat.le_of_ble_eq_true rfl, Nat.le_of_ble_eq_true rfl⟩ (fun zv4 => ?_)
    refine lv_if_eq (tgt := 25) hx hb dX0_read_18 (by decide) (fun c6 => ?_) (fun c6 => ?_)
    · have hf := oi_t c6 hf
      refine lv_iconst (v := (-1)) hx hb dX0_read_25 (by decide) ?_
      have he1 := Option.some.inj hf
      refine W.widen (k := 3) (n := 222) (Nat.le_of_ble_eq_true rfl) (Nat.le_of_ble_eq_true rfl) ?_
      exact wr_iret hx hb hr hlk he1 hP hS dX0_read_26
    · have hf := oi_f c6 hf
      refine lv_iload_n hx hb dX0_read_21 rfl (lv_at hl 3 rfl) ?_
      refine lv_if_ge (tgt := 27) hx hb dX0_read_22 (by decide) (fun c7 => ?_) (fun c7 => ?_)
      · have hf := oi_t c7 hf
        refine lv_aload_n hx hb dX0_read_27 rfl (lv_at hl 0 rfl) ?_
        refine va_get (D := D) (cl := vwCl) (ci := 0) (v := .ref (ra 4 0)) (C := RX0) (T := TX0) (N := 15) hx hb hts in_X0 hown hK.1 hP 0 rfl rfl 13 (by decide) (hts _ q204) (fun _ h9 => h9) rfl dX0_read_28 ?_
        cases hf
      · have hf := oi_f c7 hf
        refine lv_iconst (v := (-1)) hx hb dX0_read_25 (by decide) ?_
        have he1 := Option.some.inj hf
        refine W.widen (k := 3) (n := 222) (Nat.le_of_ble_eq_true rfl) (Nat.le_of_ble_eq_true rfl) ?_
        exact wr_iret hx hb hr hlk he1 hP hS dX0_read_26
