/-! walks of the reader, by program -/
set_option maxRecDepth 100000
theorem fault_at {D : va_G} {k : Nat → ClassId} {s : State} {ws : va_W} {H : Heap} {q q0 : Nat} {fs : List Value} (hK : KK D k s) (hP : va_P D vwCl ws H) (he : ws[q0]? = some (q, .inr (5, fs))) : ∃ ce : Cell, H[q]? = some ce ∧ ce.vm = .none ∧ s.vm.findClass "ExcessTree$Fault" = some ce.cls := by
  obtain ⟨q', h1, cell, g1, g2, g3, -⟩ := hP q0 _ he
  exact ⟨cell, g1, g3, by rw [g2]; exact (hK.1.1 5 _ rfl).2.1⟩

abbrev rmX4_isIn : Room := { frames := 0, cells := 0, slots := 0, locals := 0 }
theorem hdX4_isIn : yX4_isIn.cls ≠ "java/lang/invoke/MethodHandle" ∧ yX4_isIn.cls ≠ "java/lang/invoke/VarHandle" ∧ (parseMethodDescriptor yX4_isIn.desc).map (fun d => d.parameters.length) = some 2 := by decide +kernel
set_option maxHeartbeats 4000000 in
theorem mX4_isIn (l : Launch) (D : va_G) (k : Nat → ClassId) (rdr : Nat) (mk : Nat → Nat) (xa : Nat → Nat) (ra : Nat → Nat → Nat) (ri : Nat → Int32) (xi : Nat → Int32) (tp : Nat → Int32) (rq : RS) (p1 : Int32) (p2 : Int32) (r : Int32) (hf : fX4_isIn ri tp p1 p2 = some r) : CtZ l yX4_isIn cX4_isIn 3 rmX4_isIn [.ref rdr, .int p1, .int p2] D k (wQ k rdr mk xa ra ri xi tp rq) r := by
  refine rd_start (by decide +kernel) (Nat.le_of_ble_eq_true rfl) ?_
  intro p e s m below meth c ls hx hb hr hlk hml hown hts hP hK hl
  have hl : lv_has ls 3 [(0, .ref rdr), (1, .int p1), (2, .int p2)] := hl
  have hown : s.vm.findClass RX4 = some m.cls := hown
  unfold fX4_isIn at hf
  refine lv_aload_n hx hb dX4_isIn_0 rfl (lv_at hl 0 rfl) ?_
  refine va_get (D := D) (cl := vwCl) (ci := 4) (v := .int (ri 3)) (C := RX4) (T := TX4) (N := 9) hx hb hts in_X4 hown hK.1 hP 0 rfl rfl 4 (by decide) (hts _ q364) (fun _ h9 => h9) rfl dX4_isIn_1 ?_
  refine lv_aload_n hx hb dX4_isIn_4 rfl (lv_at hl 0 rfl) ?_
  refine va_get (D := D) (cl := vwCl) (ci := 4) (v := .int (ri 0)) (C := RX4) (T := TX4) (N := 9) hx hb hts in_X4 hown hK.1 hP 0 rfl rfl 0 (by decide) (hts _ q359) (fun _ h9 => h9) rfl dX4_isIn_5 ?_
  refine lv_icmp_ge (tgt := 47) hx hb dX4_isIn_8 (by decide) (fun c1 => ?_) (fun c1 => ?_)
  · have hf := oi_t c1 hf
    refine lv_iconst (v := 0) hx hb dX4_isIn_47 (by decide) ?_
    exact rd_zret hx hb hr hlk (Or.inl rfl) (Option.some.inj hf) dX4_isIn_48
  · have hf := oi_f c1 hf
    refine lv_aload_n hx hb dX4_isIn_11 rfl (lv_at hl 0 rfl) ?_
    refine va_get (D := D) (cl := vwCl) (ci := 4) (v := .ref (xa 0)) (C := RX4) (T := TX4) (N := 9) hx hb hts in_X4 hown hK.1 hP 0 rfl rfl 8 (by decide) (hts _ q368) (fun _ h9 => h9) rfl dX4_isIn_12 ?_
    refine va_getN (D := D) (cl := vwCl) (ci := 0) (v := .ref (xa 2)) (C := RX0) (T := TX0) (N := 15) hx hb hts in_X0 hown hK.1 hP 1 rfl rfl 8 (by decide) (hK.nw 14 rfl) (fun _ h9 => h9) rfl dX4_isIn_15 ?_
    refine lv_aload_n hx hb dX4_isIn_18 rfl (lv_at hl 0 rfl) ?_
    refine va_get (D := D) (cl := vwCl) (ci := 4) (v := .int (ri 3)) (C := RX4) (T := TX4) (N := 9) hx hb hts in_X4 hown hK.1 hP 0 rfl rfl 4 (by decide) (hts _ q364) (fun _ h9 => h9) rfl dX4_isIn_19 ?_
    obtain ⟨v2, ev2, hf⟩ := ob hf
    refine x_bald hx hb hK hP 2 3 ev2 rfl rfl dX4_isIn_22 ?_
    refine lv_iload_n hx hb dX4_isIn_23 rfl (lv_at hl 1 rfl) ?_
    refine lv_icmp_lt (tgt := 47) hx hb dX4_isIn_24 (by decide) (fun c3 => ?_) (fun c3 => ?_)
    · have hf := oi_t c3 hf
      refine lv_iconst (v := 0) hx hb dX4_isIn_47 (by decide) ?_
      exact rd_zret hx hb hr hlk (Or.inl rfl) (Option.some.inj hf) dX4_isIn_48
    · have hf := oi_f c3 hf
      refine lv_aload_n hx hb dX4_isIn_27 rfl (lv_at hl 0 rfl) ?_
      refine va_get (D := D) (cl := vwCl) (ci := 4) (v := .ref (xa 0)) (C := RX4) (T := TX4) (N := 9) hx hb hts in_X4 hown hK.1 hP 0 rfl rfl 8 (by decide) (hts _ q368) (fun _ h9 => h9) rfl dX4_isIn_28 ?_
      refine va_getN (D := D) (cl := vwCl) (ci := 0) (v := .ref (xa 2)) (C := RX0) (T := TX0) (N := 15) hx hb hts in_X0 hown hK.1 hP 1 rfl rfl 8 (by decide) (hK.nw 14 rfl) (fun _ h9 => h9) rfl dX4_isIn_31 ?_
      refine lv_aload_n hx hb dX4_isIn_34 rfl (lv_at hl 0 rfl) ?_
      refine va_get (D := D) (cl := vwCl) (ci := 4) (v := .int (ri 3)) (C := RX4) (T := TX4) (N := 9) hx hb hts in_X4 hown hK.1 hP 0 rfl rfl 4 (by decide) (hts _ q364) (fun _ h9 => h9) rfl dX4_isIn_35 ?_
      obtain ⟨v4, ev4, hf⟩ := ob hf
      refine x_bald hx hb hK hP 2 3 ev4 rfl rfl dX4_isIn_38 ?_
      refine lv_iload_n hx hb dX4_isIn_39 rfl (lv_at hl 2 rfl) ?_
      refine lv_icmp_gt (tgt := 47) hx hb dX4_isIn_40 (by decide) (fun c5 => ?_) (fun c5 => ?_)
      · have hf := oi_t c5 hf
        refine lv_iconst (v := 0) hx hb dX4_isIn_47 (by decide) ?_
        exact rd_zret hx hb hr hlk (Or.inl rfl) (Option.some.inj hf) dX4_isIn_48
      · have hf := oi_f c5 hf
        refine lv_iconst (v := 1) hx hb dX4_isIn_43 (by decide) ?_
        refine lv_goto (tgt := 48) hx hb dX4_isIn_44 (by decide) ?_
        exact rd_zret hx hb hr hlk (Or.inr rfl) (Option.some.inj hf) dX4_isIn_48

abbrev rmX4_need : Room := { frames := 0, cells := 0, slots := 0, locals := 0 }
theorem hdX4_need : yX4_need.cls ≠ "java/lang/invoke/MethodHandle" ∧ yX4_need.cls ≠ "java/lang/invoke/VarHandle" ∧ (parseMethodDescriptor yX4_need.desc).map (fun d => d.parameters.length) = some 2 := by decide +kernel
theorem mX4_need (l : Launch) (D : va_G) (k : Nat → ClassId) (rdr : Nat) (mk : Nat → Nat) (xa : Nat → Nat) (ra : Nat → Nat → Nat) (ri xi tp : Nat → Int32) (rq : RS) (p1 p2 : Int32) (hf : fX4_need ri p1 p2 = some (.inr ())) : CtV l yX4_need cX4_need 3 rmX4_need [.ref rdr, .int p1, .int p2] D k (wQ k rdr mk xa ra ri xi tp rq) := by
  refine rd_start (by decide +kernel) (Nat.le_of_ble_eq_true rfl) ?_
  intro p e s m below meth c ls hx hb hr hlk hml hown hts hP hK hl
  have hl : lv_has ls 3 [(0, .ref rdr), (1, .int p1), (2, .int p2)] := hl
  have hc : ¬ p1 = 0 := by
    intro h; unfold fX4_need at hf; rw [if_pos h] at hf; cases hf
  refine lv_iload_n hx hb dX4_need_0 rfl (lv_at hl 1 rfl) ?_
  refine lv_if_ne (tgt := 17) hx hb dX4_need_1 (by decide) (fun _ => ?_) (fun c9 => absurd c9 hc)
  exact rd_vret hx hb hr hlk dX4_need_17
abbrev rmX4_need_f : Room := { frames := 4, cells := 1, slots := 8, locals := 100 }
set_option maxHeartbeats 4000000 in
theorem mX4_need_f (l : Launch) (D : va_G) (k : Nat → ClassId) (rdr : Nat) (mk : Nat → Nat) (xa : Nat → Nat) (ra : Nat → Nat → Nat) (ri xi tp : Nat → Int32) (rq : RS) (p1 p2 : Int32) (sz : Nat) (EC EP : Int32) (hf : fX4_need ri p1 p2 = some (.inl (EC, EP))) : fx_Met l yX4_need (ws_ yX4_need cX4_need 3 none) rmX4_need_f (wxP D k (wQ k rdr mk xa ra ri xi tp rq) sz [.ref rdr, .int p1, .int p2]) (vQ (va_A (wQ k rdr mk xa ra ri xi tp rq) sz)) (xcF D EC EP (wXT k xa ra xi tp) (va_A (wQ k rdr mk xa ra ri xi tp rq) sz)) 1 8 (va_A (wQ k rdr mk xa ra ri xi tp rq) sz) := by
  refine fx_start (Qc := fun A => vQ A) (XC := fun A => xcF D EC EP (wXT k xa ra xi tp) A) (by decide +kernel) (Nat.le_of_ble_eq_true rfl) ?_
  intro p e s m below meth c ls A hA hx hb hr hlk hml hown hnm hts hP hK hD hZ hex hl
  have hl : lv_has ls 3 [(0, .ref rdr), (1, .int p1), (2, .int p2)] := hl
  have hown : s.vm.findClass RX4 = some m.cls := hown
  have hc : p1 = 0 ∧ p2 = EC ∧ ri 4 = EP := by
    unfold fX4_need at hf; by_cases h : p1 = 0
    · rw [if_pos h] at hf; cases hf; exact ⟨h, rfl, rfl⟩
    · rw [if_neg h] at hf; cases hf
  obtain ⟨hc, rfl, rfl⟩ := hc
  have hS : va_S A s.heap s.heap [] := va_S.rf
  suffices hw : ∀ (H : Heap) (locs : List Loc), va_P D vwCl (wQ k rdr mk xa ra ri xi tp rq) H → va_S A s.heap H locs → gF p l e rmX4_need_f s m [.ref rdr, .int p1, .int p2] below meth c (vQ A) (xcF D p2 (ri 4) (wXT k xa ra xi tp) A) A 1 8 H locs 0 ls [] from hw s.heap [] hP hS
  clear hP hS
  intro H locs hP hS
  refine lv_iload_n hx hb dX4_need_0 rfl (lv_at hl 1 rfl) ?_
  refine lv_if_ne (tgt := 17) hx hb dX4_need_1 (by decide) (fun c9 => absurd hc c9) (fun _ => ?_)
  refine va_new (D := D) (cl := vwCl) (ci := 5) (fs := [.null, .null, .null, .null, .null, .int 0, .int 0, .int 0]) (C := RX5) (T := TX5) (N := 8) hx hb hts in_X5 tyX5 tyX5_ok hown (hts _ q274) (hts _ q275) (hts _ q98) hK.1 hP hD hS hA rfl (fun j hj => by rcases (show j = 0 ∨ j = 1 ∨ j = 2 ∨ j = 3 ∨ j = 4 ∨ j = 5 ∨ j = 6 ∨ j = 7 by omega) with rfl | rfl | rfl | rfl | rfl | rfl | rfl | rfl <;> rfl) (Nat.le_of_ble_eq_true rfl) (Nat.le_of_ble_eq_true rfl) dX4_need_4 (fun q H hP hD hS => ?_)
  have hP : va_P D vwCl ((wQ k rdr mk xa ra ri xi tp rq) ++ [(q, .inr (5, [.null, .null, .null, .null, .null, .int 0, .int 0, .int 0]))]) _ := hP
  have hD : va_D A ((wQ k rdr mk xa ra ri xi tp rq) ++ [(q, .inr (5, [.null, .null, .null, .null, .null, .int 0, .int 0, .int 0]))]) := hD
  refine lv_dup hx hb dX4_need_7 rfl ?_
  refine lv_iload_n hx hb dX4_need_8 rfl (lv_at hl 2 rfl) ?_
  refine lv_aload_n hx hb dX4_need_9 rfl (lv_at hl 0 rfl) ?_
  refine va_get (D := D) (cl := vwCl) (ci := 4) (v := .int (ri 4)) (C := RX4) (T := TX4) (N := 9) hx hb hts in_X4 hown hK.1 hP 0 rfl rfl 5 (by decide) (hts _ q365) (fun _ h9 => h9) rfl dX4_need_10 ?_
  refine wx_callI (As := [.int p2, .int (ri 4)]) (rest := [.ref q]) ⟨hx, hb, hml, hown, hts⟩ (mX5_init l D k q p2 (ri 4) _) ⟨va_cB 2 hts (lw_meth q331) rfl rfl rfl (hts _ q329) (hts _ q98) hdX5_init ⟨Nat.le_of_ble_eq_true rfl, Nat.le_of_ble_eq_true rfl⟩, rfl, hts _ q330⟩ hK hZ hP hD hS hA [9] [0, 1, 2, 3, 4, 5, 6, 7, 8] ((wQ k rdr mk xa ra ri xi tp rq) ++ [(q, fE p2 (ri 4))]) rfl rfl (fm_c (fm_e _ rfl rfl) (fm_c (fm_e _ rfl rfl) (fm_c (fm_e _ rfl rfl) (fm_c (fm_e _ rfl rfl) (fm_c (fm_e _ rfl rfl) (fm_c (fm_e _ rfl rfl) (fm_c (fm_e _ rfl rfl) (fm_c (fm_e _ rfl rfl) (fm_c (fm_e _ rfl rfl) fm_n))))))))) 10 rfl (by decide) (by decide) [rdr, xa 0, xa 2, mk 0, mk 1, mk 2, mk 3, mk 4, mk 5, q] rfl rfl rfl hl.1 rfl (Nat.le_of_ble_eq_true rfl) dX4_need_13 ⟨Nat.le_of_ble_eq_true rfl, Nat.le_of_ble_eq_true rfl⟩ (fun H locs hP hD hS => ?_)
  refine vx_athrow hx hb dX4_need_16 ?_
  obtain ⟨ce, hc9, hv9, hcl9⟩ := fault_at hK hP (q0 := 9) rfl
  exact fx_thrown hex hlk hc9 hv9 hcl9 (hP.sub [1, 2, 9] rfl) (hD.sub [1, 2, 9] (by decide) rfl) hS (Nat.le_of_ble_eq_true rfl) (Nat.le_of_ble_eq_true rfl)

abbrev rmX4_next : Room := { frames := 1, cells := 0, slots := 0, locals := 22 }
theorem hdX4_next : yX4_next.cls ≠ "java/lang/invoke/MethodHandle" ∧ yX4_next.cls ≠ "java/lang/invoke/VarHandle" ∧ (parseMethodDescriptor yX4_next.desc).map (fun d => d.parameters.length) = some 0 := by decide +kernel
abbrev qcX4_next (D : va_G) (k : Nat → ClassId) (rdr : Nat) (mk : Nat → Nat) (xa : Nat → Nat) (ra : Nat → Nat → Nat) (ri : Nat → Int32) (xi : Nat → Int32) (tp : Nat → Int32) (rq : RS) (A : Nat → Prop) : Array Value → State → Outcome → State → Prop := va_Qv (fun (_ : Unit) => True) (fun _ t => va_P D vwCl (wQ k rdr mk xa ra ri xi tp rq) t.heap) A
set_option maxHeartbeats 4000000 in
theorem mX4_next (l : Launch) (D : va_G) (k : Nat → ClassId) (rdr : Nat) (mk : Nat → Nat) (xa : Nat → Nat) (ra : Nat → Nat → Nat) (ri : Nat → Int32) (xi : Nat → Int32) (tp : Nat → Int32) (rq : RS) (sz : Nat) (ri_o : Nat → Int32) (hf : fX4_next ri tp = some (.inr ri_o)) : Met l yX4_next (ws_ yX4_next cX4_next 1 none) rmX4_next (wrP D k (wQ k rdr mk xa ra ri xi tp rq) sz [.ref rdr]) (qcX4_next D k rdr mk xa ra ri_o xi tp rq (va_A (wQ k rdr mk xa ra ri xi tp rq) sz)) 0 0 (va_A (wQ k rdr mk xa ra ri xi tp rq) sz) := by
  refine wr_start (Qc := fun A => qcX4_next D k rdr mk xa ra ri_o xi tp rq A) (by decide +kernel) (Nat.le_of_ble_eq_true rfl) ?_
  intro p e s m below meth c ls A hA hx hb hr hlk hml hown hts hP hK hD hl
  have hl : lv_has ls 1 [(0, .ref rdr)] := hl
  have hown : s.vm.findClass RX4 = some m.cls := hown
  have hS : va_S A s.heap s.heap [] := va_S.rf
  suffices hw : ∀ (H : Heap) (locs : List Loc), va_P D vwCl (wQ k rdr mk xa ra ri xi tp rq) H → va_S A s.heap H locs → gW p l e rmX4_next s m [.ref rdr] below meth c (qcX4_next D k rdr mk xa ra ri_o xi tp rq A) A 0 0 H locs 0 ls [] from hw s.heap [] hP hS
  clear hP hS
  intro H locs hP hS
  unfold fX4_next at hf
  have hL0 : ∀ (nn : Nat) (ri_0 : Nat → Int32), ∀ (H : Heap) (locs : List Loc), va_P D vwCl (wQ k rdr mk xa ra ri_0 xi tp rq) H → va_D A (wQ k rdr mk xa ra ri_0 xi tp rq) → va_S A s.heap H locs → fX4_next_L0 tp nn ri_0 = some (.inr ri_o) → ∀ ls : Array Slot, lv_has ls 1 [(0, .ref rdr)] → gW p l e rmX4_next s m [.ref rdr] below meth c (qcX4_next D k rdr mk xa ra ri_o xi tp rq A) A 0 0 H locs 0 ls [] := by
    intro nn0
    induction nn0 with
    | zero =>
      intro ri_0 H locs hP hD hS hf
      rw [fX4_next_L0] at hf; cases hf
    | succ nn0 ih0 =>
      intro ri_0 H locs hP hD hS hf ls hl
      rw [fX4_next_L0] at hf
      refine lv_aload_n hx hb dX4_next_0 rfl (lv_at hl 0 rfl) ?_
      refine lv_bipush (v := 32) hx hb dX4_next_1 (by decide) ?_
      refine lv_bipush (v := 32) hx hb dX4_next_3 (by decide) ?_
      obtain ⟨v1, ev1, hf⟩ := ob hf
      refine rd_callVZ (As := [.int (32 : Int32), .int (32 : Int32)]) (rest := []) ⟨hx, hb, hml, hown, hts⟩ (mX4_isIn l D k rdr mk xa ra ri_0 xi tp rq (32 : Int32) (32 : Int32) _ ev1) (cwV 2 hts (lw_V q266 q268 qs1 q95 q269) rfl rfl rfl ⟨rfl, hdX4_isIn⟩ ⟨Nat.le_of_ble_eq_true rfl, Nat.le_of_ble_eq_true rfl⟩) hK hP [0, 1, 2, 3, 4, 5, 6, 7, 8] rfl 0 4 rfl rfl rfl hl.1 rfl (Nat.le_of_ble_eq_true rfl) dX4_next_5 ⟨Nat.le_of_ble_eq_true rfl, Nat.le_of_ble_eq_true rfl⟩ (fun zv1 => ?_)
      refine lv_if_eq (tgt := 24) hx hb dX4_next_8 (by decide) (fun c3 => ?_) (fun c3 => ?_)
      · have hf := oi_t c3 hf
        refine lv_aload_n hx hb dX4_next_24 rfl (lv_at hl 0 rfl) ?_
        refine lv_aload_n hx hb dX4_next_25 rfl (lv_at hl 0 rfl) ?_
        refine va_get (D := D) (cl := vwCl) (ci := 4) (v := .int (ri_0 3)) (C := RX4) (T := TX4) (N := 9) hx hb hts in_X4 hown hK.1 hP 0 rfl rfl 4 (by decide) (hts _ q364) (fun _ h9 => h9) rfl dX4_next_26 ?_
        refine va_put (D := D) (cl := vwCl) (ci := 4) (v := .int (ri_0 3)) (ty := .int) (C := RX4) (T := TX4) (N := 9) hx hb hts in_X4 tyX4 tyX4_ok nmX4 hown hK.1 hP hD hS 0 rfl rfl 5 (by decide) (hts _ q365) (fun _ h9 => h9) rfl (by decide +kernel) rfl rfl (Nat.le_of_ble_eq_true rfl) dX4_next_29 (fun H locs hP hD hS => ?_)
        have hP : va_P D vwCl (wQ k rdr mk xa ra (upd ri_0 4 (ri_0 3)) xi tp rq) H := hP
        have hD : va_D A (wQ k rdr mk xa ra (upd ri_0 4 (ri_0 3)) xi tp rq) := hD
        refine lv_aload_n hx hb dX4_next_32 rfl (lv_at hl 0 rfl) ?_
        refine va_get (D := D) (cl := vwCl) (ci := 4) (v := .int ((upd ri_0 4 (ri_0 3)) 3)) (C := RX4) (T := TX4) (N := 9) hx hb hts in_X4 hown hK.1 hP 0 rfl rfl 4 (by decide) (hts _ q364) (fun _ h9 => h9) rfl dX4_next_33 ?_
        refine lv_aload_n hx hb dX4_next_36 rfl (lv_at hl 0 rfl) ?_
        refine va_get (D := D) (cl := vwCl) (ci := 4) (v := .int ((upd ri_0 4 (ri_0 3)) 0)) (C := RX4) (T := TX4) (N := 9) hx hb hts in_X4 hown hK.1 hP 0 rfl rfl 0 (by decide) (hts _ q359) (fun _ h9 => h9) rfl dX4_next_37 ?_
        refine lv_icmp_ne (tgt := 51) hx hb dX4_next_40 (by decide) (fun c4 => ?_) (fun c4 => ?_)
        · have hf := oi_f c4 hf
          refine lv_aload_n hx hb dX4_next_51 rfl (lv_at hl 0 rfl) ?_
          refine lv_bipush (v := 48) hx hb dX4_next_52 (by decide) ?_
          refine lv_bipush (v := 57) hx hb dX4_next_54 (by decide) ?_
          obtain ⟨v5, ev5, hf⟩ := ob hf
          refine rd_callVZ (As := [.int (48 : Int32), .int (57 : Int32)]) (rest := []) ⟨hx, hb, hml, hown, hts⟩ (mX4_isIn l D k rdr mk xa ra (upd ri_0 4 (ri_0 3)) xi tp rq (48 : Int32) (57 : Int32) _ ev5) (cwV 2 hts (lw_V q266 q268 qs1 q95 q269) rfl rfl rfl ⟨rfl, hdX4_isIn⟩ ⟨Nat.le_of_ble_eq_true rfl, Nat.le_of_ble_eq_true rfl⟩) hK hP [0, 1, 2, 3, 4, 5, 6, 7, 8] rfl 0 4 rfl rfl rfl hl.1 rfl (Nat.le_of_ble_eq_true rfl) dX4_next_56 ⟨Nat.le_of_ble_eq_true rfl, Nat.le_of_ble_eq_true rfl⟩ (fun zv5 => ?_)
          refine lv_if_eq (tgt := 169) hx hb dX4_next_59 (by decide) (fun c7 => ?_) (fun c7 => ?_)
          · have hf := oi_t c7 hf
            refine lv_aload_n hx hb dX4_next_169 rfl (lv_at hl 0 rfl) ?_
            refine lv_aload_n hx hb dX4_next_170 rfl (lv_at hl 0 rfl) ?_
            refine lv_bipush (v := 40) hx hb dX4_next_171 (by decide) ?_
            refine lv_bipush (v := 40) hx hb dX4_next_173 (by decide) ?_
            obtain ⟨v8, ev8, hf⟩ := ob hf
            refine rd_callVZ (As := [.int (40 : Int32), .int (40 : Int32)]) (rest := [.ref rdr]) ⟨hx, hb, hml, hown, hts⟩ (mX4_isIn l D k rdr mk xa ra (upd ri_0 4 (ri_0 3)) xi tp rq (40 : Int32) (40 : Int32) _ ev8) (cwV 2 hts (lw_V q266 q268 qs1 q95 q269) rfl rfl rfl ⟨rfl, hdX4_isIn⟩ ⟨Nat.le_of_ble_eq_true rfl, Nat.le_of_ble_eq_true rfl⟩) hK hP [0, 1, 2, 3, 4, 5, 6, 7, 8] rfl 0 4 rfl rfl rfl hl.1 rfl (Nat.le_of_ble_eq_true rfl) dX4_next_175 ⟨Nat.le_of_ble_eq_true rfl, Nat.le_of_ble_eq_true rfl⟩ (fun zv8 => ?_)
            have hB186 : ∀ (ri_186 : Nat → Int32) (s0_186 : Int32), ∀ (H : Heap) (locs : List Loc), va_P D vwCl (wQ k rdr mk xa ra ri_186 xi tp rq) H → va_D A (wQ k rdr mk xa ra ri_186 xi tp rq) → va_S A s.heap H locs → fX4_next_B186 tp ri_186 s0_186 = some (.inr ri_o) → ∀ ls : Array Slot, lv_has ls 1 [(0, .ref rdr)] → gW p l e rmX4_next s m [.ref rdr] below meth c (qcX4_next D k rdr mk xa ra ri_o xi tp rq A) A 0 0 H locs 186 ls [.int s0_186, .ref rdr] := by
              intro ri_186 s0_186 H locs hP hD hS hf ls hl
              unfold fX4_next_B186 at hf
              refine va_put (D := D) (cl := vwCl) (ci := 4) (v := .int s0_186) (ty := .int) (C := RX4) (T := TX4) (N := 9) hx hb hts in_X4 tyX4 tyX4_ok nmX4 hown hK.1 hP hD hS 0 rfl rfl 6 (by decide) (hts _ q366) (fun _ h9 => h9) rfl (by decide +kernel) rfl rfl (Nat.le_of_ble_eq_true rfl) dX4_next_186 (fun H locs hP hD hS => ?_)
              have hP : va_P D vwCl (wQ k rdr mk xa ra (upd ri_186 5 s0_186) xi tp rq) H := hP
              have hD : va_D A (wQ k rdr mk xa ra (upd ri_186 5 s0_186) xi tp rq) := hD
              refine lv_aload_n hx hb dX4_next_189 rfl (lv_at hl 0 rfl) ?_
              refine lv_aload_n hx hb dX4_next_190 rfl (lv_at hl 0 rfl) ?_
              refine va_get (D := D) (cl := vwCl) (ci := 4) (v := .int ((upd ri_186 5 s0_186) 5)) (C := RX4) (T := TX4) (N := 9) hx hb hts in_X4 hown hK.1 hP 0 rfl rfl 6 (by decide) (hts _ q366) (fun _ h9 => h9) rfl dX4_next_191 ?_
              refine lv_iconst (v := 2) hx hb dX4_next_194 (by decide) ?_
              have hB214 : ∀ (ri_214 : Nat → Int32) (s0_214 : Int32), ∀ (H : Heap) (locs : List Loc), va_P D vwCl (wQ k rdr mk xa ra ri_214 xi tp rq) H → va_D A (wQ k rdr mk xa ra ri_214 xi tp rq) → va_S A s.heap H locs → fX4_next_B214 tp ri_214 s0_214 = some (.inr ri_o) → ∀ ls : Array Slot, lv_has ls 1 [(0, .ref rdr)] → gW p l e rmX4_next s m [.ref rdr] below meth c (qcX4_next D k rdr mk xa ra ri_o xi tp rq A) A 0 0 H locs 214 ls [.int s0_214, .ref rdr] := by
                intro ri_214 s0_214 H locs hP hD hS hf ls hl
                unfold fX4_next_B214 at hf
                refine lv_iconst (v := 1) hx hb dX4_next_214 (by decide) ?_
                obtain ⟨x12, ex12, hf⟩ := ob hf
                obtain ⟨_, rfl, hf⟩ := ec_r hf
                refine rd_callVv (As := [.int s0_214, .int (1 : Int32)]) (rest := []) ⟨hx, hb, hml, hown, hts⟩ (mX4_need l D k rdr mk xa ra ri_214 xi tp rq s0_214 (1 : Int32) ex12) (cwV 2 hts (lw_V q270 q272 qs2 q95 q273) rfl rfl rfl ⟨rfl, hdX4_need⟩ ⟨Nat.le_of_ble_eq_true rfl, Nat.le_of_ble_eq_true rfl⟩) hK hP [0, 1, 2, 3, 4, 5, 6, 7, 8] rfl 0 4 rfl rfl rfl hl.1 rfl (Nat.le_of_ble_eq_true rfl) dX4_next_215 ⟨Nat.le_of_ble_eq_true rfl, Nat.le_of_ble_eq_true rfl⟩ ?_
                refine lv_aload_n hx hb dX4_next_218 rfl (lv_at hl 0 rfl) ?_
                refine lv_dup hx hb dX4_next_219 rfl ?_
                refine va_get (D := D) (cl := vwCl) (ci := 4) (v := .int (ri_214 3)) (C := RX4) (T := TX4) (N := 9) hx hb hts in_X4 hown hK.1 hP 0 rfl rfl 4 (by decide) (hts _ q364) (fun _ h9 => h9) rfl dX4_next_220 ?_
                refine lv_iconst (v := 1) hx hb dX4_next_223 (by decide) ?_
                refine lv_iadd hx hb dX4_next_224 ?_
                refine va_put (D := D) (cl := vwCl) (ci := 4) (v := .int ((ri_214 3) + (1 : Int32))) (ty := .int) (C := RX4) (T := TX4) (N := 9) hx hb hts in_X4 tyX4 tyX4_ok nmX4 hown hK.1 hP hD hS 0 rfl rfl 4 (by decide) (hts _ q364) (fun _ h9 => h9) rfl (by decide +kernel) rfl rfl (Nat.le_of_ble_eq_true rfl) dX4_next_225 (fun H locs hP hD hS => ?_)
                have hP : va_P D vwCl (wQ k rdr mk xa ra (upd ri_214 3 ((ri_214 3) + (1 : Int32))) xi tp rq) H := hP
                have hD : va_D A (wQ k rdr mk xa ra (upd ri_214 3 ((ri_214 3) + (1 : Int32))) xi tp rq) := hD
                have he1 := Sum.inr.inj (Option.some.inj hf)
                rw [he1] at hP
                exact wr_vret hx hb hr hlk hP hS dX4_next_228
              have hB209 : ∀ (ri_209 : Nat → Int32), ∀ (H : Heap) (locs : List Loc), va_P D vwCl (wQ k rdr mk xa ra ri_209 xi tp rq) H → va_D A (wQ k rdr mk xa ra ri_209 xi tp rq) → va_S A s.heap H locs → fX4_next_B209 tp ri_209 = some (.inr ri_o) → ∀ ls : Array Slot, lv_has ls 1 [(0, .ref rdr)] → gW p l e rmX4_next s m [.ref rdr] below meth c (qcX4_next D k rdr mk xa ra ri_o xi tp rq A) A 0 0 H locs 209 ls [.ref rdr] := by
                intro ri_209 H locs hP hD hS hf ls hl
                unfold fX4_next_B209 at hf
                refine lv_iconst (v := 1) hx hb dX4_next_209 (by decide) ?_
                refine lv_goto (tgt := 214) hx hb dX4_next_210 (by decide) ?_
                exact hB214 ri_209 (1 : Int32) H locs hP hD hS hf ls (lv_sub hl [0] rfl)
              refine lv_icmp_eq (tgt := 209) hx hb dX4_next_195 (by decide) (fun c11 => ?_) (fun c11 => ?_)
              · have hf := oi_t c11 hf
                exact hB209 (upd ri_186 5 s0_186) H locs hP hD hS hf ls (lv_sub hl [0] rfl)
              · have hf := oi_f c11 hf
                refine lv_aload_n hx hb dX4_next_198 rfl (lv_at hl 0 rfl) ?_
                refine lv_bipush (v := 41) hx hb dX4_next_199 (by decide) ?_
                refine lv_bipush (v := 41) hx hb dX4_next_201 (by decide) ?_
                obtain ⟨v13, ev13, hf⟩ := ob hf
                refine rd_callVZ (As := [.int (41 : Int32), .int (41 : Int32)]) (rest := [.ref rdr]) ⟨hx, hb, hml, hown, hts⟩ (mX4_isIn l D k rdr mk xa ra (upd ri_186 5 s0_186) xi tp rq (41 : Int32) (41 : Int32) _ ev13) (cwV 2 hts (lw_V q266 q268 qs1 q95 q269) rfl rfl rfl ⟨rfl, hdX4_isIn⟩ ⟨Nat.le_of_ble_eq_true rfl, Nat.le_of_ble_eq_true rfl⟩) hK hP [0, 1, 2, 3, 4, 5, 6, 7, 8] rfl 0 4 rfl rfl rfl hl.1 rfl (Nat.le_of_ble_eq_true rfl) dX4_next_203 ⟨Nat.le_of_ble_eq_true rfl, Nat.le_of_ble_eq_true rfl⟩ (fun zv13 => ?_)
                refine lv_if_eq (tgt := 213) hx hb dX4_next_206 (by decide) (fun c15 => ?_) (fun c15 => ?_)
                · have hf := oi_t c15 hf
                  refine lv_iconst (v := 0) hx hb dX4_next_213 (by decide) ?_
                  exact hB214 (upd ri_186 5 s0_186) (0 : Int32) H locs hP hD hS hf ls (lv_sub hl [0] rfl)
                · have hf := oi_f c15 hf
                  exact hB209 (upd ri_186 5 s0_186) H locs hP hD hS hf ls (lv_sub hl [0] rfl)
            refine lv_if_eq (tgt := 185) hx hb dX4_next_178 (by decide) (fun c10 => ?_) (fun c10 => ?_)
            · have hf := oi_t c10 hf
              refine lv_iconst (v := 3) hx hb dX4_next_185 (by decide) ?_
              exact hB186 (upd ri_0 4 (ri_0 3)) (3 : Int32) H locs hP hD hS hf ls (lv_sub hl [0] rfl)
            · have hf := oi_f c10 hf
              refine lv_iconst (v := 2) hx hb dX4_next_181 (by decide) ?_
              refine lv_goto (tgt := 186) hx hb dX4_next_182 (by decide) ?_
              exact hB186 (upd ri_0 4 (ri_0 3)) (2 : Int32) H locs hP hD hS hf ls (lv_sub hl [0] rfl)
          · have hf := oi_f c7 hf
            refine lv_aload_n hx hb dX4_next_62 rfl (lv_at hl 0 rfl) ?_
            refine lv_iconst (v := 1) hx hb dX4_next_63 (by decide) ?_
            refine va_put (D := D) (cl := vwCl) (ci := 4) (v := .int (1 : Int32)) (ty := .int) (C := RX4) (T := TX4) (N := 9) hx hb hts in_X4 tyX4 tyX4_ok nmX4 hown hK.1 hP hD hS 0 rfl rfl 6 (by decide) (hts _ q366) (fun _ h9 => h9) rfl (by decide +kernel) rfl rfl (Nat.le_of_ble_eq_true rfl) dX4_next_64 (fun H locs hP hD hS => ?_)
            have hP : va_P D vwCl (wQ k rdr mk xa ra (upd (upd ri_0 4 (ri_0 3)) 5 (1 : Int32)) xi tp rq) H := hP
            have hD : va_D A (wQ k rdr mk xa ra (upd (upd ri_0 4 (ri_0 3)) 5 (1 : Int32)) xi tp rq) := hD
            refine lv_aload_n hx hb dX4_next_67 rfl (lv_at hl 0 rfl) ?_
            refine lv_iconst (v := 0) hx hb dX4_next_68 (by decide) ?_
            refine va_put (D := D) (cl := vwCl) (ci := 4) (v := .int (0 : Int32)) (ty := .int) (C := RX4) (T := TX4) (N := 9) hx hb hts in_X4 tyX4 tyX4_ok nmX4 hown hK.1 hP hD hS 0 rfl rfl 7 (by decide) (hts _ q367) (fun _ h9 => h9) rfl (by decide +kernel) rfl rfl (Nat.le_of_ble_eq_true rfl) dX4_next_69 (fun H locs hP hD hS => ?_)
            have hP : va_P D vwCl (wQ k rdr mk xa ra (upd (upd (upd ri_0 4 (ri_0 3)) 5 (1 : Int32)) 6 (0 : Int32)) xi tp rq) H := hP
            have hD : va_D A (wQ k rdr mk xa ra (upd (upd (upd ri_0 4 (ri_0 3)) 5 (1 : Int32)) 6 (0 : Int32)) xi tp rq) := hD
            have hL72 : ∀ (nn : Nat) (ri_72 : Nat → Int32), ∀ (H : Heap) (locs : List Loc), va_P D vwCl (wQ k rdr mk xa ra ri_72 xi tp rq) H → va_D A (wQ k rdr mk xa ra ri_72 xi tp rq) → va_S A s.heap H locs → fX4_next_L72 tp nn ri_72 = some (.inr ri_o) → ∀ ls : Array Slot, lv_has ls 1 [(0, .ref rdr)] → gW p l e rmX4_next s m [.ref rdr] below meth c (qcX4_next D k rdr mk xa ra ri_o xi tp rq A) A 0 0 H locs 72 ls [] := by
              intro nn72
              induction nn72 with
              | zero =>
                intro ri_72 H locs hP hD hS hf
                rw [fX4_next_L72] at hf; cases hf
              | succ nn72 ih72 =>
                intro ri_72 H locs hP hD hS hf ls hl
                rw [fX4_next_L72] at hf
                refine lv_aload_n hx hb dX4_next_72 rfl (lv_at hl 0 rfl) ?_
                refine lv_bipush (v := 48) hx hb dX4_next_73 (by decide) ?_
                refine lv_bipush (v := 57) hx hb dX4_next_75 (by decide) ?_
                obtain ⟨v16, ev16, hf⟩ := ob hf
                refine rd_callVZ (As := [.int (48 : Int32), .int (57 : Int32)]) (rest := []) ⟨hx, hb, hml, hown, hts⟩ (mX4_isIn l D k rdr mk xa ra ri_72 xi tp rq (48 : Int32) (57 : Int32) _ ev16) (cwV 2 hts (lw_V q266 q268 qs1 q95 q269) rfl rfl rfl ⟨rfl, hdX4_isIn⟩ ⟨Nat.le_of_ble_eq_true rfl, Nat.le_of_ble_eq_true rfl⟩) hK hP [0, 1, 2, 3, 4, 5, 6, 7, 8] rfl 0 4 rfl rfl rfl hl.1 rfl (Nat.le_of_ble_eq_true rfl) dX4_next_77 ⟨Nat.le_of_ble_eq_true rfl, Nat.le_of_ble_eq_true rfl⟩ (fun zv16 => ?_)
                refine lv_if_eq (tgt := 143) hx hb dX4_next_80 (by decide) (fun c18 => ?_) (fun c18 => ?_)
                · have hf := oi_t c18 hf
                  refine lv_aload_n hx hb dX4_next_143 rfl (lv_at hl 0 rfl) ?_
                  refine lv_aload_n hx hb dX4_next_144 rfl (lv_at hl 0 rfl) ?_
                  refine va_get (D := D) (cl := vwCl) (ci := 4) (v := .int (ri_72 3)) (C := RX4) (T := TX4) (N := 9) hx hb hts in_X4 hown hK.1 hP 0 rfl rfl 4 (by decide) (hts _ q364) (fun _ h9 => h9) rfl dX4_next_145 ?_
                  refine lv_aload_n hx hb dX4_next_148 rfl (lv_at hl 0 rfl) ?_
                  refine va_get (D := D) (cl := vwCl) (ci := 4) (v := .int (ri_72 4)) (C := RX4) (T := TX4) (N := 9) hx hb hts in_X4 hown hK.1 hP 0 rfl rfl 5 (by decide) (hts _ q365) (fun _ h9 => h9) rfl dX4_next_149 ?_
                  refine lv_isub hx hb dX4_next_152 ?_
                  refine lv_iconst (v := 4) hx hb dX4_next_153 (by decide) ?_
                  have hB162 : ∀ (ri_162 : Nat → Int32) (s0_162 : Int32), ∀ (H : Heap) (locs : List Loc), va_P D vwCl (wQ k rdr mk xa ra ri_162 xi tp rq) H → va_D A (wQ k rdr mk xa ra ri_162 xi tp rq) → va_S A s.heap H locs → fX4_next_B162 tp ri_162 s0_162 = some (.inr ri_o) → ∀ ls : Array Slot, lv_has ls 1 [] → gW p l e rmX4_next s m [.ref rdr] below meth c (qcX4_next D k rdr mk xa ra ri_o xi tp rq A) A 0 0 H locs 162 ls [.int s0_162, .ref rdr] := by
                    intro ri_162 s0_162 H locs hP hD hS hf ls hl
                    unfold fX4_next_B162 at hf
                    refine lv_iconst (v := 1) hx hb dX4_next_162 (by decide) ?_
                    obtain ⟨x20, ex20, hf⟩ := ob hf
                    obtain ⟨_, rfl, hf⟩ := ec_r hf
                    refine rd_callVv (As := [.int s0_162, .int (1 : Int32)]) (rest := []) ⟨hx, hb, hml, hown, hts⟩ (mX4_need l D k rdr mk xa ra ri_162 xi tp rq s0_162 (1 : Int32) ex20) (cwV 2 hts (lw_V q270 q272 qs2 q95 q273) rfl rfl rfl ⟨rfl, hdX4_need⟩ ⟨Nat.le_of_ble_eq_true rfl, Nat.le_of_ble_eq_true rfl⟩) hK hP [0, 1, 2, 3, 4, 5, 6, 7, 8] rfl 0 4 rfl rfl rfl hl.1 rfl (Nat.le_of_ble_eq_true rfl) dX4_next_163 ⟨Nat.le_of_ble_eq_true rfl, Nat.le_of_ble_eq_true rfl⟩ ?_
                    refine lv_goto (tgt := 228) hx hb dX4_next_166 (by decide) ?_
                    have he1 := Sum.inr.inj (Option.some.inj hf)
                    rw [he1] at hP
                    exact wr_vret hx hb hr hlk hP hS dX4_next_228
                  refine lv_icmp_gt (tgt := 161) hx hb dX4_next_154 (by decide) (fun c19 => ?_) (fun c19 => ?_)
                  · have hf := oi_t c19 hf
                    refine lv_iconst (v := 0) hx hb dX4_next_161 (by decide) ?_
                    exact hB162 ri_72 (0 : Int32) H locs hP hD hS hf ls (lv_sub hl [] rfl)
                  · have hf := oi_f c19 hf
                    refine lv_iconst (v := 1) hx hb dX4_next_157 (by decide) ?_
                    refine lv_goto (tgt := 162) hx hb dX4_next_158 (by decide) ?_
                    exact hB162 ri_72 (1 : Int32) H locs hP hD hS hf ls (lv_sub hl [] rfl)
                · have hf := oi_f c18 hf
                  refine lv_aload_n hx hb dX4_next_83 rfl (lv_at hl 0 rfl) ?_
                  refine lv_aload_n hx hb dX4_next_84 rfl (lv_at hl 0 rfl) ?_
                  refine va_get (D := D) (cl := vwCl) (ci := 4) (v := .int (ri_72 3)) (C := RX4) (T := TX4) (N := 9) hx hb hts in_X4 hown hK.1 hP 0 rfl rfl 4 (by decide) (hts _ q364) (fun _ h9 => h9) rfl dX4_next_85 ?_
                  refine lv_aload_n hx hb dX4_next_88 rfl (lv_at hl 0 rfl) ?_
                  refine va_get (D := D) (cl := vwCl) (ci := 4) (v := .int (ri_72 4)) (C := RX4) (T := TX4) (N := 9) hx hb hts in_X4 hown hK.1 hP 0 rfl rfl 5 (by decide) (hts _ q365) (fun _ h9 => h9) rfl dX4_next_89 ?_
                  refine lv_isub hx hb dX4_next_92 ?_
                  refine lv_iconst (v := 4) hx hb dX4_next_93 (by decide) ?_
                  have hB127 : ∀ (ri_127 : Nat → Int32) (s0_127 : Int32), ∀ (H : Heap) (locs : List Loc), va_P D vwCl (wQ k rdr mk xa ra ri_127 xi tp rq) H → va_D A (wQ k rdr mk xa ra ri_127 xi tp rq) → va_S A s.heap H locs → fX4_next_B127 tp (fX4_next_L72 tp nn72) ri_127 s0_127 = some (.inr ri_o) → ∀ ls : Array Slot, lv_has ls 1 [(0, .ref rdr)] → gW p l e rmX4_next s m [.ref rdr] below meth c (qcX4_next D k rdr mk xa ra ri_o xi tp rq A) A 0 0 H locs 127 ls [.int s0_127, .ref rdr] := by
                    intro ri_127 s0_127 H locs hP hD hS hf ls hl
                    unfold fX4_next_B127 at hf
                    refine va_put (D := D) (cl := vwCl) (ci := 4) (v := .int s0_127) (ty := .int) (C := RX4) (T := TX4) (N := 9) hx hb hts in_X4 tyX4 tyX4_ok nmX4 hown hK.1 hP hD hS 0 rfl rfl 7 (by decide) (hts _ q367) (fun _ h9 => h9) rfl (by decide +kernel) rfl rfl (Nat.le_of_ble_eq_true rfl) dX4_next_127 (fun H locs hP hD hS => ?_)
                    have hP : va_P D vwCl (wQ k rdr mk xa ra (upd ri_127 6 s0_127) xi tp rq) H := hP
                    have hD : va_D A (wQ k rdr mk xa ra (upd ri_127 6 s0_127) xi tp rq) := hD
                    refine lv_aload_n hx hb dX4_next_130 rfl (lv_at hl 0 rfl) ?_
                    refine lv_dup hx hb dX4_next_131 rfl ?_
                    refine va_get (D := D) (cl := vwCl) (ci := 4) (v := .int ((upd ri_127 6 s0_127) 3)) (C := RX4) (T := TX4) (N := 9) hx hb hts in_X4 hown hK.1 hP 0 rfl rfl 4 (by decide) (hts _ q364) (fun _ h9 => h9) rfl dX4_next_132 ?_
                    refine lv_iconst (v := 1) hx hb dX4_next_135 (by decide) ?_
                    refine lv_iadd hx hb dX4_next_136 ?_
                    refine va_put (D := D) (cl := vwCl) (ci := 4) (v := .int (((upd ri_127 6 s0_127) 3) + (1 : Int32))) (ty := .int) (C := RX4) (T := TX4) (N := 9) hx hb hts in_X4 tyX4 tyX4_ok nmX4 hown hK.1 hP hD hS 0 rfl rfl 4 (by decide) (hts _ q364) (fun _ h9 => h9) rfl (by decide +kernel) rfl rfl (Nat.le_of_ble_eq_true rfl) dX4_next_137 (fun H locs hP hD hS => ?_)
                    have hP : va_P D vwCl (wQ k rdr mk xa ra (upd (upd ri_127 6 s0_127) 3 (((upd ri_127 6 s0_127) 3) + (1 : Int32))) xi tp rq) H := hP
                    have hD : va_D A (wQ k rdr mk xa ra (upd (upd ri_127 6 s0_127) 3 (((upd ri_127 6 s0_127) 3) + (1 : Int32))) xi tp rq) := hD
                    refine lv_goto (tgt := 72) hx hb dX4_next_140 (by decide) ?_
                    exact ih72 (upd (upd ri_127 6 s0_127) 3 (((upd ri_127 6 s0_127) 3) + (1 : Int32))) H locs hP hD hS hf ls (lv_sub hl [0] rfl)
                  refine lv_icmp_ge (tgt := 123) hx hb dX4_next_94 (by decide) (fun c21 => ?_) (fun c21 => ?_)
                  · have hf := oi_t c21 hf
                    refine lv_aload_n hx hb dX4_next_123 rfl (lv_at hl 0 rfl) ?_
                    refine va_get (D := D) (cl := vwCl) (ci := 4) (v := .int (ri_72 6)) (C := RX4) (T := TX4) (N := 9) hx hb hts in_X4 hown hK.1 hP 0 rfl rfl 7 (by decide) (hts _ q367) (fun _ h9 => h9) rfl dX4_next_124 ?_
                    exact hB127 ri_72 (ri_72 6) H locs hP hD hS hf ls (lv_sub hl [0] rfl)
                  · have hf := oi_f c21 hf
                    refine lv_bipush (v := 10) hx hb dX4_next_97 (by decide) ?_
                    refine lv_aload_n hx hb dX4_next_99 rfl (lv_at hl 0 rfl) ?_
                    refine va_get (D := D) (cl := vwCl) (ci := 4) (v := .int (ri_72 6)) (C := RX4) (T := TX4) (N := 9) hx hb hts in_X4 hown hK.1 hP 0 rfl rfl 7 (by decide) (hts _ q367) (fun _ h9 => h9) rfl dX4_next_100 ?_
                    refine lv_imul hx hb dX4_next_103 ?_
                    refine lv_aload_n hx hb dX4_next_104 rfl (lv_at hl 0 rfl) ?_
                    refine va_get (D := D) (cl := vwCl) (ci := 4) (v := .ref (xa 0)) (C := RX4) (T := TX4) (N := 9) hx hb hts in_X4 hown hK.1 hP 0 rfl rfl 8 (by decide) (hts _ q368) (fun _ h9 => h9) rfl dX4_next_105 ?_
                    refine va_getN (D := D) (cl := vwCl) (ci := 0) (v := .ref (xa 2)) (C := RX0) (T := TX0) (N := 15) hx hb hts in_X0 hown hK.1 hP 1 rfl rfl 8 (by decide) (hK.nw 14 rfl) (fun _ h9 => h9) rfl dX4_next_108 ?_
                    refine lv_aload_n hx hb dX4_next_111 rfl (lv_at hl 0 rfl) ?_
                    refine va_get (D := D) (cl := vwCl) (ci := 4) (v := .int (ri_72 3)) (C := RX4) (T := TX4) (N := 9) hx hb hts in_X4 hown hK.1 hP 0 rfl rfl 4 (by decide) (hts _ q364) (fun _ h9 => h9) rfl dX4_next_112 ?_
                    obtain ⟨v22, ev22, hf⟩ := ob hf
                    refine x_bald hx hb hK hP 2 3 ev22 rfl rfl dX4_next_115 ?_
                    refine lv_iadd hx hb dX4_next_116 ?_
                    refine lv_bipush (v := 48) hx hb dX4_next_117 (by decide) ?_
                    refine lv_isub hx hb dX4_next_119 ?_
                    refine lv_goto (tgt := 127) hx hb dX4_next_120 (by decide) ?_
                    exact hB127 ri_72 ((((10 : Int32) * (ri_72 6)) + v22) - (48 : Int32)) H locs hP hD hS hf ls (lv_sub hl [0] rfl)
            exact hL72 FU (upd (upd (upd ri_0 4 (ri_0 3)) 5 (1 : Int32)) 6 (0 : Int32)) H locs hP hD hS hf ls (lv_sub hl [0] rfl)
        · have hf := oi_t c4 hf
          refine lv_aload_n hx hb dX4_next_43 rfl (lv_at hl 0 rfl) ?_
          refine lv_iconst (v := 0) hx hb dX4_next_44 (by decide) ?_
          refine va_put (D := D) (cl := vwCl) (ci := 4) (v := .int (0 : Int32)) (ty := .int) (C := RX4) (T := TX4) (N := 9) hx hb hts in_X4 tyX4 tyX4_ok nmX4 hown hK.1 hP hD hS 0 rfl rfl 6 (by decide) (hts _ q366) (fun _ h9 => h9) rfl (by decide +kernel) rfl rfl (Nat.le_of_ble_eq_true rfl) dX4_next_45 (fun H locs hP hD hS => ?_)
          have hP : va_P D vwCl (wQ k rdr mk xa ra (upd (upd ri_0 4 (ri_0 3)) 5 (0 : Int32)) xi tp rq) H := hP
          have hD : va_D A (wQ k rdr mk xa ra (upd (upd ri_0 4 (ri_0 3)) 5 (0 : Int32)) xi tp rq) := hD
          refine lv_goto (tgt := 228) hx hb dX4_next_48 (by decide) ?_
          have he1 := Sum.inr.inj (Option.some.inj hf)
          rw [he1] at hP
          exact wr_vret hx hb hr hlk hP hS dX4_next_228
      · have hf := oi_f c3 hf
        refine lv_aload_n hx hb dX4_next_11 rfl (lv_at hl 0 rfl) ?_
        refine lv_dup hx hb dX4_next_12 rfl ?_
        refine va_get (D := D) (cl := vwCl) (ci := 4) (v := .int (ri_0 3)) (C := RX4) (T := TX4) (N := 9) hx hb hts in_X4 hown hK.1 hP 0 rfl rfl 4 (by decide) (hts _ q364) (fun _ h9 => h9) rfl dX4_next_13 ?_
        refine lv_iconst (v := 1) hx hb dX4_next_16 (by decide) ?_
        refine lv_iadd hx hb dX4_next_17 ?_
        refine va_put (D := D) (cl := vwCl) (ci := 4) (v := .int ((ri_0 3) + (1 : Int32))) (ty := .int) (C := RX4) (T := TX4) (N := 9) hx hb hts in_X4 tyX4 tyX4_ok nmX4 hown hK.1 hP hD hS 0 rfl rfl 4 (by decide) (hts _ q364) (fun _ h9 => h9) rfl (by decide +kernel) rfl rfl (Nat.le_of_ble_eq_true rfl) dX4_next_18 (fun H locs hP hD hS => ?_)
        have hP : va_P D vwCl (wQ k rdr mk xa ra (upd ri_0 3 ((ri_0 3) + (1 : Int32))) xi tp rq) H := hP
        have hD : va_D A (wQ k rdr mk xa ra (upd ri_0 3 ((ri_0 3) + (1 : Int32))) xi tp rq) := hD
        refine lv_goto (tgt := 0) hx hb dX4_next_21 (by decide) ?_
        exact ih0 (upd ri_0 3 ((ri_0 3) + (1 : Int32))) H locs hP hD hS hf ls (lv_sub hl [0] rfl)
  exact hL0 FU ri H locs hP hD hS hf ls (lv_sub hl [0] rfl)

abbrev rmX4_next_f : Room := { frames := 5, cells := 1, slots := 8, locals := 122 }
set_option maxHeartbeats 4000000 in
theorem mX4_next_f (l : Launch) (D : va_G) (k : Nat → ClassId) (rdr : Nat) (mk : Nat → Nat) (xa : Nat → Nat) (ra : Nat → Nat → Nat) (ri : Nat → Int32) (xi : Nat → Int32) (tp : Nat → Int32) (rq : RS) (sz : Nat) (EC EP : Int32) (hf : fX4_next ri tp = some (.inl (EC, EP))) : fx_Met l yX4_next (ws_ yX4_next cX4_next 1 none) rmX4_next_f (wxP D k (wQ k rdr mk xa ra ri xi tp rq) sz [.ref rdr]) (vQ (va_A (wQ k rdr mk xa ra ri xi tp rq) sz)) (xcF D EC EP (wXT k xa ra xi tp) (va_A (wQ k rdr mk xa ra ri xi tp rq) sz)) 1 8 (va_A (wQ k rdr mk xa ra ri xi tp rq) sz) := by
  refine fx_start (Qc := fun A => (vQ A)) (XC := fun A => (xcF D EC EP (wXT k xa ra xi tp) A)) (by decide +kernel) (Nat.le_of_ble_eq_true rfl) ?_
  intro p e s m below meth c ls A hA hx hb hr hlk hml hown hnm hts hP hK hD hZ hex hl
  have hl : lv_has ls 1 [(0, .ref rdr)] := hl
  have hown : s.vm.findClass RX4 = some m.cls := hown
  have hS : va_S A s.heap s.heap [] := va_S.rf
  suffices hw : ∀ (H : Heap) (locs : List Loc), va_P D vwCl (wQ k rdr mk xa ra ri xi tp rq) H → va_S A s.heap H locs → gF p l e rmX4_next_f s m [.ref rdr] below meth c (vQ A) (xcF D EC EP (wXT k xa ra xi tp) A) A 1 8 H locs 0 ls [] from hw s.heap [] hP hS
  clear hP hS
  intro H locs hP hS
  unfold fX4_next at hf
  have hL0 : ∀ (nn : Nat) (ri_0 : Nat → Int32), ∀ (H : Heap) (locs : List Loc), va_P D vwCl (wQ k rdr mk xa ra ri_0 xi tp rq) H → va_D A (wQ k rdr mk xa ra ri_0 xi tp rq) → va_S A s.heap H locs → fX4_next_L0 tp nn ri_0 = some (.inl (EC, EP)) → ∀ ls : Array Slot, lv_has ls 1 [(0, .ref rdr)] → gF p l e rmX4_next_f s m [.ref rdr] below meth c (vQ A) (xcF D EC EP (wXT k xa ra xi tp) A) A 1 8 H locs 0 ls [] := by
    intro nn0
    induction nn0 with
    | zero =>
      intro ri_0 H locs hP hD hS hf
      rw [fX4_next_L0] at hf; cases hf
    | succ nn0 ih0 =>
      intro ri_0 H locs hP hD hS hf ls hl
      rw [fX4_next_L0] at hf
      refine lv_aload_n hx hb dX4_next_0 rfl (lv_at hl 0 rfl) ?_
      refine lv_bipush (v := 32) hx hb dX4_next_1 (by decide) ?_
      refine lv_bipush (v := 32) hx hb dX4_next_3 (by decide) ?_
      obtain ⟨v1, ev1, hf⟩ := ob hf
      refine rd_callVZ (As := [.int (32 : Int32), .int (32 : Int32)]) (rest := []) ⟨hx, hb, hml, hown, hts⟩ (mX4_isIn l D k rdr mk xa ra ri_0 xi tp rq (32 : Int32) (32 : Int32) _ ev1) (cwV 2 hts (lw_V q266 q268 qs1 q95 q269) rfl rfl rfl ⟨rfl, hdX4_isIn⟩ ⟨Nat.le_of_ble_eq_true rfl, Nat.le_of_ble_eq_true rfl⟩) hK hP [0, 1, 2, 3, 4, 5, 6, 7, 8] rfl 0 4 rfl rfl rfl hl.1 rfl (Nat.le_of_ble_eq_true rfl) dX4_next_5 ⟨Nat.le_of_ble_eq_true rfl, Nat.le_of_ble_eq_true rfl⟩ (fun zv1 => ?_)
      refine lv_if_eq (tgt := 24) hx hb dX4_next_8 (by decide) (fun c3 => ?_) (fun c3 => ?_)
      · have hf := oi_t c3 hf
        refine lv_aload_n hx hb dX4_next_24 rfl (lv_at hl 0 rfl) ?_
        refine lv_aload_n hx hb dX4_next_25 rfl (lv_at hl 0 rfl) ?_
        refine va_get (D := D) (cl := vwCl) (ci := 4) (v := .int (ri_0 3)) (C := RX4) (T := TX4) (N := 9) hx hb hts in_X4 hown hK.1 hP 0 rfl rfl 4 (by decide) (hts _ q364) (fun _ h9 => h9) rfl dX4_next_26 ?_
        refine va_put (D := D) (cl := vwCl) (ci := 4) (v := .int (ri_0 3)) (ty := .int) (C := RX4) (T := TX4) (N := 9) hx hb hts in_X4 tyX4 tyX4_ok nmX4 hown hK.1 hP hD hS 0 rfl rfl 5 (by decide) (hts _ q365) (fun _ h9 => h9) rfl (by decide +kernel) rfl rfl (Nat.le_of_ble_eq_true rfl) dX4_next_29 (fun H locs hP hD hS => ?_)
        have hP : va_P D vwCl (wQ k rdr mk xa ra (upd ri_0 4 (ri_0 3)) xi tp rq) H := hP
        have hD : va_D A (wQ k rdr mk xa ra (upd ri_0 4 (ri_0 3)) xi tp rq) := hD
        refine lv_aload_n hx hb dX4_next_32 rfl (lv_at hl 0 rfl) ?_
        refine va_get (D := D) (cl := vwCl) (ci := 4) (v := .int ((upd ri_0 4 (ri_0 3)) 3)) (C := RX4) (T := TX4) (N := 9) hx hb hts in_X4 hown hK.1 hP 0 rfl rfl 4 (by decide) (hts _ q364) (fun _ h9 => h9) rfl dX4_next_33 ?_
        refine lv_aload_n hx hb dX4_next_36 rfl (lv_at hl 0 rfl) ?_
        refine va_get (D := D) (cl := vwCl) (ci := 4) (v := .int ((upd ri_0 4 (ri_0 3)) 0)) (C := RX4) (T := TX4) (N := 9) hx hb hts in_X4 hown hK.1 hP 0 rfl rfl 0 (by decide) (hts _ q359) (fun _ h9 => h9) rfl dX4_next_37 ?_
        refine lv_icmp_ne (tgt := 51) hx hb dX4_next_40 (by decide) (fun c4 => ?_) (fun c4 => ?_)
        · have hf := oi_f c4 hf
          refine lv_aload_n hx hb dX4_next_51 rfl (lv_at hl 0 rfl) ?_
          refine lv_bipush (v := 48) hx hb dX4_next_52 (by decide) ?_
          refine lv_bipush (v := 57) hx hb dX4_next_54 (by decide) ?_
          obtain ⟨v5, ev5, hf⟩ := ob hf
          refine rd_callVZ (As := [.int (48 : Int32), .int (57 : Int32)]) (rest := []) ⟨hx, hb, hml, hown, hts⟩ (mX4_isIn l D k rdr mk xa ra (upd ri_0 4 (ri_0 3)) xi tp rq (48 : Int32) (57 : Int32) _ ev5) (cwV 2 hts (lw_V q266 q268 qs1 q95 q269) rfl rfl rfl ⟨rfl, hdX4_isIn⟩ ⟨Nat.le_of_ble_eq_true rfl, Nat.le_of_ble_eq_true rfl⟩) hK hP [0, 1, 2, 3, 4, 5, 6, 7, 8] rfl 0 4 rfl rfl rfl hl.1 rfl (Nat.le_of_ble_eq_true rfl) dX4_next_56 ⟨Nat.le_of_ble_eq_true rfl, Nat.le_of_ble_eq_true rfl⟩ (fun zv5 => ?_)
          refine lv_if_eq (tgt := 169) hx hb dX4_next_59 (by decide) (fun c7 => ?_) (fun c7 => ?_)
          · have hf := oi_t c7 hf
            refine lv_aload_n hx hb dX4_next_169 rfl (lv_at hl 0 rfl) ?_
            refine lv_aload_n hx hb dX4_next_170 rfl (lv_at hl 0 rfl) ?_
            refine lv_bipush (v := 40) hx hb dX4_next_171 (by decide) ?_
            refine lv_bipush (v := 40) hx hb dX4_next_173 (by decide) ?_
            obtain ⟨v8, ev8, hf⟩ := ob hf
            refine rd_callVZ (As := [.int (40 : Int32), .int (40 : Int32)]) (rest := [.ref rdr]) ⟨hx, hb, hml, hown, hts⟩ (mX4_isIn l D k rdr mk xa ra (upd ri_0 4 (ri_0 3)) xi tp rq (40 : Int32) (40 : Int32) _ ev8) (cwV 2 hts (lw_V q266 q268 qs1 q95 q269) rfl rfl rfl ⟨rfl, hdX4_isIn⟩ ⟨Nat.le_of_ble_eq_true rfl, Nat.le_of_ble_eq_true rfl⟩) hK hP [0, 1, 2, 3, 4, 5, 6, 7, 8] rfl 0 4 rfl rfl rfl hl.1 rfl (Nat.le_of_ble_eq_true rfl) dX4_next_175 ⟨Nat.le_of_ble_eq_true rfl, Nat.le_of_ble_eq_true rfl⟩ (fun zv8 => ?_)
            have hB186 : ∀ (ri_186 : Nat → Int32) (s0_186 : Int32), ∀ (H : Heap) (locs : List Loc), va_P D vwCl (wQ k rdr mk xa ra ri_186 xi tp rq) H → va_D A (wQ k rdr mk xa ra ri_186 xi tp rq) → va_S A s.heap H locs → fX4_next_B186 tp ri_186 s0_186 = some (.inl (EC, EP)) → ∀ ls : Array Slot, lv_has ls 1 [(0, .ref rdr)] → gF p l e rmX4_next_f s m [.ref rdr] below meth c (vQ A) (xcF D EC EP (wXT k xa ra xi tp) A) A 1 8 H locs 186 ls [.int s0_186, .ref rdr] := by
              intro ri_186 s0_186 H locs hP hD hS hf ls hl
              unfold fX4_next_B186 at hf
              refine va_put (D := D) (cl := vwCl) (ci := 4) (v := .int s0_186) (ty := .int) (C := RX4) (T := TX4) (N := 9) hx hb hts in_X4 tyX4 tyX4_ok nmX4 hown hK.1 hP hD hS 0 rfl rfl 6 (by decide) (hts _ q366) (fun _ h9 => h9) rfl (by decide +kernel) rfl rfl (Nat.le_of_ble_eq_true rfl) dX4_next_186 (fun H locs hP hD hS => ?_)
              have hP : va_P D vwCl (wQ k rdr mk xa ra (upd ri_186 5 s0_186) xi tp rq) H := hP
              have hD : va_D A (wQ k rdr mk xa ra (upd ri_186 5 s0_186) xi tp rq) := hD
              refine lv_aload_n hx hb dX4_next_189 rfl (lv_at hl 0 rfl) ?_
              refine lv_aload_n hx hb dX4_next_190 rfl (lv_at hl 0 rfl) ?_
              refine va_get (D := D) (cl := vwCl) (ci := 4) (v := .int ((upd ri_186 5 s0_186) 5)) (C := RX4) (T := TX4) (N := 9) hx hb hts in_X4 hown hK.1 hP 0 rfl rfl 6 (by decide) (hts _ q366) (fun _ h9 => h9) rfl dX4_next_191 ?_
              refine lv_iconst (v := 2) hx hb dX4_next_194 (by decide) ?_
              have hB214 : ∀ (ri_214 : Nat → Int32) (s0_214 : Int32), ∀ (H : Heap) (locs : List Loc), va_P D vwCl (wQ k rdr mk xa ra ri_214 xi tp rq) H → va_D A (wQ k rdr mk xa ra ri_214 xi tp rq) → va_S A s.heap H locs → fX4_next_B214 tp ri_214 s0_214 = some (.inl (EC, EP)) → ∀ ls : Array Slot, lv_has ls 1 [(0, .ref rdr)] → gF p l e rmX4_next_f s m [.ref rdr] below meth c (vQ A) (xcF D EC EP (wXT k xa ra xi tp) A) A 1 8 H locs 214 ls [.int s0_214, .ref rdr] := by
                intro ri_214 s0_214 H locs hP hD hS hf ls hl
                unfold fX4_next_B214 at hf
                refine lv_iconst (v := 1) hx hb dX4_next_214 (by decide) ?_
                obtain ⟨x12, ex12, hf⟩ := ob hf
                rcases ec_l hf with rfl | ⟨_, rfl, hf⟩
                · refine fx_excV (As := [.int s0_214, .int (1 : Int32)]) (rest := []) ⟨hx, hb, hml, hown, hts⟩ (mX4_need_f l D k rdr mk xa ra ri_214 xi tp rq s0_214 (1 : Int32) _ EC EP ex12) (cwV 2 hts (lw_V q270 q272 qs2 q95 q273) rfl rfl rfl ⟨rfl, hdX4_need⟩ ⟨Nat.le_of_ble_eq_true rfl, Nat.le_of_ble_eq_true rfl⟩) hK hZ hP hD hS hA [0, 1, 2, 3, 4, 5, 6, 7, 8] rfl (by decide) [] (wr := []) rfl (by decide) (by decide) 0 4 rfl rfl rfl hl.1 rfl (Nat.le_of_ble_eq_true rfl) dX4_next_215 ⟨Nat.le_of_ble_eq_true rfl, Nat.le_of_ble_eq_true rfl⟩ (fun H locs q9 ce hP hD hS hc9 hv9 hcl9 => ?_)
                  exact fx_thrown hex hlk hc9 hv9 hcl9 hP hD hS (Nat.le_of_ble_eq_true rfl) (Nat.le_of_ble_eq_true rfl)
                refine rd_callVv (As := [.int s0_214, .int (1 : Int32)]) (rest := []) ⟨hx, hb, hml, hown, hts⟩ (mX4_need l D k rdr mk xa ra ri_214 xi tp rq s0_214 (1 : Int32) ex12) (cwV 2 hts (lw_V q270 q272 qs2 q95 q273) rfl rfl rfl ⟨rfl, hdX4_need⟩ ⟨Nat.le_of_ble_eq_true rfl, Nat.le_of_ble_eq_true rfl⟩) hK hP [0, 1, 2, 3, 4, 5, 6, 7, 8] rfl 0 4 rfl rfl rfl hl.1 rfl (Nat.le_of_ble_eq_true rfl) dX4_next_215 ⟨Nat.le_of_ble_eq_true rfl, Nat.le_of_ble_eq_true rfl⟩ ?_
                refine lv_aload_n hx hb dX4_next_218 rfl (lv_at hl 0 rfl) ?_
                refine lv_dup hx hb dX4_next_219 rfl ?_
                refine va_get (D := D) (cl := vwCl) (ci := 4) (v := .int (ri_214 3)) (C := RX4) (T := TX4) (N := 9) hx hb hts in_X4 hown hK.1 hP 0 rfl rfl 4 (by decide) (hts _ q364) (fun _ h9 => h9) rfl dX4_next_220 ?_
                refine lv_iconst (v := 1) hx hb dX4_next_223 (by decide) ?_
                refine lv_iadd hx hb dX4_next_224 ?_
                refine va_put (D := D) (cl := vwCl) (ci := 4) (v := .int ((ri_214 3) + (1 : Int32))) (ty := .int) (C := RX4) (T := TX4) (N := 9) hx hb hts in_X4 tyX4 tyX4_ok nmX4 hown hK.1 hP hD hS 0 rfl rfl 4 (by decide) (hts _ q364) (fun _ h9 => h9) rfl (by decide +kernel) rfl rfl (Nat.le_of_ble_eq_true rfl) dX4_next_225 (fun H locs hP hD hS => ?_)
                have hP : va_P D vwCl (wQ k rdr mk xa ra (upd ri_214 3 ((ri_214 3) + (1 : Int32))) xi tp rq) H := hP
                have hD : va_D A (wQ k rdr mk xa ra (upd ri_214 3 ((ri_214 3) + (1 : Int32))) xi tp rq) := hD
                cases hf
              have hB209 : ∀ (ri_209 : Nat → Int32), ∀ (H : Heap) (locs : List Loc), va_P D vwCl (wQ k rdr mk xa ra ri_209 xi tp rq) H → va_D A (wQ k rdr mk xa ra ri_209 xi tp rq) → va_S A s.heap H locs → fX4_next_B209 tp ri_209 = some (.inl (EC, EP)) → ∀ ls : Array Slot, lv_has ls 1 [(0, .ref rdr)] → gF p l e rmX4_next_f s m [.ref rdr] below meth c (vQ A) (xcF D EC EP (wXT k xa ra xi tp) A) A 1 8 H locs 209 ls [.ref rdr] := by
                intro ri_209 H locs hP hD hS hf ls hl
                unfold fX4_next_B209 at hf
                refine lv_iconst (v := 1) hx hb dX4_next_209 (by decide) ?_
                refine lv_goto (tgt := 214) hx hb dX4_next_210 (by decide) ?_
                exact hB214 ri_209 (1 : Int32) H locs hP hD hS hf ls (lv_sub hl [0] rfl)
              refine lv_icmp_eq (tgt := 209) hx hb dX4_next_195 (by decide) (fun c11 => ?_) (fun c11 => ?_)
              · have hf := oi_t c11 hf
                exact hB209 (upd ri_186 5 s0_186) H locs hP hD hS hf ls (lv_sub hl [0] rfl)
              · have hf := oi_f c11 hf
                refine lv_aload_n hx hb dX4_next_198 rfl (lv_at hl 0 rfl) ?_
                refine lv_bipush (v := 41) hx hb dX4_next_199 (by decide) ?_
                refine lv_bipush (v := 41) hx hb dX4_next_201 (by decide) ?_
                obtain ⟨v13, ev13, hf⟩ := ob hf
                refine rd_callVZ (As := [.int (41 : Int32), .int (41 : Int32)]) (rest := [.ref rdr]) ⟨hx, hb, hml, hown, hts⟩ (mX4_isIn l D k rdr mk xa ra (upd ri_186 5 s0_186) xi tp rq (41 : Int32) (41 : Int32) _ ev13) (cwV 2 hts (lw_V q266 q268 qs1 q95 q269) rfl rfl rfl ⟨rfl, hdX4_isIn⟩ ⟨Nat.le_of_ble_eq_true rfl, Nat.le_of_ble_eq_true rfl⟩) hK hP [0, 1, 2, 3, 4, 5, 6, 7, 8] rfl 0 4 rfl rfl rfl hl.1 rfl (Nat.le_of_ble_eq_true rfl) dX4_next_203 ⟨Nat.le_of_ble_eq_true rfl, Nat.le_of_ble_eq_true rfl⟩ (fun zv13 => ?_)
                refine lv_if_eq (tgt := 213) hx hb dX4_next_206 (by decide) (fun c15 => ?_) (fun c15 => ?_)
                · have hf := oi_t c15 hf
                  refine lv_iconst (v := 0) hx hb dX4_next_213 (by decide) ?_
                  exact hB214 (upd ri_186 5 s0_186) (0 : Int32) H locs hP hD hS hf ls (lv_sub hl [0] rfl)
                · have hf := oi_f c15 hf
                  exact hB209 (upd ri_186 5 s0_186) H locs hP hD hS hf ls (lv_sub hl [0] rfl)
            refine lv_if_eq (tgt := 185) hx hb dX4_next_178 (by decide) (fun c10 => ?_) (fun c10 => ?_)
            · have hf := oi_t c10 hf
              refine lv_iconst (v := 3) hx hb dX4_next_185 (by decide) ?_
              exact hB186 (upd ri_0 4 (ri_0 3)) (3 : Int32) H locs hP hD hS hf ls (lv_sub hl [0] rfl)
            · have hf := oi_f c10 hf
              refine lv_iconst (v := 2) hx hb dX4_next_181 (by decide) ?_
              refine lv_goto (tgt := 186) hx hb dX4_next_182 (by decide) ?_
              exact hB186 (upd ri_0 4 (ri_0 3)) (2 : Int32) H locs hP hD hS hf ls (lv_sub hl [0] rfl)
          · have hf := oi_f c7 hf
            refine lv_aload_n hx hb dX4_next_62 rfl (lv_at hl 0 rfl) ?_
            refine lv_iconst (v := 1) hx hb dX4_next_63 (by decide) ?_
            refine va_put (D := D) (cl := vwCl) (ci := 4) (v := .int (1 : Int32)) (ty := .int) (C := RX4) (T := TX4) (N := 9) hx hb hts in_X4 tyX4 tyX4_ok nmX4 hown hK.1 hP hD hS 0 rfl rfl 6 (by decide) (hts _ q366) (fun _ h9 => h9) rfl (by decide +kernel) rfl rfl (Nat.le_of_ble_eq_true rfl) dX4_next_64 (fun H locs hP hD hS => ?_)
            have hP : va_P D vwCl (wQ k rdr mk xa ra (upd (upd ri_0 4 (ri_0 3)) 5 (1 : Int32)) xi tp rq) H := hP
            have hD : va_D A (wQ k rdr mk xa ra (upd (upd ri_0 4 (ri_0 3)) 5 (1 : Int32)) xi tp rq) := hD
            refine lv_aload_n hx hb dX4_next_67 rfl (lv_at hl 0 rfl) ?_
            refine lv_iconst (v := 0) hx hb dX4_next_68 (by decide) ?_
            refine va_put (D := D) (cl := vwCl) (ci := 4) (v := .int (0 : Int32)) (ty := .int) (C := RX4) (T := TX4) (N := 9) hx hb hts in_X4 tyX4 tyX4_ok nmX4 hown hK.1 hP hD hS 0 rfl rfl 7 (by decide) (hts _ q367) (fun _ h9 => h9) rfl (by decide +kernel) rfl rfl (Nat.le_of_ble_eq_true rfl) dX4_next_69 (fun H locs hP hD hS => ?_)
            have hP : va_P D vwCl (wQ k rdr mk xa ra (upd (upd (upd ri_0 4 (ri_0 3)) 5 (1 : Int32)) 6 (0 : Int32)) xi tp rq) H := hP
            have hD : va_D A (wQ k rdr mk xa ra (upd (upd (upd ri_0 4 (ri_0 3)) 5 (1 : Int32)) 6 (0 : Int32)) xi tp rq) := hD
            have hL72 : ∀ (nn : Nat) (ri_72 : Nat → Int32), ∀ (H : Heap) (locs : List Loc), va_P D vwCl (wQ k rdr mk xa ra ri_72 xi tp rq) H → va_D A (wQ k rdr mk xa ra ri_72 xi tp rq) → va_S A s.heap H locs → fX4_next_L72 tp nn ri_72 = some (.inl (EC, EP)) → ∀ ls : Array Slot, lv_has ls 1 [(0, .ref rdr)] → gF p l e rmX4_next_f s m [.ref rdr] below meth c (vQ A) (xcF D EC EP (wXT k xa ra xi tp) A) A 1 8 H locs 72 ls [] := by
              intro nn72
              induction nn72 with
              | zero =>
                intro ri_72 H locs hP hD hS hf
                rw [fX4_next_L72] at hf; cases hf
              | succ nn72 ih72 =>
                intro ri_72 H locs hP hD hS hf ls hl
                rw [fX4_next_L72] at hf
                refine lv_aload_n hx hb dX4_next_72 rfl (lv_at hl 0 rfl) ?_
                refine lv_bipush (v := 48) hx hb dX4_next_73 (by decide) ?_
                refine lv_bipush (v := 57) hx hb dX4_next_75 (by decide) ?_
                obtain ⟨v16, ev16, hf⟩ := ob hf
                refine rd_callVZ (As := [.int (48 : Int32), .int (57 : Int32)]) (rest := []) ⟨hx, hb, hml, hown, hts⟩ (mX4_isIn l D k rdr mk xa ra ri_72 xi tp rq (48 : Int32) (57 : Int32) _ ev16) (cwV 2 hts (lw_V q266 q268 qs1 q95 q269) rfl rfl rfl ⟨rfl, hdX4_isIn⟩ ⟨Nat.le_of_ble_eq_true rfl, Nat.le_of_ble_eq_true rfl⟩) hK hP [0, 1, 2, 3, 4, 5, 6, 7, 8] rfl 0 4 rfl rfl rfl hl.1 rfl (Nat.le_of_ble_eq_true rfl) dX4_next_77 ⟨Nat.le_of_ble_eq_true rfl, Nat.le_of_ble_eq_true rfl⟩ (fun zv16 => ?_)
                refine lv_if_eq (tgt := 143) hx hb dX4_next_80 (by decide) (fun c18 => ?_) (fun c18 => ?_)
                · have hf := oi_t c18 hf
                  refine lv_aload_n hx hb dX4_next_143 rfl (lv_at hl 0 rfl) ?_
                  refine lv_aload_n hx hb dX4_next_144 rfl (lv_at hl 0 rfl) ?_
                  refine va_get (D := D) (cl := vwCl) (ci := 4) (v := .int (ri_72 3)) (C := RX4) (T := TX4) (N := 9) hx hb hts in_X4 hown hK.1 hP 0 rfl rfl 4 (by decide) (hts _ q364) (fun _ h9 => h9) rfl dX4_next_145 ?_
                  refine lv_aload_n hx hb dX4_next_148 rfl (lv_at hl 0 rfl) ?_
                  refine va_get (D := D) (cl := vwCl) (ci := 4) (v := .int (ri_72 4)) (C := RX4) (T := TX4) (N := 9) hx hb hts in_X4 hown hK.1 hP 0 rfl rfl 5 (by decide) (hts _ q365) (fun _ h9 => h9) rfl dX4_next_149 ?_
                  refine lv_isub hx hb dX4_next_152 ?_
                  refine lv_iconst (v := 4) hx hb dX4_next_153 (by decide) ?_
                  have hB162 : ∀ (ri_162 : Nat → Int32) (s0_162 : Int32), ∀ (H : Heap) (locs : List Loc), va_P D vwCl (wQ k rdr mk xa ra ri_162 xi tp rq) H → va_D A (wQ k rdr mk xa ra ri_162 xi tp rq) → va_S A s.heap H locs → fX4_next_B162 tp ri_162 s0_162 = some (.inl (EC, EP)) → ∀ ls : Array Slot, lv_has ls 1 [] → gF p l e rmX4_next_f s m [.ref rdr] below meth c (vQ A) (xcF D EC EP (wXT k xa ra xi tp) A) A 1 8 H locs 162 ls [.int s0_162, .ref rdr] := by
                    intro ri_162 s0_162 H locs hP hD hS hf ls hl
                    unfold fX4_next_B162 at hf
                    refine lv_iconst (v := 1) hx hb dX4_next_162 (by decide) ?_
                    obtain ⟨x20, ex20, hf⟩ := ob hf
                    rcases ec_l hf with rfl | ⟨_, rfl, hf⟩
                    · refine fx_excV (As := [.int s0_162, .int (1 : Int32)]) (rest := []) ⟨hx, hb, hml, hown, hts⟩ (mX4_need_f l D k rdr mk xa ra ri_162 xi tp rq s0_162 (1 : Int32) _ EC EP ex20) (cwV 2 hts (lw_V q270 q272 qs2 q95 q273) rfl rfl rfl ⟨rfl, hdX4_need⟩ ⟨Nat.le_of_ble_eq_true rfl, Nat.le_of_ble_eq_true rfl⟩) hK hZ hP hD hS hA [0, 1, 2, 3, 4, 5, 6, 7, 8] rfl (by decide) [] (wr := []) rfl (by decide) (by decide) 0 4 rfl rfl rfl hl.1 rfl (Nat.le_of_ble_eq_true rfl) dX4_next_163 ⟨Nat.le_of_ble_eq_true rfl, Nat.le_of_ble_eq_true rfl⟩ (fun H locs q9 ce hP hD hS hc9 hv9 hcl9 => ?_)
                      exact fx_thrown hex hlk hc9 hv9 hcl9 hP hD hS (Nat.le_of_ble_eq_true rfl) (Nat.le_of_ble_eq_true rfl)
                    refine rd_callVv (As := [.int s0_162, .int (1 : Int32)]) (rest := []) ⟨hx, hb, hml, hown, hts⟩ (mX4_need l D k rdr mk xa ra ri_162 xi tp rq s0_162 (1 : Int32) ex20) (cwV 2 hts (lw_V q270 q272 qs2 q95 q273) rfl rfl rfl ⟨rfl, hdX4_need⟩ ⟨Nat.le_of_ble_eq_true rfl, Nat.le_of_ble_eq_true rfl⟩) hK hP [0, 1, 2, 3, 4, 5, 6, 7, 8] rfl 0 4 rfl rfl rfl hl.1 rfl (Nat.le_of_ble_eq_true rfl) dX4_next_163 ⟨Nat.le_of_ble_eq_true rfl, Nat.le_of_ble_eq_true rfl⟩ ?_
                    refine lv_goto (tgt := 228) hx hb dX4_next_166 (by decide) ?_
                    cases hf
                  refine lv_icmp_gt (tgt := 161) hx hb dX4_next_154 (by decide) (fun c19 => ?_) (fun c19 => ?_)
                  · have hf := oi_t c19 hf
                    refine lv_iconst (v := 0) hx hb dX4_next_161 (by decide) ?_
                    exact hB162 ri_72 (0 : Int32) H locs hP hD hS hf ls (lv_sub hl [] rfl)
                  · have hf := oi_f c19 hf
                    refine lv_iconst (v := 1) hx hb dX4_next_157 (by decide) ?_
                    refine lv_goto (tgt := 162) hx hb dX4_next_158 (by decide) ?_
                    exact hB162 ri_72 (1 : Int32) H locs hP hD hS hf ls (lv_sub hl [] rfl)
                · have hf := oi_f c18 hf
                  refine lv_aload_n hx hb dX4_next_83 rfl (lv_at hl 0 rfl) ?_
                  refine lv_aload_n hx hb dX4_next_84 rfl (lv_at hl 0 rfl) ?_
                  refine va_get (D := D) (cl := vwCl) (ci := 4) (v := .int (ri_72 3)) (C := RX4) (T := TX4) (N := 9) hx hb hts in_X4 hown hK.1 hP 0 rfl rfl 4 (by decide) (hts _ q364) (fun _ h9 => h9) rfl dX4_next_85 ?_
                  refine lv_aload_n hx hb dX4_next_88 rfl (lv_at hl 0 rfl) ?_
                  refine va_get (D := D) (cl := vwCl) (ci := 4) (v := .int (ri_72 4)) (C := RX4) (T := TX4) (N := 9) hx hb hts in_X4 hown hK.1 hP 0 rfl rfl 5 (by decide) (hts _ q365) (fun _ h9 => h9) rfl dX4_next_89 ?_
                  refine lv_isub hx hb dX4_next_92 ?_
                  refine lv_iconst (v := 4) hx hb dX4_next_93 (by decide) ?_
                  have hB127 : ∀ (ri_127 : Nat → Int32) (s0_127 : Int32), ∀ (H : Heap) (locs : List Loc), va_P D vwCl (wQ k rdr mk xa ra ri_127 xi tp rq) H → va_D A (wQ k rdr mk xa ra ri_127 xi tp rq) → va_S A s.heap H locs → fX4_next_B127 tp (fX4_next_L72 tp nn72) ri_127 s0_127 = some (.inl (EC, EP)) → ∀ ls : Array Slot, lv_has ls 1 [(0, .ref rdr)] → gF p l e rmX4_next_f s m [.ref rdr] below meth c (vQ A) (xcF D EC EP (wXT k xa ra xi tp) A) A 1 8 H locs 127 ls [.int s0_127, .ref rdr] := by
                    intro ri_127 s0_127 H locs hP hD hS hf ls hl
                    unfold fX4_next_B127 at hf
                    refine va_put (D := D) (cl := vwCl) (ci := 4) (v := .int s0_127) (ty := .int) (C := RX4) (T := TX4) (N := 9) hx hb hts in_X4 tyX4 tyX4_ok nmX4 hown hK.1 hP hD hS 0 rfl rfl 7 (by decide) (hts _ q367) (fun _ h9 => h9) rfl (by decide +kernel) rfl rfl (Nat.le_of_ble_eq_true rfl) dX4_next_127 (fun H locs hP hD hS => ?_)
                    have hP : va_P D vwCl (wQ k rdr mk xa ra (upd ri_127 6 s0_127) xi tp rq) H := hP
                    have hD : va_D A (wQ k rdr mk xa ra (upd ri_127 6 s0_127) xi tp rq) := hD
                    refine lv_aload_n hx hb dX4_next_130 rfl (lv_at hl 0 rfl) ?_
                    refine lv_dup hx hb dX4_next_131 rfl ?_
                    refine va_get (D := D) (cl := vwCl) (ci := 4) (v := .int ((upd ri_127 6 s0_127) 3)) (C := RX4) (T := TX4) (N := 9) hx hb hts in_X4 hown hK.1 hP 0 rfl rfl 4 (by decide) (hts _ q364) (fun _ h9 => h9) rfl dX4_next_132 ?_
                    refine lv_iconst (v := 1) hx hb dX4_next_135 (by decide) ?_
                    refine lv_iadd hx hb dX4_next_136 ?_
                    refine va_put (D := D) (cl := vwCl) (ci := 4) (v := .int (((upd ri_127 6 s0_127) 3) + (1 : Int32))) (ty := .int) (C := RX4) (T := TX4) (N := 9) hx hb hts in_X4 tyX4 tyX4_ok nmX4 hown hK.1 hP hD hS 0 rfl rfl 4 (by decide) (hts _ q364) (fun _ h9 => h9) rfl (by decide +kernel) rfl rfl (Nat.le_of_ble_eq_true rfl) dX4_next_137 (fun H locs hP hD hS => ?_)
                    have hP : va_P D vwCl (wQ k rdr mk xa ra (upd (upd ri_127 6 s0_127) 3 (((upd ri_127 6 s0_127) 3) + (1 : Int32))) xi tp rq) H := hP
                    have hD : va_D A (wQ k rdr mk xa ra (upd (upd ri_127 6 s0_127) 3 (((upd ri_127 6 s0_127) 3) + (1 : Int32))) xi tp rq) := hD
                    refine lv_goto (tgt := 72) hx hb dX4_next_140 (by decide) ?_
                    exact ih72 (upd (upd ri_127 6 s0_127) 3 (((upd ri_127 6 s0_127) 3) + (1 : Int32))) H locs hP hD hS hf ls (lv_sub hl [0] rfl)
                  refine lv_icmp_ge (tgt := 123) hx hb dX4_next_94 (by decide) (fun c21 => ?_) (fun c21 => ?_)
                  · have hf := oi_t c21 hf
                    refine lv_aload_n hx hb dX4_next_123 rfl (lv_at hl 0 rfl) ?_
                    refine va_get (D := D) (cl := vwCl) (ci := 4) (v := .int (ri_72 6)) (C := RX4) (T := TX4) (N := 9) hx hb hts in_X4 hown hK.1 hP 0 rfl rfl 7 (by decide) (hts _ q367) (fun _ h9 => h9) rfl dX4_next_124 ?_
                    exact hB127 ri_72 (ri_72 6) H locs hP hD hS hf ls (lv_sub hl [0] rfl)
                  · have hf := oi_f c21 hf
                    refine lv_bipush (v := 10) hx hb dX4_next_97 (by decide) ?_
                    refine lv_aload_n hx hb dX4_next_99 rfl (lv_at hl 0 rfl) ?_
                    refine va_get (D := D) (cl := vwCl) (ci := 4) (v := .int (ri_72 6)) (C := RX4) (T := TX4) (N := 9) hx hb hts in_X4 hown hK.1 hP 0 rfl rfl 7 (by decide) (hts _ q367) (fun _ h9 => h9) rfl dX4_next_100 ?_
                    refine lv_imul hx hb dX4_next_103 ?_
                    refine lv_aload_n hx hb dX4_next_104 rfl (lv_at hl 0 rfl) ?_
                    refine va_get (D := D) (cl := vwCl) (ci := 4) (v := .ref (xa 0)) (C := RX4) (T := TX4) (N := 9) hx hb hts in_X4 hown hK.1 hP 0 rfl rfl 8 (by decide) (hts _ q368) (fun _ h9 => h9) rfl dX4_next_105 ?_
                    refine va_getN (D := D) (cl := vwCl) (ci := 0) (v := .ref (xa 2)) (C := RX0) (T := TX0) (N := 15) hx hb hts in_X0 hown hK.1 hP 1 rfl rfl 8 (by decide) (hK.nw 14 rfl) (fun _ h9 => h9) rfl dX4_next_108 ?_
                    refine lv_aload_n hx hb dX4_next_111 rfl (lv_at hl 0 rfl) ?_
                    refine va_get (D := D) (cl := vwCl) (ci := 4) (v := .int (ri_72 3)) (C := RX4) (T := TX4) (N := 9) hx hb hts in_X4 hown hK.1 hP 0 rfl rfl 4 (by decide) (hts _ q364) (fun _ h9 => h9) rfl dX4_next_112 ?_
                    obtain ⟨v22, ev22, hf⟩ := ob hf
                    refine x_bald hx hb hK hP 2 3 ev22 rfl rfl dX4_next_115 ?_
                    refine lv_iadd hx hb dX4_next_116 ?_
                    refine lv_bipush (v := 48) hx hb dX4_next_117 (by decide) ?_
                    refine lv_isub hx hb dX4_next_119 ?_
                    refine lv_goto (tgt := 127) hx hb dX4_next_120 (by decide) ?_
                    exact hB127 ri_72 ((((10 : Int32) * (ri_72 6)) + v22) - (48 : Int32)) H locs hP hD hS hf ls (lv_sub hl [0] rfl)
            exact hL72 FU (upd (upd (upd ri_0 4 (ri_0 3)) 5 (1 : Int32)) 6 (0 : Int32)) H locs hP hD hS hf ls (lv_sub hl [0] rfl)
        · have hf := oi_t c4 hf
          refine lv_aload_n hx hb dX4_next_43 rfl (lv_at hl 0 rfl) ?_
          refine lv_iconst (v := 0) hx hb dX4_next_44 (by decide) ?_
          refine va_put (D := D) (cl := vwCl) (ci := 4) (v := .int (0 : Int32)) (ty := .int) (C := RX4) (T := TX4) (N := 9) hx hb hts in_X4 tyX4 tyX4_ok nmX4 hown hK.1 hP hD hS 0 rfl rfl 6 (by decide) (hts _ q366) (fun _ h9 => h9) rfl (by decide +kernel) rfl rfl (Nat.le_of_ble_eq_true rfl) dX4_next_45 (fun H locs hP hD hS => ?_)
          have hP : va_P D vwCl (wQ k rdr mk xa ra (upd (upd ri_0 4 (ri_0 3)) 5 (0 : Int32)) xi tp rq) H := hP
          have hD : va_D A (wQ k rdr mk xa ra (upd (upd ri_0 4 (ri_0 3)) 5 (0 : Int32)) xi tp rq) := hD
          refine lv_goto (tgt := 228) hx hb dX4_next_48 (by decide) ?_
          cases hf
      · have hf := oi_f c3 hf
        refine lv_aload_n hx hb dX4_next_11 rfl (lv_at hl 0 rfl) ?_
        refine lv_dup hx hb dX4_next_12 rfl ?_
        refine va_get (D := D) (cl := vwCl) (ci := 4) (v := .int (ri_0 3)) (C := RX4) (T := TX4) (N := 9) hx hb hts in_X4 hown hK.1 hP 0 rfl rfl 4 (by decide) (hts _ q364) (fun _ h9 => h9) rfl dX4_next_13 ?_
        refine lv_iconst (v := 1) hx hb dX4_next_16 (by decide) ?_
        refine lv_iadd hx hb dX4_next_17 ?_
        refine va_put (D := D) (cl := vwCl) (ci := 4) (v := .int ((ri_0 3) + (1 : Int32))) (ty := .int) (C := RX4) (T := TX4) (N := 9) hx hb hts in_X4 tyX4 tyX4_ok nmX4 hown hK.1 hP hD hS 0 rfl rfl 4 (by decide) (hts _ q364) (fun _ h9 => h9) rfl (by decide +kernel) rfl rfl (Nat.le_of_ble_eq_true rfl) dX4_next_18 (fun H locs hP hD hS => ?_)
        have hP : va_P D vwCl (wQ k rdr mk xa ra (upd ri_0 3 ((ri_0 3) + (1 : Int32))) xi tp rq) H := hP
        have hD : va_D A (wQ k rdr mk xa ra (upd ri_0 3 ((ri_0 3) + (1 : Int32))) xi tp rq) := hD
        refine lv_goto (tgt := 0) hx hb dX4_next_21 (by decide) ?_
        exact ih0 (upd ri_0 3 ((ri_0 3) + (1 : Int32))) H locs hP hD hS hf ls (lv_sub hl [0] rfl)
  exact hL0 FU ri H locs hP hD hS hf ls (lv_sub hl [0] rfl)

abbrev rmX4_opens : Room := { frames := 2, cells := 0, slots := 0, locals := 42 }
theorem hdX4_opens : yX4_opens.cls ≠ "java/lang/invoke/MethodHandle" ∧ yX4_opens.cls ≠ "java/lang/invoke/VarHandle" ∧ (parseMethodDescriptor yX4_opens.desc).map (fun d => d.parameters.length) = some 0 := by decide +kernel
abbrev qcX4_opens (D : va_G) (k : Nat → ClassId) (rdr : Nat) (mk : Nat → Nat) (xa : Nat → Nat) (ra : Nat → Nat → Nat) (ri : Nat → Int32) (xi : Nat → Int32) (tp : Nat → Int32) (rq : RS) (A : Nat → Prop) : Array Value → State → Outcome → State → Prop := va_Qv (fun (_ : Unit) => True) (fun _ t => va_P D vwCl (wQ k rdr mk xa ra ri xi tp rq) t.heap) A
set_option maxHeartbeats 4000000 in
theorem mX4_opens (l : Launch) (D : va_G) (k : Nat → ClassId) (rdr : Nat) (mk : Nat → Nat) (xa : Nat → Nat) (ra : Nat → Nat → Nat) (ri : Nat → Int32) (xi : Nat → Int32) (tp : Nat → Int32) (rq : RS) (sz : Nat) (ri_o : Nat → Int32) (rq_o : RS) (hf : fX4_opens ri tp rq = some (.inr (ri_o, rq_o))) : Met l yX4_opens (ws_ yX4_opens cX4_opens 1 none) rmX4_opens (wrP D k (wQ k rdr mk xa ra ri xi tp rq) sz [.ref rdr]) (qcX4_opens D k rdr mk xa ra ri_o xi tp rq_o (va_A (wQ k rdr mk xa ra ri xi tp rq) sz)) 0 0 (va_A (wQ k rdr mk xa ra ri xi tp rq) sz) := by
  refine wr_start (Qc := fun A => qcX4_opens D k rdr mk xa ra ri_o xi tp rq_o A) (by decide +kernel) (Nat.le_of_ble_eq_true rfl) ?_
  intro p e s m below meth c ls A hA hx hb hr hlk hml hown hts hP hK hD hl
  have hl : lv_has ls 1 [(0, .ref rdr)] := hl
  have hown : s.vm.findClass RX4 = some m.cls := hown
  have hS : va_S A s.heap s.heap [] := va_S.rf
  suffices hw : ∀ (H : Heap) (locs : List Loc), va_P D vwCl (wQ k rdr mk xa ra ri xi tp rq) H → va_S A s.heap H locs → gW p l e rmX4_opens s m [.ref rdr] below meth c (qcX4_opens D k rdr mk xa ra ri_o xi tp rq_o A) A 0 0 H locs 0 ls [] from hw s.heap [] hP hS
  clear hP hS
  intro H locs hP hS
  unfold fX4_opens at hf
  refine lv_aload_n hx hb dX4_opens_0 rfl (lv_at hl 0 rfl) ?_
  refine lv_aload_n hx hb dX4_opens_1 rfl (lv_at hl 0 rfl) ?_
  refine va_get (D := D) (cl := vwCl) (ci := 4) (v := .int (ri 1)) (C := RX4) (T := TX4) (N := 9) hx hb hts in_X4 hown hK.1 hP 0 rfl rfl 2 (by decide) (hts _ q362) (fun _ h9 => h9) rfl dX4_opens_2 ?_
  refine lv_bipush (v := 64) hx hb dX4_opens_5 (by decide) ?_
  have hB15 : ∀ (ri_15 : Nat → Int32) (rq_15 : RS) (s0_15 : Int32), ∀ (H : Heap) (locs : List Loc), va_P D vwCl (wQ k rdr mk xa ra ri_15 xi tp rq_15) H → va_D A (wQ k rdr mk xa ra ri_15 xi tp rq_15) → va_S A s.heap H locs → fX4_opens_B15 tp ri_15 rq_15 s0_15 = some (.inr (ri_o, rq_o)) → ∀ ls : Array Slot, lv_has ls 1 [(0, .ref rdr)] → gW p l e rmX4_opens s m [.ref rdr] below meth c (qcX4_opens D k rdr mk xa ra ri_o xi tp rq_o A) A 0 0 H locs 15 ls [.int s0_15, .ref rdr] := by
    intro ri_15 rq_15 s0_15 H locs hP hD hS hf ls hl
    unfold fX4_opens_B15 at hf
    refine lv_iconst (v := 5) hx hb dX4_opens_15 (by decide) ?_
    obtain ⟨x2, ex2, hf⟩ := ob hf
    obtain ⟨_, rfl, hf⟩ := ec_r hf
    refine rd_callVv (As := [.int s0_15, .int (5 : Int32)]) (rest := []) ⟨hx, hb, hml, hown, hts⟩ (mX4_need l D k rdr mk xa ra ri_15 xi tp rq_15 s0_15 (5 : Int32) ex2) (cwV 2 hts (lw_V q270 q272 qs2 q95 q273) rfl rfl rfl ⟨rfl, hdX4_need⟩ ⟨Nat.le_of_ble_eq_true rfl, Nat.le_of_ble_eq_true rfl⟩) hK hP [0, 1, 2, 3, 4, 5, 6, 7, 8] rfl 0 4 rfl rfl rfl hl.1 rfl (Nat.le_of_ble_eq_true rfl) dX4_opens_16 ⟨Nat.le_of_ble_eq_true rfl, Nat.le_of_ble_eq_true rfl⟩ ?_
    refine lv_aload_n hx hb dX4_opens_19 rfl (lv_at hl 0 rfl) ?_
    refine va_get (D := D) (cl := vwCl) (ci := 4) (v := .ref (mk 0)) (C := RX4) (T := TX4) (N := 9) hx hb hts in_X4 hown hK.1 hP 0 rfl rfl 1 (by decide) (hts _ q360) (fun _ h9 => h9) rfl dX4_opens_20 ?_
    refine lv_aload_n hx hb dX4_opens_23 rfl (lv_at hl 0 rfl) ?_
    refine va_get (D := D) (cl := vwCl) (ci := 4) (v := .ref (mk 0)) (C := RX4) (T := TX4) (N := 9) hx hb hts in_X4 hown hK.1 hP 0 rfl rfl 1 (by decide) (hts _ q360) (fun _ h9 => h9) rfl dX4_opens_24 ?_
    refine va_getN (D := D) (cl := vwCl) (ci := 1) (v := .int (rP rq_15)) (C := RX1) (T := TX1) (N := 6) hx hb hts in_X1 hown hK.1 hP 3 rfl rfl 1 (by decide) (hK.nw 12 rfl) (fun _ h9 => h9) rfl dX4_opens_27 ?_
    refine lv_iconst (v := 1) hx hb dX4_opens_30 (by decide) ?_
    obtain ⟨g3, et4, hf⟩ := ob hf
    refine wr_callVv (As := [.int (rP rq_15), .int (1 : Int32)]) (rest := []) ⟨hx, hb, hml, hown, hts⟩ (mX1_becomes l D k mk rq_15 (rP rq_15) (1 : Int32) _ _ et4) (cwV 2 hts (lw_V q396 q397 q398 q91 q399) rfl rfl rfl ⟨rfl, hdX1_becomes⟩ ⟨Nat.le_of_ble_eq_true rfl, Nat.le_of_ble_eq_true rfl⟩) hK hP hD hS hA [3, 4, 5, 6, 7, 8] [0, 1, 2] (wQ k rdr mk xa ra ri_15 xi tp g3) rfl rfl (fm_c (fm_e _ rfl rfl) (fm_c (fm_e _ rfl rfl) (fm_c (fm_e _ rfl rfl) fm_n))) 9 rfl (by decide) (by decide) [rdr, (xa 0), (xa 2), (mk 0), (mk 1), (mk 2), (mk 3), (mk 4), (mk 5)] rfl rfl 3 1 rfl rfl rfl hl.1 rfl (Nat.le_of_ble_eq_true rfl) dX4_opens_31 ⟨Nat.le_of_ble_eq_true rfl, Nat.le_of_ble_eq_true rfl⟩ (fun H locs hP hD hS => ?_)
    refine lv_aload_n hx hb dX4_opens_34 rfl (lv_at hl 0 rfl) ?_
    refine va_get (D := D) (cl := vwCl) (ci := 4) (v := .ref (mk 0)) (C := RX4) (T := TX4) (N := 9) hx hb hts in_X4 hown hK.1 hP 0 rfl rfl 1 (by decide) (hts _ q360) (fun _ h9 => h9) rfl dX4_opens_35 ?_
    refine lv_dup hx hb dX4_opens_38 rfl ?_
    refine va_getN (D := D) (cl := vwCl) (ci := 1) (v := .int (rP g3)) (C := RX1) (T := TX1) (N := 6) hx hb hts in_X1 hown hK.1 hP 3 rfl rfl 1 (by decide) (hK.nw 12 rfl) (fun _ h9 => h9) rfl dX4_opens_39 ?_
    refine lv_iconst (v := 1) hx hb dX4_opens_42 (by decide) ?_
    refine lv_iadd hx hb dX4_opens_43 ?_
    refine va_putN (D := D) (cl := vwCl) (ci := 1) (v := .int ((rP g3) + (1 : Int32))) (ty := .int) (C := RX1) (T := TX1) (N := 6) hx hb hts in_X1 tyX1 tyX1_ok nmX1 hown hK.1 hP hD hS 3 rfl rfl 1 (by decide) (hK.nw 12 rfl) (fun _ h9 => h9) rfl (by decide +kernel) rfl rfl (Nat.le_of_ble_eq_true rfl) dX4_opens_44 (fun H locs hP hD hS => ?_)
    have hP : va_P D vwCl (wQ k rdr mk xa ra ri_15 xi tp (rsP g3 ((rP g3) + (1 : Int32)))) H := hP
    have hD : va_D A (wQ k rdr mk xa ra ri_15 xi tp (rsP g3 ((rP g3) + (1 : Int32)))) := hD
    refine lv_aload_n hx hb dX4_opens_47 rfl (lv_at hl 0 rfl) ?_
    refine lv_dup hx hb dX4_opens_48 rfl ?_
    refine va_get (D := D) (cl := vwCl) (ci := 4) (v := .int (ri_15 1)) (C := RX4) (T := TX4) (N := 9) hx hb hts in_X4 hown hK.1 hP 0 rfl rfl 2 (by decide) (hts _ q362) (fun _ h9 => h9) rfl dX4_opens_49 ?_
    refine lv_iconst (v := 1) hx hb dX4_opens_52 (by decide) ?_
    refine lv_iadd hx hb dX4_opens_53 ?_
    refine va_put (D := D) (cl := vwCl) (ci := 4) (v := .int ((ri_15 1) + (1 : Int32))) (ty := .int) (C := RX4) (T := TX4) (N := 9) hx hb hts in_X4 tyX4 tyX4_ok nmX4 hown hK.1 hP hD hS 0 rfl rfl 2 (by decide) (hts _ q362) (fun _ h9 => h9) rfl (by decide +kernel) rfl rfl (Nat.le_of_ble_eq_true rfl) dX4_opens_54 (fun H locs hP hD hS => ?_)
    have hP : va_P D vwCl (wQ k rdr mk xa ra (upd ri_15 1 ((ri_15 1) + (1 : Int32))) xi tp (rsP g3 ((rP g3) + (1 : Int32)))) H := hP
    have hD : va_D A (wQ k rdr mk xa ra (upd ri_15 1 ((ri_15 1) + (1 : Int32))) xi tp (rsP g3 ((rP g3) + (1 : Int32)))) := hD
    refine lv_aload_n hx hb dX4_opens_57 rfl (lv_at hl 0 rfl) ?_
    refine lv_dup hx hb dX4_opens_58 rfl ?_
    refine va_get (D := D) (cl := vwCl) (ci := 4) (v := .int ((upd ri_15 1 ((ri_15 1) + (1 : Int32))) 2)) (C := RX4) (T := TX4) (N := 9) hx hb hts in_X4 hown hK.1 hP 0 rfl rfl 3 (by decide) (hts _ q363) (fun _ h9 => h9) rfl dX4_opens_59 ?_
    refine lv_iconst (v := 1) hx hb dX4_opens_62 (by decide) ?_
    refine lv_iadd hx hb dX4_opens_63 ?_
    refine va_put (D := D) (cl := vwCl) (ci := 4) (v := .int (((upd ri_15 1 ((ri_15 1) + (1 : Int32))) 2) + (1 : Int32))) (ty := .int) (C := RX4) (T := TX4) (N := 9) hx hb hts in_X4 tyX4 tyX4_ok nmX4 hown hK.1 hP hD hS 0 rfl rfl 3 (by decide) (hts _ q363) (fun _ h9 => h9) rfl (by decide +kernel) rfl rfl (Nat.le_of_ble_eq_true rfl) dX4_opens_64 (fun H locs hP hD hS => ?_)
    have hP : va_P D vwCl (wQ k rdr mk xa ra (upd (upd ri_15 1 ((ri_15 1) + (1 : Int32))) 2 (((upd ri_15 1 ((ri_15 1) + (1 : Int32))) 2) + (1 : Int32))) xi tp (rsP g3 ((rP g3) + (1 : Int32)))) H := hP
    have hD : va_D A (wQ k rdr mk xa ra (upd (upd ri_15 1 ((ri_15 1) + (1 : Int32))) 2 (((upd ri_15 1 ((ri_15 1) + (1 : Int32))) 2) + (1 : Int32))) xi tp (rsP g3 ((rP g3) + (1 : Int32)))) := hD
    refine lv_aload_n hx hb dX4_opens_67 rfl (lv_at hl 0 rfl) ?_
    obtain ⟨x5, ex5, hf⟩ := ob hf
    obtain ⟨g6, rfl, hf⟩ := ec_r hf
    refine wr_callVv (As := []) (rest := []) ⟨hx, hb, hml, hown, hts⟩ (mX4_next l D k rdr mk xa ra (upd (upd ri_15 1 ((ri_15 1) + (1 : Int32))) 2 (((upd ri_15 1 ((ri_15 1) + (1 : Int32))) 2) + (1 : Int32))) xi tp (rsP g3 ((rP g3) + (1 : Int32)))  _ _ ex5) (cwV 0 hts (lw_V q262 q264 qs0 q95 q265) rfl rfl rfl ⟨rfl, hdX4_next⟩ ⟨Nat.le_of_ble_eq_true rfl, Nat.le_of_ble_eq_true rfl⟩) hK hP hD hS hA [0, 1, 2, 3, 4, 5, 6, 7, 8] [] (wQ k rdr mk xa ra g6 xi tp (rsP g3 ((rP g3) + (1 : Int32)))) rfl rfl fm_n 9 rfl (by decide) (by decide) [rdr, (xa 0), (xa 2), (mk 0), (mk 1), (mk 2), (mk 3), (mk 4), (mk 5)] rfl rfl 0 4 rfl rfl rfl hl.1 rfl (Nat.le_of_ble_eq_true rfl) dX4_opens_68 ⟨Nat.le_of_ble_eq_true rfl, Nat.le_of_ble_eq_true rfl⟩ (fun H locs hP hD hS => ?_)
    refine lv_aload_n hx hb dX4_opens_71 rfl (lv_at hl 0 rfl) ?_
    refine va_get (D := D) (cl := vwCl) (ci := 4) (v := .int (g6 5)) (C := RX4) (T := TX4) (N := 9) hx hb hts in_X4 hown hK.1 hP 0 rfl rfl 6 (by decide) (hts _ q366) (fun _ h9 => h9) rfl dX4_opens_72 ?_
    refine lv_iconst (v := 1) hx hb dX4_opens_75 (by decide) ?_
    refine lv_icmp_ne (tgt := 101) hx hb dX4_opens_76 (by decide) (fun c7 => ?_) (fun c7 => ?_)
    · have hf := oi_f c7 hf
      obtain ⟨he1, he2⟩ := prod2 (congrArg some (Sum.inr.inj (Option.some.inj hf)))
      rw [he1] at hP
      rw [he2] at hP
      exact wr_vret hx hb hr hlk hP hS dX4_opens_101
    · have hf := oi_t c7 hf
      refine lv_aload_n hx hb dX4_opens_79 rfl (lv_at hl 0 rfl) ?_
      refine va_get (D := D) (cl := vwCl) (ci := 4) (v := .ref (mk 0)) (C := RX4) (T := TX4) (N := 9) hx hb hts in_X4 hown hK.1 hP 0 rfl rfl 1 (by decide) (hts _ q360) (fun _ h9 => h9) rfl dX4_opens_80 ?_
      refine va_getN (D := D) (cl := vwCl) (ci := 1) (v := .ref (mk 2)) (C := RX1) (T := TX1) (N := 6) hx hb hts in_X1 hown hK.1 hP 3 rfl rfl 2 (by decide) (hK.nw 13 rfl) (fun _ h9 => h9) rfl dX4_opens_83 ?_
      refine lv_aload_n hx hb dX4_opens_86 rfl (lv_at hl 0 rfl) ?_
      refine va_get (D := D) (cl := vwCl) (ci := 4) (v := .int (g6 1)) (C := RX4) (T := TX4) (N := 9) hx hb hts in_X4 hown hK.1 hP 0 rfl rfl 2 (by decide) (hts _ q362) (fun _ h9 => h9) rfl dX4_opens_87 ?_
      refine lv_iconst (v := 1) hx hb dX4_opens_90 (by decide) ?_
      refine lv_isub hx hb dX4_opens_91 ?_
      refine lv_aload_n hx hb dX4_opens_92 rfl (lv_at hl 0 rfl) ?_
      refine va_get (D := D) (cl := vwCl) (ci := 4) (v := .int (g6 6)) (C := RX4) (T := TX4) (N := 9) hx hb hts in_X4 hown hK.1 hP 0 rfl rfl 7 (by decide) (hts _ q367) (fun _ h9 => h9) rfl dX4_opens_93 ?_
      obtain ⟨u8, eu8, hf⟩ := ob hf
      refine x_iast hx hb hK hP hD hS 5 1 eu8 rfl rfl (wQ k rdr mk xa ra g6 xi tp (rsT (rsP g3 ((rP g3) + (1 : Int32))) u8)) rfl dX4_opens_96 (fun H locs hP hD hS => ?_)
      refine lv_aload_n hx hb dX4_opens_97 rfl (lv_at hl 0 rfl) ?_
      obtain ⟨x9, ex9, hf⟩ := ob hf
      obtain ⟨g10, rfl, hf⟩ := ec_r hf
      refine wr_callVv (As := []) (rest := []) ⟨hx, hb, hml, hown, hts⟩ (mX4_next l D k rdr mk xa ra g6 xi tp (rsT (rsP g3 ((rP g3) + (1 : Int32))) u8)  _ _ ex9) (cwV 0 hts (lw_V q262 q264 qs0 q95 q265) rfl rfl rfl ⟨rfl, hdX4_next⟩ ⟨Nat.le_of_ble_eq_true rfl, Nat.le_of_ble_eq_true rfl⟩) hK hP hD hS hA [0, 1, 2, 3, 4, 5, 6, 7, 8] [] (wQ k rdr mk xa ra g10 xi tp (rsT (rsP g3 ((rP g3) + (1 : Int32))) u8)) rfl rfl fm_n 9 rfl (by decide) (by decide) [rdr, (xa 0), (xa 2), (mk 0), (mk 1), (mk 2), (mk 3), (mk 4), (mk 5)] rfl rfl 0 4 rfl rfl rfl hl.1 rfl (Nat.le_of_ble_eq_true rfl) dX4_opens_98 ⟨Nat.le_of_ble_eq_true rfl, Nat.le_of_ble_eq_true rfl⟩ (fun H locs hP hD hS => ?_)
      obtain ⟨he1, he2⟩ := prod2 (congrArg some (Sum.inr.inj (Option.some.inj hf)))
      rw [he1] at hP
      rw [he2] at hP
      exact wr_vret hx hb hr hlk hP hS dX4_opens_101
  refine lv_icmp_ge (tgt := 14) hx hb dX4_opens_7 (by decide) (fun c1 => ?_) (fun c1 => ?_)
  · have hf := oi_t c1 hf
    refine lv_iconst (v := 0) hx hb dX4_opens_14 (by decide) ?_
    exact hB15 ri rq (0 : Int32) H locs hP hD hS hf ls (lv_sub hl [0] rfl)
  · have hf := oi_f c1 hf
    refine lv_iconst (v := 1) hx hb dX4_opens_10 (by decide) ?_
    refine lv_goto (tgt := 15) hx hb dX4_opens_11 (by decide) ?_
    exact hB15 ri rq (1 : Int32) H locs hP hD hS hf ls (lv_sub hl [0] rfl)

abbrev rmX4_opens_f : Room := { frames := 6, cells := 1, slots := 8, locals := 142 }
set_option maxHeartbeats 4000000 in
theorem mX4_opens_f (l : Launch) (D : va_G) (k : Nat → ClassId) (rdr : Nat) (mk : Nat → Nat) (xa : Nat → Nat) (ra : Nat → Nat → Nat) (ri : Nat → Int32) (xi : Nat → Int32) (tp : Nat → Int32) (rq : RS) (sz : Nat) (EC EP : Int32) (hf : fX4_opens ri tp rq = some (.inl (EC, EP))) : fx_Met l yX4_opens (ws_ yX4_opens cX4_opens 1 none) rmX4_opens_f (wxP D k (wQ k rdr mk xa ra ri xi tp rq) sz [.ref rdr]) (vQ (va_A (wQ k rdr mk xa ra ri xi tp rq) sz)) (xcF D EC EP (wXT k xa ra xi tp) (va_A (wQ k rdr mk xa ra ri xi tp rq) sz)) 1 8 (va_A (wQ k rdr mk xa ra ri xi tp rq) sz) := by
  refine fx_start (Qc := fun A => (vQ A)) (XC := fun A => (xcF D EC EP (wXT k xa ra xi tp) A)) (by decide +kernel) (Nat.le_of_ble_eq_true rfl) ?_
  intro p e s m below meth c ls A hA hx hb hr hlk hml hown hnm hts hP hK hD hZ hex hl
  have hl : lv_has ls 1 [(0, .ref rdr)] := hl
  have hown : s.vm.findClass RX4 = some m.cls := hown
  have hS : va_S A s.heap s.heap [] := va_S.rf
  suffices hw : ∀ (H : Heap) (locs : List Loc), va_P D vwCl (wQ k rdr mk xa ra ri xi tp rq) H → va_S A s.heap H locs → gF p l e rmX4_opens_f s m [.ref rdr] below meth c (vQ A) (xcF D EC EP (wXT k xa ra xi tp) A) A 1 8 H locs 0 ls [] from hw s.heap [] hP hS
  clear hP hS
  intro H locs hP hS
  unfold fX4_opens at hf
  refine lv_aload_n hx hb dX4_opens_0 rfl (lv_at hl 0 rfl) ?_
  refine lv_aload_n hx hb dX4_opens_1 rfl (lv_at hl 0 rfl) ?_
  refine va_get (D := D) (cl := vwCl) (ci := 4) (v := .int (ri 1)) (C := RX4) (T := TX4) (N := 9) hx hb hts in_X4 hown hK.1 hP 0 rfl rfl 2 (by decide) (hts _ q362) (fun _ h9 => h9) rfl dX4_opens_2 ?_
  refine lv_bipush (v := 64) hx hb dX4_opens_5 (by decide) ?_
  have hB15 : ∀ (ri_15 : Nat → Int32) (rq_15 : RS) (s0_15 : Int32), ∀ (H : Heap) (locs : List Loc), va_P D vwCl (wQ k rdr mk xa ra ri_15 xi tp rq_15) H → va_D A (wQ k rdr mk xa ra ri_15 xi tp rq_15) → va_S A s.heap H locs → fX4_opens_B15 tp ri_15 rq_15 s0_15 = some (.inl (EC, EP)) → ∀ ls : Array Slot, lv_has ls 1 [(0, .ref rdr)] → gF p l e rmX4_opens_f s m [.ref rdr] below meth c (vQ A) (xcF D EC EP (wXT k xa ra xi tp) A) A 1 8 H locs 15 ls [.int s0_15, .ref rdr] := by
    intro ri_15 rq_15 s0_15 H locs hP hD hS hf ls hl
    unfold fX4_opens_B15 at hf
    refine lv_iconst (v := 5) hx hb dX4_opens_15 (by decide) ?_
    obtain ⟨x2, ex2, hf⟩ := ob hf
    rcases ec_l hf with rfl | ⟨_, rfl, hf⟩
    · refine fx_excV (As := [.int s0_15, .int (5 : Int32)]) (rest := []) ⟨hx, hb, hml, hown, hts⟩ (mX4_need_f l D k rdr mk xa ra ri_15 xi tp rq_15 s0_15 (5 : Int32) _ EC EP ex2) (cwV 2 hts (lw_V q270 q272 qs2 q95 q273) rfl rfl rfl ⟨rfl, hdX4_need⟩ ⟨Nat.le_of_ble_eq_true rfl, Nat.le_of_ble_eq_true rfl⟩) hK hZ hP hD hS hA [0, 1, 2, 3, 4, 5, 6, 7, 8] rfl (by decide) [] (wr := []) rfl (by decide) (by decide) 0 4 rfl rfl rfl hl.1 rfl (Nat.le_of_ble_eq_true rfl) dX4_opens_16 ⟨Nat.le_of_ble_eq_true rfl, Nat.le_of_ble_eq_true rfl⟩ (fun H locs q9 ce hP hD hS hc9 hv9 hcl9 => ?_)
      exact fx_thrown hex hlk hc9 hv9 hcl9 hP hD hS (Nat.le_of_ble_eq_true rfl) (Nat.le_of_ble_eq_true rfl)
    refine rd_callVv (As := [.int s0_15, .int (5 : Int32)]) (rest := []) ⟨hx, hb, hml, hown, hts⟩ (mX4_need l D k rdr mk xa ra ri_15 xi tp rq_15 s0_15 (5 : Int32) ex2) (cwV 2 hts (lw_V q270 q272 qs2 q95 q273) rfl rfl rfl ⟨rfl, hdX4_need⟩ ⟨Nat.le_of_ble_eq_true rfl, Nat.le_of_ble_eq_true rfl⟩) hK hP [0, 1, 2, 3, 4, 5, 6, 7, 8] rfl 0 4 rfl rfl rfl hl.1 rfl (Nat.le_of_ble_eq_true rfl) dX4_opens_16 ⟨Nat.le_of_ble_eq_true rfl, Nat.le_of_ble_eq_true rfl⟩ ?_
    refine lv_aload_n hx hb dX4_opens_19 rfl (lv_at hl 0 rfl) ?_
    refine va_get (D := D) (cl := vwCl) (ci := 4) (v := .ref (mk 0)) (C := RX4) (T := TX4) (N := 9) hx hb hts in_X4 hown hK.1 hP 0 rfl rfl 1 (by decide) (hts _ q360) (fun _ h9 => h9) rfl dX4_opens_20 ?_
    refine lv_aload_n hx hb dX4_opens_23 rfl (lv_at hl 0 rfl) ?_
    refine va_get (D := D) (cl := vwCl) (ci := 4) (v := .ref (mk 0)) (C := RX4) (T := TX4) (N := 9) hx hb hts in_X4 hown hK.1 hP 0 rfl rfl 1 (by decide) (hts _ q360) (fun _ h9 => h9) rfl dX4_opens_24 ?_
    refine va_getN (D := D) (cl := vwCl) (ci := 1) (v := .int (rP rq_15)) (C := RX1) (T := TX1) (N := 6) hx hb hts in_X1 hown hK.1 hP 3 rfl rfl 1 (by decide) (hK.nw 12 rfl) (fun _ h9 => h9) rfl dX4_opens_27 ?_
    refine lv_iconst (v := 1) hx hb dX4_opens_30 (by decide) ?_
    obtain ⟨g3, et4, hf⟩ := ob hf
    refine wr_callVv (As := [.int (rP rq_15), .int (1 : Int32)]) (rest := []) ⟨hx, hb, hml, hown, hts⟩ (mX1_becomes l D k mk rq_15 (rP rq_15) (1 : Int32) _ _ et4) (cwV 2 hts (lw_V q396 q397 q398 q91 q399) rfl rfl rfl ⟨rfl, hdX1_becomes⟩ ⟨Nat.le_of_ble_eq_true rfl, Nat.le_of_ble_eq_true rfl⟩) hK hP hD hS hA [3, 4, 5, 6, 7, 8] [0, 1, 2] (wQ k rdr mk xa ra ri_15 xi tp g3) rfl rfl (fm_c (fm_e _ rfl rfl) (fm_c (fm_e _ rfl rfl) (fm_c (fm_e _ rfl rfl) fm_n))) 9 rfl (by decide) (by decide) [rdr, (xa 0), (xa 2), (mk 0), (mk 1), (mk 2), (mk 3), (mk 4), (mk 5)] rfl rfl 3 1 rfl rfl rfl hl.1 rfl (Nat.le_of_ble_eq_true rfl) dX4_opens_31 ⟨Nat.le_of_ble_eq_true rfl, Nat.le_of_ble_eq_true rfl⟩ (fun H locs hP hD hS => ?_)
    refine lv_aload_n hx hb dX4_opens_34 rfl (lv_at hl 0 rfl) ?_
    refine va_get (D := D) (cl := vwCl) (ci := 4) (v := .ref (mk 0)) (C := RX4) (T := TX4) (N := 9) hx hb hts in_X4 hown hK.1 hP 0 rfl rfl 1 (by decide) (hts _ q360) (fun _ h9 => h9) rfl dX4_opens_35 ?_
    refine lv_dup hx hb dX4_opens_38 rfl ?_
    refine va_getN (D := D) (cl := vwCl) (ci := 1) (v := .int (rP g3)) (C := RX1) (T := TX1) (N := 6) hx hb hts in_X1 hown hK.1 hP 3 rfl rfl 1 (by decide) (hK.nw 12 rfl) (fun _ h9 => h9) rfl dX4_opens_39 ?_
    refine lv_iconst (v := 1) hx hb dX4_opens_42 (by decide) ?_
    refine lv_iadd hx hb dX4_opens_43 ?_
    refine va_putN (D := D) (cl := vwCl) (ci := 1) (v := .int ((rP g3) + (1 : Int32))) (ty := .int) (C := RX1) (T := TX1) (N := 6) hx hb hts in_X1 tyX1 tyX1_ok nmX1 hown hK.1 hP hD hS 3 rfl rfl 1 (by decide) (hK.nw 12 rfl) (fun _ h9 => h9) rfl (by decide +kernel) rfl rfl (Nat.le_of_ble_eq_true rfl) dX4_opens_44 (fun H locs hP hD hS => ?_)
    have hP : va_P D vwCl (wQ k rdr mk xa ra ri_15 xi tp (rsP g3 ((rP g3) + (1 : Int32)))) H := hP
    have hD : va_D A (wQ k rdr mk xa ra ri_15 xi tp (rsP g3 ((rP g3) + (1 : Int32)))) := hD
    refine lv_aload_n hx hb dX4_opens_47 rfl (lv_at hl 0 rfl) ?_
    refine lv_dup hx hb dX4_opens_48 rfl ?_
    refine va_get (D := D) (cl := vwCl) (ci := 4) (v := .int (ri_15 1)) (C := RX4) (T := TX4) (N := 9) hx hb hts in_X4 hown hK.1 hP 0 rfl rfl 2 (by decide) (hts _ q362) (fun _ h9 => h9) rfl dX4_opens_49 ?_
    refine lv_iconst (v := 1) hx hb dX4_opens_52 (by decide) ?_
    refine lv_iadd hx hb dX4_opens_53 ?_
    refine va_put (D := D) (cl := vwCl) (ci := 4) (v := .int ((ri_15 1) + (1 : Int32))) (ty := .int) (C := RX4) (T := TX4) (N := 9) hx hb hts in_X4 tyX4 tyX4_ok nmX4 hown hK.1 hP hD hS 0 rfl rfl 2 (by decide) (hts _ q362) (fun _ h9 => h9) rfl (by decide +kernel) rfl rfl (Nat.le_of_ble_eq_true rfl) dX4_opens_54 (fun H locs hP hD hS => ?_)
    have hP : va_P D vwCl (wQ k rdr mk xa ra (upd ri_15 1 ((ri_15 1) + (1 : Int32))) xi tp (rsP g3 ((rP g3) + (1 : Int32)))) H := hP
    have hD : va_D A (wQ k rdr mk xa ra (upd ri_15 1 ((ri_15 1) + (1 : Int32))) xi tp (rsP g3 ((rP g3) + (1 : Int32)))) := hD
    refine lv_aload_n hx hb dX4_opens_57 rfl (lv_at hl 0 rfl) ?_
    refine lv_dup hx hb dX4_opens_58 rfl ?_
    refine va_get (D := D) (cl := vwCl) (ci := 4) (v := .int ((upd ri_15 1 ((ri_15 1) + (1 : Int32))) 2)) (C := RX4) (T := TX4) (N := 9) hx hb hts in_X4 hown hK.1 hP 0 rfl rfl 3 (by decide) (hts _ q363) (fun _ h9 => h9) rfl dX4_opens_59 ?_
    refine lv_iconst (v := 1) hx hb dX4_opens_62 (by decide) ?_
    refine lv_iadd hx hb dX4_opens_63 ?_
    refine va_put (D := D) (cl := vwCl) (ci := 4) (v := .int (((upd ri_15 1 ((ri_15 1) + (1 : Int32))) 2) + (1 : Int32))) (ty := .int) (C := RX4) (T := TX4) (N := 9) hx hb hts in_X4 tyX4 tyX4_ok nmX4 hown hK.1 hP hD hS 0 rfl rfl 3 (by decide) (hts _ q363) (fun _ h9 => h9) rfl (by decide +kernel) rfl rfl (Nat.le_of_ble_eq_true rfl) dX4_opens_64 (fun H locs hP hD hS => ?_)
    have hP : va_P D vwCl (wQ k rdr mk xa ra (upd (upd ri_15 1 ((ri_15 1) + (1 : Int32))) 2 (((upd ri_15 1 ((ri_15 1) + (1 : Int32))) 2) + (1 : Int32))) xi tp (rsP g3 ((rP g3) + (1 : Int32)))) H := hP
    have hD : va_D A (wQ k rdr mk xa ra (upd (upd ri_15 1 ((ri_15 1) + (1 : Int32))) 2 (((upd ri_15 1 ((ri_15 1) + (1 : Int32))) 2) + (1 : Int32))) xi tp (rsP g3 ((rP g3) + (1 : Int32)))) := hD
    refine lv_aload_n hx hb dX4_opens_67 rfl (lv_at hl 0 rfl) ?_
    obtain ⟨x5, ex5, hf⟩ := ob hf
    rcases ec_l hf with rfl | ⟨g6, rfl, hf⟩
    · refine fx_excV (As := []) (rest := []) ⟨hx, hb, hml, hown, hts⟩ (mX4_next_f l D k rdr mk xa ra (upd (upd ri_15 1 ((ri_15 1) + (1 : Int32))) 2 (((upd ri_15 1 ((ri_15 1) + (1 : Int32))) 2) + (1 : Int32))) xi tp (rsP g3 ((rP g3) + (1 : Int32)))  _ EC EP ex5) (cwV 0 hts (lw_V q262 q264 qs0 q95 q265) rfl rfl rfl ⟨rfl, hdX4_next⟩ ⟨Nat.le_of_ble_eq_true rfl, Nat.le_of_ble_eq_true rfl⟩) hK hZ hP hD hS hA [0, 1, 2, 3, 4, 5, 6, 7, 8] rfl (by decide) [] (wr := []) rfl (by decide) (by decide) 0 4 rfl rfl rfl hl.1 rfl (Nat.le_of_ble_eq_true rfl) dX4_opens_68 ⟨Nat.le_of_ble_eq_true rfl, Nat.le_of_ble_eq_true rfl⟩ (fun H locs q9 ce hP hD hS hc9 hv9 hcl9 => ?_)
      exact fx_thrown hex hlk hc9 hv9 hcl9 hP hD hS (Nat.le_of_ble_eq_true rfl) (Nat.le_of_ble_eq_true rfl)
    refine wr_callVv (As := []) (rest := []) ⟨hx, hb, hml, hown, hts⟩ (mX4_next l D k rdr mk xa ra (upd (upd ri_15 1 ((ri_15 1) + (1 : Int32))) 2 (((upd ri_15 1 ((ri_15 1) + (1 : Int32))) 2) + (1 : Int32))) xi tp (rsP g3 ((rP g3) + (1 : Int32)))  _ _ ex5) (cwV 0 hts (lw_V q262 q264 qs0 q95 q265) rfl rfl rfl ⟨rfl, hdX4_next⟩ ⟨Nat.le_of_ble_eq_true rfl, Nat.le_of_ble_eq_true rfl⟩) hK hP hD hS hA [0, 1, 2, 3, 4, 5, 6, 7, 8] [] (wQ k rdr mk xa ra g6 xi tp (rsP g3 ((rP g3) + (1 : Int32)))) rfl rfl fm_n 9 rfl (by decide) (by decide) [rdr, (xa 0), (xa 2), (mk 0), (mk 1), (mk 2), (mk 3), (mk 4), (mk 5)] rfl rfl 0 4 rfl rfl rfl hl.1 rfl (Nat.le_of_ble_eq_true rfl) dX4_opens_68 ⟨Nat.le_of_ble_eq_true rfl, Nat.le_of_ble_eq_true rfl⟩ (fun H locs hP hD hS => ?_)
    refine lv_aload_n hx hb dX4_opens_71 rfl (lv_at hl 0 rfl) ?_
    refine va_get (D := D) (cl := vwCl) (ci := 4) (v := .int (g6 5)) (C := RX4) (T := TX4) (N := 9) hx hb hts in_X4 hown hK.1 hP 0 rfl rfl 6 (by decide) (hts _ q366) (fun _ h9 => h9) rfl dX4_opens_72 ?_
    refine lv_iconst (v := 1) hx hb dX4_opens_75 (by decide) ?_
    refine lv_icmp_ne (tgt := 101) hx hb dX4_opens_76 (by decide) (fun c7 => ?_) (fun c7 => ?_)
    · have hf := oi_f c7 hf
      cases hf
    · have hf := oi_t c7 hf
      refine lv_aload_n hx hb dX4_opens_79 rfl (lv_at hl 0 rfl) ?_
      refine va_get (D := D) (cl := vwCl) (ci := 4) (v := .ref (mk 0)) (C := RX4) (T := TX4) (N := 9) hx hb hts in_X4 hown hK.1 hP 0 rfl rfl 1 (by decide) (hts _ q360) (fun _ h9 => h9) rfl dX4_opens_80 ?_
      refine va_getN (D := D) (cl := vwCl) (ci := 1) (v := .ref (mk 2)) (C := RX1) (T := TX1) (N := 6) hx hb hts in_X1 hown hK.1 hP 3 rfl rfl 2 (by decide) (hK.nw 13 rfl) (fun _ h9 => h9) rfl dX4_opens_83 ?_
      refine lv_aload_n hx hb dX4_opens_86 rfl (lv_at hl 0 rfl) ?_
      refine va_get (D := D) (cl := vwCl) (ci := 4) (v := .int (g6 1)) (C := RX4) (T := TX4) (N := 9) hx hb hts in_X4 hown hK.1 hP 0 rfl rfl 2 (by decide) (hts _ q362) (fun _ h9 => h9) rfl dX4_opens_87 ?_
      refine lv_iconst (v := 1) hx hb dX4_opens_90 (by decide) ?_
      refine lv_isub hx hb dX4_opens_91 ?_
      refine lv_aload_n hx hb dX4_opens_92 rfl (lv_at hl 0 rfl) ?_
      refine va_get (D := D) (cl := vwCl) (ci := 4) (v := .int (g6 6)) (C := RX4) (T := TX4) (N := 9) hx hb hts in_X4 hown hK.1 hP 0 rfl rfl 7 (by decide) (hts _ q367) (fun _ h9 => h9) rfl dX4_opens_93 ?_
      obtain ⟨u8, eu8, hf⟩ := ob hf
      refine x_iast hx hb hK hP hD hS 5 1 eu8 rfl rfl (wQ k rdr mk xa ra g6 xi tp (rsT (rsP g3 ((rP g3) + (1 : Int32))) u8)) rfl dX4_opens_96 (fun H locs hP hD hS => ?_)
      refine lv_aload_n hx hb dX4_opens_97 rfl (lv_at hl 0 rfl) ?_
      obtain ⟨x9, ex9, hf⟩ := ob hf
      rcases ec_l hf with rfl | ⟨g10, rfl, hf⟩
      · refine fx_excV (As := []) (rest := []) ⟨hx, hb, hml, hown, hts⟩ (mX4_next_f l D k rdr mk xa ra g6 xi tp (rsT (rsP g3 ((rP g3) + (1 : Int32))) u8)  _ EC EP ex9) (cwV 0 hts (lw_V q262 q264 qs0 q95 q265) rfl rfl rfl ⟨rfl, hdX4_next⟩ ⟨Nat.le_of_ble_eq_true rfl, Nat.le_of_ble_eq_true rfl⟩) hK hZ hP hD hS hA [0, 1, 2, 3, 4, 5, 6, 7, 8] rfl (by decide) [] (wr := []) rfl (by decide) (by decide) 0 4 rfl rfl rfl hl.1 rfl (Nat.le_of_ble_eq_true rfl) dX4_opens_98 ⟨Nat.le_of_ble_eq_true rfl, Nat.le_of_ble_eq_true rfl⟩ (fun H locs q9 ce hP hD hS hc9 hv9 hcl9 => ?_)
        exact fx_thrown hex hlk hc9 hv9 hcl9 hP hD hS (Nat.le_of_ble_eq_true rfl) (Nat.le_of_ble_eq_true rfl)
      refine wr_callVv (As := []) (rest := []) ⟨hx, hb, hml, hown, hts⟩ (mX4_next l D k rdr mk xa ra g6 xi tp (rsT (rsP g3 ((rP g3) + (1 : Int32))) u8)  _ _ ex9) (cwV 0 hts (lw_V q262 q264 qs0 q95 q265) rfl rfl rfl ⟨rfl, hdX4_next⟩ ⟨Nat.le_of_ble_eq_true rfl, Nat.le_of_ble_eq_true rfl⟩) hK hP hD hS hA [0, 1, 2, 3, 4, 5, 6, 7, 8] [] (wQ k rdr mk xa ra g10 xi tp (rsT (rsP g3 ((rP g3) + (1 : Int32))) u8)) rfl rfl fm_n 9 rfl (by decide) (by decide) [rdr, (xa 0), (xa 2), (mk 0), (mk 1), (mk 2), (mk 3), (mk 4), (mk 5)] rfl rfl 0 4 rfl rfl rfl hl.1 rfl (Nat.le_of_ble_eq_true rfl) dX4_opens_98 ⟨Nat.le_of_ble_eq_true rfl, Nat.le_of_ble_eq_true rfl⟩ (fun H locs hP hD hS => ?_)
      cases hf
  refine lv_icmp_ge (tgt := 14) hx hb dX4_opens_7 (by decide) (fun c1 => ?_) (fun c1 => ?_)
  · have hf := oi_t c1 hf
    refine lv_iconst (v := 0) hx hb dX4_opens_14 (by decide) ?_
    exact hB15 ri rq (0 : Int32) H locs hP hD hS hf ls (lv_sub hl [0] rfl)
  · have hf := oi_f c1 hf
    refine lv_iconst (v := 1) hx hb dX4_opens_10 (by decide) ?_
    refine lv_goto (tgt := 15) hx hb dX4_opens_11 (by decide) ?_
    exact hB15 ri rq (1 : Int32) H locs hP hD hS hf ls (lv_sub hl [0] rfl)

abbrev rmX4_closes : Room := { frames := 2, cells := 0, slots := 0, locals := 42 }
theorem hdX4_closes : yX4_closes.cls ≠ "java/lang/invoke/MethodHandle" ∧ yX4_closes.cls ≠ "java/lang/invoke/VarHandle" ∧ (parseMethodDescriptor yX4_closes.desc).map (fun d => d.parameters.length) = some 0 := by decide +kernel
abbrev qcX4_closes (D : va_G) (k : Nat → ClassId) (rdr : Nat) (mk : Nat → Nat) (xa : Nat → Nat) (ra : Nat → Nat → Nat) (ri : Nat → Int32) (xi : Nat → Int32) (tp : Nat → Int32) (rq : RS) (A : Nat → Prop) : Array Value → State → Outcome → State → Prop := va_Qv (fun (_ : Unit) => True) (fun _ t => va_P D vwCl (wQ k rdr mk xa ra ri xi tp rq) t.heap) A
set_option maxHeartbeats 4000000 in
theorem mX4_closes (l : Launch) (D : va_G) (k : Nat → ClassId) (rdr : Nat) (mk : Nat → Nat) (xa : Nat → Nat) (ra : Nat → Nat → Nat) (ri : Nat → Int32) (xi : Nat → Int32) (tp : Nat → Int32) (rq : RS) (sz : Nat) (ri_o : Nat → Int32) (rq_o : RS) (hf : fX4_closes ri tp rq = some (.inr (ri_o, rq_o))) : Met l yX4_closes (ws_ yX4_closes cX4_closes 1 none) rmX4_closes (wrP D k (wQ k rdr mk xa ra ri xi tp rq) sz [.ref rdr]) (qcX4_closes D k rdr mk xa ra ri_o xi tp rq_o (va_A (wQ k rdr mk xa ra ri xi tp rq) sz)) 0 0 (va_A (wQ k rdr mk xa ra ri xi tp rq) sz) := by
  refine wr_start (Qc := fun A => qcX4_closes D k rdr mk xa ra ri_o xi tp rq_o A) (by decide +kernel) (Nat.le_of_ble_eq_true rfl) ?_
  intro p e s m below meth c ls A hA hx hb hr hlk hml hown hts hP hK hD hl
  have hl : lv_has ls 1 [(0, .ref rdr)] := hl
  have hown : s.vm.findClass RX4 = some m.cls := hown
  have hS : va_S A s.heap s.heap [] := va_S.rf
  suffices hw : ∀ (H : Heap) (locs : List Loc), va_P D vwCl (wQ k rdr mk xa ra ri xi tp rq) H → va_S A s.heap H locs → gW p l e rmX4_closes s m [.ref rdr] below meth c (qcX4_closes D k rdr mk xa ra ri_o xi tp rq_o A) A 0 0 H locs 0 ls [] from hw s.heap [] hP hS
  clear hP hS
  intro H locs hP hS
  unfold fX4_closes at hf
  refine lv_aload_n hx hb dX4_closes_0 rfl (lv_at hl 0 rfl) ?_
  refine va_get (D := D) (cl := vwCl) (ci := 4) (v := .ref (mk 0)) (C := RX4) (T := TX4) (N := 9) hx hb hts in_X4 hown hK.1 hP 0 rfl rfl 1 (by decide) (hts _ q360) (fun _ h9 => h9) rfl dX4_closes_1 ?_
  refine lv_aload_n hx hb dX4_closes_4 rfl (lv_at hl 0 rfl) ?_
  refine va_get (D := D) (cl := vwCl) (ci := 4) (v := .ref (mk 0)) (C := RX4) (T := TX4) (N := 9) hx hb hts in_X4 hown hK.1 hP 0 rfl rfl 1 (by decide) (hts _ q360) (fun _ h9 => h9) rfl dX4_closes_5 ?_
  refine va_getN (D := D) (cl := vwCl) (ci := 1) (v := .int (rP rq)) (C := RX1) (T := TX1) (N := 6) hx hb hts in_X1 hown hK.1 hP 3 rfl rfl 1 (by decide) (hK.nw 12 rfl) (fun _ h9 => h9) rfl dX4_closes_8 ?_
  refine lv_iconst (v := 0) hx hb dX4_closes_11 (by decide) ?_
  obtain ⟨g1, et2, hf⟩ := ob hf
  refine wr_callVv (As := [.int (rP rq), .int (0 : Int32)]) (rest := []) ⟨hx, hb, hml, hown, hts⟩ (mX1_becomes l D k mk rq (rP rq) (0 : Int32) _ _ et2) (cwV 2 hts (lw_V q396 q397 q398 q91 q399) rfl rfl rfl ⟨rfl, hdX1_becomes⟩ ⟨Nat.le_of_ble_eq_true rfl, Nat.le_of_ble_eq_true rfl⟩) hK hP hD hS hA [3, 4, 5, 6, 7, 8] [0, 1, 2] (wQ k rdr mk xa ra ri xi tp g1) rfl rfl (fm_c (fm_e _ rfl rfl) (fm_c (fm_e _ rfl rfl) (fm_c (fm_e _ rfl rfl) fm_n))) 9 rfl (by decide) (by decide) [rdr, (xa 0), (xa 2), (mk 0), (mk 1), (mk 2), (mk 3), (mk 4), (mk 5)] rfl rfl 3 1 rfl rfl rfl hl.1 rfl (Nat.le_of_ble_eq_true rfl) dX4_closes_12 ⟨Nat.le_of_ble_eq_true rfl, Nat.le_of_ble_eq_true rfl⟩ (fun H locs hP hD hS => ?_)
  refine lv_aload_n hx hb dX4_closes_15 rfl (lv_at hl 0 rfl) ?_
  refine va_get (D := D) (cl := vwCl) (ci := 4) (v := .ref (mk 0)) (C := RX4) (T := TX4) (N := 9) hx hb hts in_X4 hown hK.1 hP 0 rfl rfl 1 (by decide) (hts _ q360) (fun _ h9 => h9) rfl dX4_closes_16 ?_
  refine lv_dup hx hb dX4_closes_19 rfl ?_
  refine va_getN (D := D) (cl := vwCl) (ci := 1) (v := .int (rP g1)) (C := RX1) (T := TX1) (N := 6) hx hb hts in_X1 hown hK.1 hP 3 rfl rfl 1 (by decide) (hK.nw 12 rfl) (fun _ h9 => h9) rfl dX4_closes_20 ?_
  refine lv_iconst (v := 1) hx hb dX4_closes_23 (by decide) ?_
  refine lv_iadd hx hb dX4_closes_24 ?_
  refine va_putN (D := D) (cl := vwCl) (ci := 1) (v := .int ((rP g1) + (1 : Int32))) (ty := .int) (C := RX1) (T := TX1) (N := 6) hx hb hts in_X1 tyX1 tyX1_ok nmX1 hown hK.1 hP hD hS 3 rfl rfl 1 (by decide) (hK.nw 12 rfl) (fun _ h9 => h9) rfl (by decide +kernel) rfl rfl (Nat.le_of_ble_eq_true rfl) dX4_closes_25 (fun H locs hP hD hS => ?_)
  have hP : va_P D vwCl (wQ k rdr mk xa ra ri xi tp (rsP g1 ((rP g1) + (1 : Int32)))) H := hP
  have hD : va_D A (wQ k rdr mk xa ra ri xi tp (rsP g1 ((rP g1) + (1 : Int32)))) := hD
  refine lv_aload_n hx hb dX4_closes_28 rfl (lv_at hl 0 rfl) ?_
  refine lv_dup hx hb dX4_closes_29 rfl ?_
  refine va_get (D := D) (cl := vwCl) (ci := 4) (v := .int (ri 2)) (C := RX4) (T := TX4) (N := 9) hx hb hts in_X4 hown hK.1 hP 0 rfl rfl 3 (by decide) (hts _ q363) (fun _ h9 => h9) rfl dX4_closes_30 ?_
  refine lv_iconst (v := 1) hx hb dX4_closes_33 (by decide) ?_
  refine lv_isub hx hb dX4_closes_34 ?_
  refine va_put (D := D) (cl := vwCl) (ci := 4) (v := .int ((ri 2) - (1 : Int32))) (ty := .int) (C := RX4) (T := TX4) (N := 9) hx hb hts in_X4 tyX4 tyX4_ok nmX4 hown hK.1 hP hD hS 0 rfl rfl 3 (by decide) (hts _ q363) (fun _ h9 => h9) rfl (by decide +kernel) rfl rfl (Nat.le_of_ble_eq_true rfl) dX4_closes_35 (fun H locs hP hD hS => ?_)
  have hP : va_P D vwCl (wQ k rdr mk xa ra (upd ri 2 ((ri 2) - (1 : Int32))) xi tp (rsP g1 ((rP g1) + (1 : Int32)))) H := hP
  have hD : va_D A (wQ k rdr mk xa ra (upd ri 2 ((ri 2) - (1 : Int32))) xi tp (rsP g1 ((rP g1) + (1 : Int32)))) := hD
  refine lv_aload_n hx hb dX4_closes_38 rfl (lv_at hl 0 rfl) ?_
  obtain ⟨x3, ex3, hf⟩ := ob hf
  obtain ⟨g4, rfl, hf⟩ := ec_r hf
  refine wr_callVv (As := []) (rest := []) ⟨hx, hb, hml, hown, hts⟩ (mX4_next l D k rdr mk xa ra (upd ri 2 ((ri 2) - (1 : Int32))) xi tp (rsP g1 ((rP g1) + (1 : Int32)))  _ _ ex3) (cwV 0 hts (lw_V q262 q264 qs0 q95 q265) rfl rfl rfl ⟨rfl, hdX4_next⟩ ⟨Nat.le_of_ble_eq_true rfl, Nat.le_of_ble_eq_true rfl⟩) hK hP hD hS hA [0, 1, 2, 3, 4, 5, 6, 7, 8] [] (wQ k rdr mk xa ra g4 xi tp (rsP g1 ((rP g1) + (1 : Int32)))) rfl rfl fm_n 9 rfl (by decide) (by decide) [rdr, (xa 0), (xa 2), (mk 0), (mk 1), (mk 2), (mk 3), (mk 4), (mk 5)] rfl rfl 0 4 rfl rfl rfl hl.1 rfl (Nat.le_of_ble_eq_true rfl) dX4_closes_39 ⟨Nat.le_of_ble_eq_true rfl, Nat.le_of_ble_eq_true rfl⟩ (fun H locs hP hD hS => ?_)
  obtain ⟨he1, he2⟩ := prod2 (congrArg some (Sum.inr.inj (Option.some.inj hf)))
  rw [he1] at hP
  rw [he2] at hP
  exact wr_vret hx hb hr hlk hP hS dX4_closes_42

abbrev rmX4_closes_f : Room := { frames := 6, cells := 1, slots := 8, locals := 142 }
set_option maxHeartbeats 4000000 in
theorem mX4_closes_f (l : Launch) (D : va_G) (k : Nat → ClassId) (rdr : Nat) (mk : Nat → Nat) (xa : Nat → Nat) (ra : Nat → Nat → Nat) (ri : Nat → Int32) (xi : Nat → Int32) (tp : Nat → Int32) (rq : RS) (sz : Nat) (EC EP : Int32) (hf : fX4_closes ri tp rq = some (.inl (EC, EP))) : fx_Met l yX4_closes (ws_ yX4_closes cX4_closes 1 none) rmX4_closes_f (wxP D k (wQ k rdr mk xa ra ri xi tp rq) sz [.ref rdr]) (vQ (va_A (wQ k rdr mk xa ra ri xi tp rq) sz)) (xcF D EC EP (wXT k xa ra xi tp) (va_A (wQ k rdr mk xa ra ri xi tp rq) sz)) 1 8 (va_A (wQ k rdr mk xa ra ri xi tp rq) sz) := by
  refine fx_start (Qc := fun A => (vQ A)) (XC := fun A => (xcF D EC EP (wXT k xa ra xi tp) A)) (by decide +kernel) (Nat.le_of_ble_eq_true rfl) ?_
  intro p e s m below meth c ls A hA hx hb hr hlk hml hown hnm hts hP hK hD hZ hex hl
  have hl : lv_has ls 1 [(0, .ref rdr)] := hl
  have hown : s.vm.findClass RX4 = some m.cls := hown
  have hS : va_S A s.heap s.heap [] := va_S.rf
  suffices hw : ∀ (H : Heap) (locs : List Loc), va_P D vwCl (wQ k rdr mk xa ra ri xi tp rq) H → va_S A s.heap H locs → gF p l e rmX4_closes_f s m [.ref rdr] below meth c (vQ A) (xcF D EC EP (wXT k xa ra xi tp) A) A 1 8 H locs 0 ls [] from hw s.heap [] hP hS
  clear hP hS
  intro H locs hP hS
  unfold fX4_closes at hf
  refine lv_aload_n hx hb dX4_closes_0 rfl (lv_at hl 0 rfl) ?_
  refine va_get (D := D) (cl := vwCl) (ci := 4) (v := .ref (mk 0)) (C := RX4) (T := TX4) (N := 9) hx hb hts in_X4 hown hK.1 hP 0 rfl rfl 1 (by decide) (hts _ q360) (fun _ h9 => h9) rfl dX4_closes_1 ?_
  refine lv_aload_n hx hb dX4_closes_4 rfl (lv_at hl 0 rfl) ?_
  refine va_get (D := D) (cl := vwCl) (ci := 4) (v := .ref (mk 0)) (C := RX4) (T := TX4) (N := 9) hx hb hts in_X4 hown hK.1 hP 0 rfl rfl 1 (by decide) (hts _ q360) (fun _ h9 => h9) rfl dX4_closes_5 ?_
  refine va_getN (D := D) (cl := vwCl) (ci := 1) (v := .int (rP rq)) (C := RX1) (T := TX1) (N := 6) hx hb hts in_X1 hown hK.1 hP 3 rfl rfl 1 (by decide) (hK.nw 12 rfl) (fun _ h9 => h9) rfl dX4_closes_8 ?_
  refine lv_iconst (v := 0) hx hb dX4_closes_11 (by decide) ?_
  obtain ⟨g1, et2, hf⟩ := ob hf
  refine wr_callVv (As := [.int (rP rq), .int (0 : Int32)]) (rest := []) ⟨hx, hb, hml, hown, hts⟩ (mX1_becomes l D k mk rq (rP rq) (0 : Int32) _ _ et2) (cwV 2 hts (lw_V q396 q397 q398 q91 q399) rfl rfl rfl ⟨rfl, hdX1_becomes⟩ ⟨Nat.le_of_ble_eq_true rfl, Nat.le_of_ble_eq_true rfl⟩) hK hP hD hS hA [3, 4, 5, 6, 7, 8] [0, 1, 2] (wQ k rdr mk xa ra ri xi tp g1) rfl rfl (fm_c (fm_e _ rfl rfl) (fm_c (fm_e _ rfl rfl) (fm_c (fm_e _ rfl rfl) fm_n))) 9 rfl (by decide) (by decide) [rdr, (xa 0), (xa 2), (mk 0), (mk 1), (mk 2), (mk 3), (mk 4), (mk 5)] rfl rfl 3 1 rfl rfl rfl hl.1 rfl (Nat.le_of_ble_eq_true rfl) dX4_closes_12 ⟨Nat.le_of_ble_eq_true rfl, Nat.le_of_ble_eq_true rfl⟩ (fun H locs hP hD hS => ?_)
  refine lv_aload_n hx hb dX4_closes_15 rfl (lv_at hl 0 rfl) ?_
  refine va_get (D := D) (cl := vwCl) (ci := 4) (v := .ref (mk 0)) (C := RX4) (T := TX4) (N := 9) hx hb hts in_X4 hown hK.1 hP 0 rfl rfl 1 (by decide) (hts _ q360) (fun _ h9 => h9) rfl dX4_closes_16 ?_
  refine lv_dup hx hb dX4_closes_19 rfl ?_
  refine va_getN (D := D) (cl := vwCl) (ci := 1) (v := .int (rP g1)) (C := RX1) (T := TX1) (N := 6) hx hb hts in_X1 hown hK.1 hP 3 rfl rfl 1 (by decide) (hK.nw 12 rfl) (fun _ h9 => h9) rfl dX4_closes_20 ?_
  refine lv_iconst (v := 1) hx hb dX4_closes_23 (by decide) ?_
  refine lv_iadd hx hb dX4_closes_24 ?_
  refine va_putN (D := D) (cl := vwCl) (ci := 1) (v := .int ((rP g1) + (1 : Int32))) (ty := .int) (C := RX1) (T := TX1) (N := 6) hx hb hts in_X1 tyX1 tyX1_ok nmX1 hown hK.1 hP hD hS 3 rfl rfl 1 (by decide) (hK.nw 12 rfl) (fun _ h9 => h9) rfl (by decide +kernel) rfl rfl (Nat.le_of_ble_eq_true rfl) dX4_closes_25 (fun H locs hP hD hS => ?_)
  have hP : va_P D vwCl (wQ k rdr mk xa ra ri xi tp (rsP g1 ((rP g1) + (1 : Int32)))) H := hP
  have hD : va_D A (wQ k rdr mk xa ra ri xi tp (rsP g1 ((rP g1) + (1 : Int32)))) := hD
  refine lv_aload_n hx hb dX4_closes_28 rfl (lv_at hl 0 rfl) ?_
  refine lv_dup hx hb dX4_closes_29 rfl ?_
  refine va_get (D := D) (cl := vwCl) (ci := 4) (v := .int (ri 2)) (C := RX4) (T := TX4) (N := 9) hx hb hts in_X4 hown hK.1 hP 0 rfl rfl 3 (by decide) (hts _ q363) (fun _ h9 => h9) rfl dX4_closes_30 ?_
  refine lv_iconst (v := 1) hx hb dX4_closes_33 (by decide) ?_
  refine lv_isub hx hb dX4_closes_34 ?_
  refine va_put (D := D) (cl := vwCl) (ci := 4) (v := .int ((ri 2) - (1 : Int32))) (ty := .int) (C := RX4) (T := TX4) (N := 9) hx hb hts in_X4 tyX4 tyX4_ok nmX4 hown hK.1 hP hD hS 0 rfl rfl 3 (by decide) (hts _ q363) (fun _ h9 => h9) rfl (by decide +kernel) rfl rfl (Nat.le_of_ble_eq_true rfl) dX4_closes_35 (fun H locs hP hD hS => ?_)
  have hP : va_P D vwCl (wQ k rdr mk xa ra (upd ri 2 ((ri 2) - (1 : Int32))) xi tp (rsP g1 ((rP g1) + (1 : Int32)))) H := hP
  have hD : va_D A (wQ k rdr mk xa ra (upd ri 2 ((ri 2) - (1 : Int32))) xi tp (rsP g1 ((rP g1) + (1 : Int32)))) := hD
  refine lv_aload_n hx hb dX4_closes_38 rfl (lv_at hl 0 rfl) ?_
  obtain ⟨x3, ex3, hf⟩ := ob hf
  rcases ec_l hf with rfl | ⟨g4, rfl, hf⟩
  · refine fx_excV (As := []) (rest := []) ⟨hx, hb, hml, hown, hts⟩ (mX4_next_f l D k rdr mk xa ra (upd ri 2 ((ri 2) - (1 : Int32))) xi tp (rsP g1 ((rP g1) + (1 : Int32)))  _ EC EP ex3) (cwV 0 hts (lw_V q262 q264 qs0 q95 q265) rfl rfl rfl ⟨rfl, hdX4_next⟩ ⟨Nat.le_of_ble_eq_true rfl, Nat.le_of_ble_eq_true rfl⟩) hK hZ hP hD hS hA [0, 1, 2, 3, 4, 5, 6, 7, 8] rfl (by decide) [] (wr := []) rfl (by decide) (by decide) 0 4 rfl rfl rfl hl.1 rfl (Nat.le_of_ble_eq_true rfl) dX4_closes_39 ⟨Nat.le_of_ble_eq_true rfl, Nat.le_of_ble_eq_true rfl⟩ (fun H locs q9 ce hP hD hS hc9 hv9 hcl9 => ?_)
    exact fx_thrown hex hlk hc9 hv9 hcl9 hP hD hS (Nat.le_of_ble_eq_true rfl) (Nat.le_of_ble_eq_true rfl)
  refine wr_callVv (As := []) (rest := []) ⟨hx, hb, hml, hown, hts⟩ (mX4_next l D k rdr mk xa ra (upd ri 2 ((ri 2) - (1 : Int32))) xi tp (rsP g1 ((rP g1) + (1 : Int32)))  _ _ ex3) (cwV 0 hts (lw_V q262 q264 qs0 q95 q265) rfl rfl rfl ⟨rfl, hdX4_next⟩ ⟨Nat.le_of_ble_eq_true rfl, Nat.le_of_ble_eq_true rfl⟩) hK hP hD hS hA [0, 1, 2, 3, 4, 5, 6, 7, 8] [] (wQ k rdr mk xa ra g4 xi tp (rsP g1 ((rP g1) + (1 : Int32)))) rfl rfl fm_n 9 rfl (by decide) (by decide) [rdr, (xa 0), (xa 2), (mk 0), (mk 1), (mk 2), (mk 3), (mk 4), (mk 5)] rfl rfl 0 4 rfl rfl rfl hl.1 rfl (Nat.le_of_ble_eq_true rfl) dX4_closes_39 ⟨Nat.le_of_ble_eq_true rfl, Nat.le_of_ble_eq_true rfl⟩ (fun H locs hP hD hS => ?_)
  cases hf

abbrev rmX4_nodes : Room := { frames := 4, cells := 0, slots := 0, locals := 88 }
theorem hdX4_nodes : yX4_nodes.cls ≠ "java/lang/invoke/MethodHandle" ∧ yX4_nodes.cls ≠ "java/lang/invoke/VarHandle" ∧ (parseMethodDescriptor yX4_nodes.desc).map (fun d => d.parameters.length) = some 0 := by decide +kernel
abbrev qcX4_nodes (D : va_G) (k : Nat → ClassId) (rdr : Nat) (mk : Nat → Nat) (xa : Nat → Nat) (ra : Nat → Nat → Nat) (ri : Nat → Int32) (xi : Nat → Int32) (tp : Nat → Int32) (rq : RS) (r : Int32) (A : Nat → Prop) : Array Value → State → Outcome → State → Prop := va_Qi (fun x (_ : Unit) => x = r) (fun _ t => va_P D vwCl (wQ k rdr mk xa ra ri xi tp rq) t.heap) A
set_option maxHeartbeats 4000000 in
theorem mX4_nodes (l : Launch) (D : va_G) (k : Nat → ClassId) (rdr : Nat) (mk : Nat → Nat) (xa : Nat → Nat) (ra : Nat → Nat → Nat) (ri : Nat → Int32) (xi : Nat → Int32) (tp : Nat → Int32) (rq : RS) (sz : Nat) (r : Int32) (ri_o : Nat → Int32) (rq_o : RS) (hf : fX4_nodes ri tp rq = some (.inr (r, ri_o, rq_o))) : Met l yX4_nodes (ws_ yX4_nodes cX4_nodes 1 (some .int)) rmX4_nodes (wrP D k (wQ k rdr mk xa ra ri xi tp rq) sz [.ref rdr]) (qcX4_nodes D k rdr mk xa ra ri_o xi tp rq_o r (va_A (wQ k rdr mk xa ra ri xi tp rq) sz)) 0 0 (va_A (wQ k rdr mk xa ra ri xi tp rq) sz) := by
  refine wr_start (Qc := fun A => qcX4_nodes D k rdr mk xa ra ri_o xi tp rq_o r A) (by decide +kernel) (Nat.le_of_ble_eq_true rfl) ?_
  intro p e s m below meth c ls A hA hx hb hr hlk hml hown hts hP hK hD hl
  have hl : lv_has ls 1 [(0, .ref rdr)] := hl
  have hown : s.vm.findClass RX4 = some m.cls := hown
  have hS : va_S A s.heap s.heap [] := va_S.rf
  suffices hw : ∀ (H : Heap) (locs : List Loc), va_P D vwCl (wQ k rdr mk xa ra ri xi tp rq) H → va_S A s.heap H locs → gW p l e rmX4_nodes s m [.ref rdr] below meth c (qcX4_nodes D k rdr mk xa ra ri_o xi tp rq_o r A) A 0 0 H locs 0 ls [] from hw s.heap [] hP hS
  clear hP hS
  intro H locs hP hS
  unfold fX4_nodes at hf
  refine lv_aload_n hx hb dX4_nodes_0 rfl (lv_at hl 0 rfl) ?_
  refine va_get (D := D) (cl := vwCl) (ci := 4) (v := .int (ri 5)) (C := RX4) (T := TX4) (N := 9) hx hb hts in_X4 hown hK.1 hP 0 rfl rfl 6 (by decide) (hts _ q366) (fun _ h9 => h9) rfl dX4_nodes_1 ?_
  have hB66 : ∀ (ri_66 : Nat → Int32) (rq_66 : RS), ∀ (H : Heap) (locs : List Loc), va_P D vwCl (wQ k rdr mk xa ra ri_66 xi tp rq_66) H → va_D A (wQ k rdr mk xa ra ri_66 xi tp rq_66) → va_S A s.heap H locs → fX4_nodes_B66 tp ri_66 rq_66 = some (.inr (r, ri_o, rq_o)) → ∀ ls : Array Slot, lv_has ls 1 [(0, .ref rdr)] → gW p l e rmX4_nodes s m [.ref rdr] below meth c (qcX4_nodes D k rdr mk xa ra ri_o xi tp rq_o r A) A 0 0 H locs 66 ls [] := by
    intro ri_66 rq_66 H locs hP hD hS hf ls hl
    unfold fX4_nodes_B66 at hf
    refine lv_aload_n hx hb dX4_nodes_66 rfl (lv_at hl 0 rfl) ?_
    refine lv_aload_n hx hb dX4_nodes_67 rfl (lv_at hl 0 rfl) ?_
    refine va_get (D := D) (cl := vwCl) (ci := 4) (v := .int (ri_66 5)) (C := RX4) (T := TX4) (N := 9) hx hb hts in_X4 hown hK.1 hP 0 rfl rfl 6 (by decide) (hts _ q366) (fun _ h9 => h9) rfl dX4_nodes_68 ?_
    have hB79 : ∀ (ri_79 : Nat → Int32) (rq_79 : RS) (s0_79 : Int32), ∀ (H : Heap) (locs : List Loc), va_P D vwCl (wQ k rdr mk xa ra ri_79 xi tp rq_79) H → va_D A (wQ k rdr mk xa ra ri_79 xi tp rq_79) → va_S A s.heap H locs → fX4_nodes_B79 tp ri_79 rq_79 s0_79 = some (.inr (r, ri_o, rq_o)) → ∀ ls : Array Slot, lv_has ls 1 [(0, .ref rdr)] → gW p l e rmX4_nodes s m [.ref rdr] below meth c (qcX4_nodes D k rdr mk xa ra ri_o xi tp rq_o r A) A 0 0 H locs 79 ls [.int s0_79, .ref rdr] := by
      intro ri_79 rq_79 s0_79 H locs hP hD hS hf ls hl
      unfold fX4_nodes_B79 at hf
      refine lv_iconst (v := 2) hx hb dX4_nodes_79 (by decide) ?_
      obtain ⟨x3, ex3, hf⟩ := ob hf
      obtain ⟨_, rfl, hf⟩ := ec_r hf
      refine rd_callVv (As := [.int s0_79, .int (2 : Int32)]) (rest := []) ⟨hx, hb, hml, hown, hts⟩ (mX4_need l D k rdr mk xa ra ri_79 xi tp rq_79 s0_79 (2 : Int32) ex3) (cwV 2 hts (lw_V q270 q272 qs2 q95 q273) rfl rfl rfl ⟨rfl, hdX4_need⟩ ⟨Nat.le_of_ble_eq_true rfl, Nat.le_of_ble_eq_true rfl⟩) hK hP [0, 1, 2, 3, 4, 5, 6, 7, 8] rfl 0 4 rfl rfl rfl hl.1 rfl (Nat.le_of_ble_eq_true rfl) dX4_nodes_80 ⟨Nat.le_of_ble_eq_true rfl, Nat.le_of_ble_eq_true rfl⟩ ?_
      refine lv_aload_n hx hb dX4_nodes_83 rfl (lv_at hl 0 rfl) ?_
      refine va_get (D := D) (cl := vwCl) (ci := 4) (v := .ref (mk 0)) (C := RX4) (T := TX4) (N := 9) hx hb hts in_X4 hown hK.1 hP 0 rfl rfl 1 (by decide) (hts _ q360) (fun _ h9 => h9) rfl dX4_nodes_84 ?_
      obtain ⟨g4, et5, hf⟩ := ob hf
      refine wr_callVv (As := []) (rest := []) ⟨hx, hb, hml, hown, hts⟩ (mX1_summariseAll l D k mk rq_79  _ _ et5) (cwV 0 hts (lw_V q405 q169 q170 q91 q171) rfl rfl rfl ⟨rfl, hdX1_summariseAll⟩ ⟨Nat.le_of_ble_eq_true rfl, Nat.le_of_ble_eq_true rfl⟩) hK hP hD hS hA [3, 4, 5, 6, 7, 8] [0, 1, 2] (wQ k rdr mk xa ra ri_79 xi tp g4) rfl rfl (fm_c (fm_e _ rfl rfl) (fm_c (fm_e _ rfl rfl) (fm_c (fm_e _ rfl rfl) fm_n))) 9 rfl (by decide) (by decide) [rdr, (xa 0), (xa 2), (mk 0), (mk 1), (mk 2), (mk 3), (mk 4), (mk 5)] rfl rfl 3 1 rfl rfl rfl hl.1 rfl (Nat.le_of_ble_eq_true rfl) dX4_nodes_87 ⟨Nat.le_of_ble_eq_true rfl, Nat.le_of_ble_eq_true rfl⟩ (fun H locs hP hD hS => ?_)
      refine lv_aload_n hx hb dX4_nodes_90 rfl (lv_at hl 0 rfl) ?_
      refine va_get (D := D) (cl := vwCl) (ci := 4) (v := .int (ri_79 1)) (C := RX4) (T := TX4) (N := 9) hx hb hts in_X4 hown hK.1 hP 0 rfl rfl 2 (by decide) (hts _ q362) (fun _ h9 => h9) rfl dX4_nodes_91 ?_
      obtain ⟨he1, he2, he3⟩ := prod3 (congrArg some (Sum.inr.inj (Option.some.inj hf)))
      rw [he2] at hP
      rw [he3] at hP
      exact wr_iret hx hb hr hlk he1 hP hS dX4_nodes_94
    refine lv_if_ne (tgt := 78) hx hb dX4_nodes_71 (by decide) (fun c2 => ?_) (fun c2 => ?_)
    · have hf := oi_f c2 hf
      refine lv_iconst (v := 0) hx hb dX4_nodes_78 (by decide) ?_
      exact hB79 ri_66 rq_66 (0 : Int32) H locs hP hD hS hf ls (lv_sub hl [0] rfl)
    · have hf := oi_t c2 hf
      refine lv_iconst (v := 1) hx hb dX4_nodes_74 (by decide) ?_
      refine lv_goto (tgt := 79) hx hb dX4_nodes_75 (by decide) ?_
      exact hB79 ri_66 rq_66 (1 : Int32) H locs hP hD hS hf ls (lv_sub hl [0] rfl)
  refine lv_if_eq (tgt := 66) hx hb dX4_nodes_4 (by decide) (fun c1 => ?_) (fun c1 => ?_)
  · have hf := oi_t c1 hf
    exact hB66 ri rq H locs hP hD hS hf ls (lv_sub hl [0] rfl)
  · have hf := oi_f c1 hf
    have hL7 : ∀ (nn : Nat) (ri_7 : Nat → Int32) (rq_7 : RS), ∀ (H : Heap) (locs : List Loc), va_P D vwCl (wQ k rdr mk xa ra ri_7 xi tp rq_7) H → va_D A (wQ k rdr mk xa ra ri_7 xi tp rq_7) → va_S A s.heap H locs → fX4_nodes_L7 tp nn ri_7 rq_7 = some (.inr (r, ri_o, rq_o)) → ∀ ls : Array Slot, lv_has ls 1 [(0, .ref rdr)] → gW p l e rmX4_nodes s m [.ref rdr] below meth c (qcX4_nodes D k rdr mk xa ra ri_o xi tp rq_o r A) A 0 0 H locs 7 ls [] := by
      intro nn7
      induction nn7 with
      | zero =>
        intro ri_7 rq_7 H locs hP hD hS hf
        rw [fX4_nodes_L7] at hf; cases hf
      | succ nn7 ih7 =>
        intro ri_7 rq_7 H locs hP hD hS hf ls hl
        rw [fX4_nodes_L7] at hf
        refine lv_aload_n hx hb dX4_nodes_7 rfl (lv_at hl 0 rfl) ?_
        refine lv_aload_n hx hb dX4_nodes_8 rfl (lv_at hl 0 rfl) ?_
        refine va_get (D := D) (cl := vwCl) (ci := 4) (v := .int (ri_7 5)) (C := RX4) (T := TX4) (N := 9) hx hb hts in_X4 hown hK.1 hP 0 rfl rfl 6 (by decide) (hts _ q366) (fun _ h9 => h9) rfl dX4_nodes_9 ?_
        refine lv_iconst (v := 2) hx hb dX4_nodes_12 (by decide) ?_
        have hB36 : ∀ (ri_36 : Nat → Int32) (rq_36 : RS) (s0_36 : Int32), ∀ (H : Heap) (locs : List Loc), va_P D vwCl (wQ k rdr mk xa ra ri_36 xi tp rq_36) H → va_D A (wQ k rdr mk xa ra ri_36 xi tp rq_36) → va_S A s.heap H locs → fX4_nodes_B36 tp (fX4_nodes_L7 tp nn7) ri_36 rq_36 s0_36 = some (.inr (r, ri_o, rq_o)) → ∀ ls : Array Slot, lv_has ls 1 [(0, .ref rdr)] → gW p l e rmX4_nodes s m [.ref rdr] below meth c (qcX4_nodes D k rdr mk xa ra ri_o xi tp rq_o r A) A 0 0 H locs 36 ls [.int s0_36, .ref rdr] := by
          intro ri_36 rq_36 s0_36 H locs hP hD hS hf ls hl
          unfold fX4_nodes_B36 at hf
          refine lv_iconst (v := 2) hx hb dX4_nodes_36 (by decide) ?_
          obtain ⟨x7, ex7, hf⟩ := ob hf
          obtain ⟨_, rfl, hf⟩ := ec_r hf
          refine rd_callVv (As := [.int s0_36, .int (2 : Int32)]) (rest := []) ⟨hx, hb, hml, hown, hts⟩ (mX4_need l D k rdr mk xa ra ri_36 xi tp rq_36 s0_36 (2 : Int32) ex7) (cwV 2 hts (lw_V q270 q272 qs2 q95 q273) rfl rfl rfl ⟨rfl, hdX4_need⟩ ⟨Nat.le_of_ble_eq_true rfl, Nat.le_of_ble_eq_true rfl⟩) hK hP [0, 1, 2, 3, 4, 5, 6, 7, 8] rfl 0 4 rfl rfl rfl hl.1 rfl (Nat.le_of_ble_eq_true rfl) dX4_nodes_37 ⟨Nat.le_of_ble_eq_true rfl, Nat.le_of_ble_eq_true rfl⟩ ?_
          refine lv_aload_n hx hb dX4_nodes_40 rfl (lv_at hl 0 rfl) ?_
          refine va_get (D := D) (cl := vwCl) (ci := 4) (v := .int (ri_36 5)) (C := RX4) (T := TX4) (N := 9) hx hb hts in_X4 hown hK.1 hP 0 rfl rfl 6 (by decide) (hts _ q366) (fun _ h9 => h9) rfl dX4_nodes_41 ?_
          refine lv_iconst (v := 2) hx hb dX4_nodes_44 (by decide) ?_
          have hB59 : ∀ (ri_59 : Nat → Int32) (rq_59 : RS), ∀ (H : Heap) (locs : List Loc), va_P D vwCl (wQ k rdr mk xa ra ri_59 xi tp rq_59) H → va_D A (wQ k rdr mk xa ra ri_59 xi tp rq_59) → va_S A s.heap H locs → fX4_nodes_B59 tp (fX4_nodes_L7 tp nn7) ri_59 rq_59 = some (.inr (r, ri_o, rq_o)) → ∀ ls : Array Slot, lv_has ls 1 [(0, .ref rdr)] → gW p l e rmX4_nodes s m [.ref rdr] below meth c (qcX4_nodes D k rdr mk xa ra ri_o xi tp rq_o r A) A 0 0 H locs 59 ls [] := by
            intro ri_59 rq_59 H locs hP hD hS hf ls hl
            unfold fX4_nodes_B59 at hf
            refine lv_aload_n hx hb dX4_nodes_59 rfl (lv_at hl 0 rfl) ?_
            refine va_get (D := D) (cl := vwCl) (ci := 4) (v := .int (ri_59 2)) (C := RX4) (T := TX4) (N := 9) hx hb hts in_X4 hown hK.1 hP 0 rfl rfl 3 (by decide) (hts _ q363) (fun _ h9 => h9) rfl dX4_nodes_60 ?_
            refine lv_if_gt (tgt := 7) hx hb dX4_nodes_63 (by decide) (fun c9 => ?_) (fun c9 => ?_)
            · have hf := oi_t c9 hf
              exact ih7 ri_59 rq_59 H locs hP hD hS hf ls (lv_sub hl [0] rfl)
            · have hf := oi_f c9 hf
              exact hB66 ri_59 rq_59 H locs hP hD hS hf ls (lv_sub hl [0] rfl)
          refine lv_icmp_ne (tgt := 55) hx hb dX4_nodes_45 (by decide) (fun c8 => ?_) (fun c8 => ?_)
          · have hf := oi_f c8 hf
            refine lv_aload_n hx hb dX4_nodes_55 rfl (lv_at hl 0 rfl) ?_
            obtain ⟨x10, ex10, hf⟩ := ob hf
            obtain ⟨⟨g11, g12⟩, rfl, hf⟩ := ec_r hf
            refine wr_callVv (As := []) (rest := []) ⟨hx, hb, hml, hown, hts⟩ (mX4_closes l D k rdr mk xa ra ri_36 xi tp rq_36  _ _ _ ex10) (cwV 0 hts (lw_V q401 q403 qs6 q95 q404) rfl rfl rfl ⟨rfl, hdX4_closes⟩ ⟨Nat.le_of_ble_eq_true rfl, Nat.le_of_ble_eq_true rfl⟩) hK hP hD hS hA [0, 1, 2, 3, 4, 5, 6, 7, 8] [] (wQ k rdr mk xa ra g11 xi tp g12) rfl rfl fm_n 9 rfl (by decide) (by decide) [rdr, (xa 0), (xa 2), (mk 0), (mk 1), (mk 2), (mk 3), (mk 4), (mk 5)] rfl rfl 0 4 rfl rfl rfl hl.1 rfl (Nat.le_of_ble_eq_true rfl) dX4_nodes_56 ⟨Nat.le_of_ble_eq_true rfl, Nat.le_of_ble_eq_true rfl⟩ (fun H locs hP hD hS => ?_)
            exact hB59 g11 g12 H locs hP hD hS hf ls (lv_sub hl [0] rfl)
          · have hf := oi_t c8 hf
            refine lv_aload_n hx hb dX4_nodes_48 rfl (lv_at hl 0 rfl) ?_
            obtain ⟨x13, ex13, hf⟩ := ob hf
            obtain ⟨⟨g14, g15⟩, rfl, hf⟩ := ec_r hf
            refine wr_callVv (As := []) (rest := []) ⟨hx, hb, hml, hown, hts⟩ (mX4_opens l D k rdr mk xa ra ri_36 xi tp rq_36  _ _ _ ex13) (cwV 0 hts (lw_V q392 q394 qs5 q95 q395) rfl rfl rfl ⟨rfl, hdX4_opens⟩ ⟨Nat.le_of_ble_eq_true rfl, Nat.le_of_ble_eq_true rfl⟩) hK hP hD hS hA [0, 1, 2, 3, 4, 5, 6, 7, 8] [] (wQ k rdr mk xa ra g14 xi tp g15) rfl rfl fm_n 9 rfl (by decide) (by decide) [rdr, (xa 0), (xa 2), (mk 0), (mk 1), (mk 2), (mk 3), (mk 4), (mk 5)] rfl rfl 0 4 rfl rfl rfl hl.1 rfl (Nat.le_of_ble_eq_true rfl) dX4_nodes_49 ⟨Nat.le_of_ble_eq_true rfl, Nat.le_of_ble_eq_true rfl⟩ (fun H locs hP hD hS => ?_)
            refine lv_goto (tgt := 59) hx hb dX4_nodes_52 (by decide) ?_
            exact hB59 g14 g15 H locs hP hD hS hf ls (lv_sub hl [0] rfl)
        have hB31 : ∀ (ri_31 : Nat → Int32) (rq_31 : RS), ∀ (H : Heap) (locs : List Loc), va_P D vwCl (wQ k rdr mk xa ra ri_31 xi tp rq_31) H → va_D A (wQ k rdr mk xa ra ri_31 xi tp rq_31) → va_S A s.heap H locs → fX4_nodes_B31 tp (fX4_nodes_L7 tp nn7) ri_31 rq_31 = some (.inr (r, ri_o, rq_o)) → ∀ ls : Array Slot, lv_has ls 1 [(0, .ref rdr)] → gW p l e rmX4_nodes s m [.ref rdr] below meth c (qcX4_nodes D k rdr mk xa ra ri_o xi tp rq_o r A) A 0 0 H locs 31 ls [.ref rdr] := by
          intro ri_31 rq_31 H locs hP hD hS hf ls hl
          unfold fX4_nodes_B31 at hf
          refine lv_iconst (v := 1) hx hb dX4_nodes_31 (by decide) ?_
          refine lv_goto (tgt := 36) hx hb dX4_nodes_32 (by decide) ?_
          exact hB36 ri_31 rq_31 (1 : Int32) H locs hP hD hS hf ls (lv_sub hl [0] rfl)
        refine lv_icmp_eq (tgt := 31) hx hb dX4_nodes_13 (by decide) (fun c6 => ?_) (fun c6 => ?_)
        · have hf := oi_t c6 hf
          exact hB31 ri_7 rq_7 H locs hP hD hS hf ls (lv_sub hl [0] rfl)
        · have hf := oi_f c6 hf
          refine lv_aload_n hx hb dX4_nodes_16 rfl (lv_at hl 0 rfl) ?_
          refine va_get (D := D) (cl := vwCl) (ci := 4) (v := .int (ri_7 5)) (C := RX4) (T := TX4) (N := 9) hx hb hts in_X4 hown hK.1 hP 0 rfl rfl 6 (by decide) (hts _ q366) (fun _ h9 => h9) rfl dX4_nodes_17 ?_
          refine lv_iconst (v := 3) hx hb dX4_nodes_20 (by decide) ?_
          have hB35 : ∀ (ri_35 : Nat → Int32) (rq_35 : RS), ∀ (H : Heap) (locs : List Loc), va_P D vwCl (wQ k rdr mk xa ra ri_35 xi tp rq_35) H → va_D A (wQ k rdr mk xa ra ri_35 xi tp rq_35) → va_S A s.heap H locs → fX4_nodes_B35 tp (fX4_nodes_L7 tp nn7) ri_35 rq_35 = some (.inr (r, ri_o, rq_o)) → ∀ ls : Array Slot, lv_has ls 1 [(0, .ref rdr)] → gW p l e rmX4_nodes s m [.ref rdr] below meth c (qcX4_nodes D k rdr mk xa ra ri_o xi tp rq_o r A) A 0 0 H locs 35 ls [.ref rdr] := by
            intro ri_35 rq_35 H locs hP hD hS hf ls hl
            unfold fX4_nodes_B35 at hf
            refine lv_iconst (v := 0) hx hb dX4_nodes_35 (by decide) ?_
            exact hB36 ri_35 rq_35 (0 : Int32) H locs hP hD hS hf ls (lv_sub hl [0] rfl)
          refine lv_icmp_ne (tgt := 35) hx hb dX4_nodes_21 (by decide) (fun c16 => ?_) (fun c16 => ?_)
          · have hf := oi_f c16 hf
            exact hB35 ri_7 rq_7 H locs hP hD hS hf ls (lv_sub hl [0] rfl)
          · have hf := oi_t c16 hf
            refine lv_aload_n hx hb dX4_nodes_24 rfl (lv_at hl 0 rfl) ?_
            refine va_get (D := D) (cl := vwCl) (ci := 4) (v := .int (ri_7 2)) (C := RX4) (T := TX4) (N := 9) hx hb hts in_X4 hown hK.1 hP 0 rfl rfl 3 (by decide) (hts _ q363) (fun _ h9 => h9) rfl dX4_nodes_25 ?_
            refine lv_if_le (tgt := 35) hx hb dX4_nodes_28 (by decide) (fun c17 => ?_) (fun c17 => ?_)
            · have hf := oi_t c17 hf
              exact hB35 ri_7 rq_7 H locs hP hD hS hf ls (lv_sub hl [0] rfl)
            · have hf := oi_f c17 hf
              exact hB31 ri_7 rq_7 H locs hP hD hS hf ls (lv_sub hl [0] rfl)
    exact hL7 FU ri rq H locs hP hD hS hf ls (lv_sub hl [0] rfl)

abbrev rmX4_nodes_f : Room := { frames := 7, cells := 1, slots := 8, locals := 162 }
set_option maxHeartbeats 4000000 in
theorem mX4_nodes_f (l : Launch) (D : va_G) (k : Nat → ClassId) (rdr : Nat) (mk : Nat → Nat) (xa : Nat → Nat) (ra : Nat → Nat → Nat) (ri : Nat → Int32) (xi : Nat → Int32) (tp : Nat → Int32) (rq : RS) (sz : Nat) (EC EP : Int32) (hf : fX4_nodes ri tp rq = some (.inl (EC, EP))) : fx_Met l yX4_nodes (ws_ yX4_nodes cX4_nodes 1 (some .int)) rmX4_nodes_f (wxP D k (wQ k rdr mk xa ra ri xi tp rq) sz [.ref rdr]) (iQ (va_A (wQ k rdr mk xa ra ri xi tp rq) sz)) (xcF D EC EP (wXT k xa ra xi tp) (va_A (wQ k rdr mk xa ra ri xi tp rq) sz)) 1 8 (va_A (wQ k rdr mk xa ra ri xi tp rq) sz) := by
  refine fx_start (Qc := fun A => (iQ A)) (XC := fun A => (xcF D EC EP (wXT k xa ra xi tp) A)) (by decide +kernel) (Nat.le_of_ble_eq_true rfl) ?_
  intro p e s m below meth c ls A hA hx hb hr hlk hml hown hnm hts hP hK hD hZ hex hl
  have hl : lv_has ls 1 [(0, .ref rdr)] := hl
  have hown : s.vm.findClass RX4 = some m.cls := hown
  have hS : va_S A s.heap s.heap [] := va_S.rf
  suffices hw : ∀ (H : Heap) (locs : List Loc), va_P D vwCl (wQ k rdr mk xa ra ri xi tp rq) H → va_S A s.heap H locs → gF p l e rmX4_nodes_f s m [.ref rdr] below meth c (iQ A) (xcF D EC EP (wXT k xa ra xi tp) A) A 1 8 H locs 0 ls [] from hw s.heap [] hP hS
  clear hP hS
  intro H locs hP hS
  unfold fX4_nodes at hf
  refine lv_aload_n hx hb dX4_nodes_0 rfl (lv_at hl 0 rfl) ?_
  refine va_get (D := D) (cl := vwCl) (ci := 4) (v := .int (ri 5)) (C := RX4) (T := TX4) (N := 9) hx hb hts in_X4 hown hK.1 hP 0 rfl rfl 6 (by decide) (hts _ q366) (fun _ h9 => h9) rfl dX4_nodes_1 ?_
  have hB66 : ∀ (ri_66 : Nat → Int32) (rq_66 : RS), ∀ (H : Heap) (locs : List Loc), va_P D vwCl (wQ k rdr mk xa ra ri_66 xi tp rq_66) H → va_D A (wQ k rdr mk xa ra ri_66 xi tp rq_66) → va_S A s.heap H locs → fX4_nodes_B66 tp ri_66 rq_66 = some (.inl (EC, EP)) → ∀ ls : Array Slot, lv_has ls 1 [(0, .ref rdr)] → gF p l e rmX4_nodes_f s m [.ref rdr] below meth c (iQ A) (xcF D EC EP (wXT k xa ra xi tp) A) A 1 8 H locs 66 ls [] := by
    intro ri_66 rq_66 H locs hP hD hS hf ls hl
    unfold fX4_nodes_B66 at hf
    refine lv_aload_n hx hb dX4_nodes_66 rfl (lv_at hl 0 rfl) ?_
    refine lv_aload_n hx hb dX4_nodes_67 rfl (lv_at hl 0 rfl) ?_
    refine va_get (D := D) (cl := vwCl) (ci := 4) (v := .int (ri_66 5)) (C := RX4) (T := TX4) (N := 9) hx hb hts in_X4 hown hK.1 hP 0 rfl rfl 6 (by decide) (hts _ q366) (fun _ h9 => h9) rfl dX4_nodes_68 ?_
    have hB79 : ∀ (ri_79 : Nat → Int32) (rq_79 : RS) (s0_79 : Int32), ∀ (H : Heap) (locs : List Loc), va_P D vwCl (wQ k rdr mk xa ra ri_79 xi tp rq_79) H → va_D A (wQ k rdr mk xa ra ri_79 xi tp rq_79) → va_S A s.heap H locs → fX4_nodes_B79 tp ri_79 rq_79 s0_79 = some (.inl (EC, EP)) → ∀ ls : Array Slot, lv_has ls 1 [(0, .ref rdr)] → gF p l e rmX4_nodes_f s m [.ref rdr] below meth c (iQ A) (xcF D EC EP (wXT k xa ra xi tp) A) A 1 8 H locs 79 ls [.int s0_79, .ref rdr] := by
      intro ri_79 rq_79 s0_79 H locs hP hD hS hf ls hl
      unfold fX4_nodes_B79 at hf
      refine lv_iconst (v := 2) hx hb dX4_nodes_79 (by decide) ?_
      obtain ⟨x3, ex3, hf⟩ := ob hf
      rcases ec_l hf with rfl | ⟨_, rfl, hf⟩
      · refine fx_excV (As := [.int s0_79, .int (2 : Int32)]) (rest := []) ⟨hx, hb, hml, hown, hts⟩ (mX4_need_f l D k rdr mk xa ra ri_79 xi tp rq_79 s0_79 (2 : Int32) _ EC EP ex3) (cwV 2 hts (lw_V q270 q272 qs2 q95 q273) rfl rfl rfl ⟨rfl, hdX4_need⟩ ⟨Nat.le_of_ble_eq_true rfl, Nat.le_of_ble_eq_true rfl⟩) hK hZ hP hD hS hA [0, 1, 2, 3, 4, 5, 6, 7, 8] rfl (by decide) [] (wr := []) rfl (by decide) (by decide) 0 4 rfl rfl rfl hl.1 rfl (Nat.le_of_ble_eq_true rfl) dX4_nodes_80 ⟨Nat.le_of_ble_eq_true rfl, Nat.le_of_ble_eq_true rfl⟩ (fun H locs q9 ce hP hD hS hc9 hv9 hcl9 => ?_)
        exact fx_thrown hex hlk hc9 hv9 hcl9 hP hD hS (Nat.le_of_ble_eq_true rfl) (Nat.le_of_ble_eq_true rfl)
      refine rd_callVv (As := [.int s0_79, .int (2 : Int32)]) (rest := []) ⟨hx, hb, hml, hown, hts⟩ (mX4_need l D k rdr mk xa ra ri_79 xi tp rq_79 s0_79 (2 : Int32) ex3) (cwV 2 hts (lw_V q270 q272 qs2 q95 q273) rfl rfl rfl ⟨rfl, hdX4_need⟩ ⟨Nat.le_of_ble_eq_true rfl, Nat.le_of_ble_eq_true rfl⟩) hK hP [0, 1, 2, 3, 4, 5, 6, 7, 8] rfl 0 4 rfl rfl rfl hl.1 rfl (Nat.le_of_ble_eq_true rfl) dX4_nodes_80 ⟨Nat.le_of_ble_eq_true rfl, Nat.le_of_ble_eq_true rfl⟩ ?_
      refine lv_aload_n hx hb dX4_nodes_83 rfl (lv_at hl 0 rfl) ?_
      refine va_get (D := D) (cl := vwCl) (ci := 4) (v := .ref (mk 0)) (C := RX4) (T := TX4) (N := 9) hx hb hts in_X4 hown hK.1 hP 0 rfl rfl 1 (by decide) (hts _ q360) (fun _ h9 => h9) rfl dX4_nodes_84 ?_
      obtain ⟨g4, et5, hf⟩ := ob hf
      refine wr_callVv (As := []) (rest := []) ⟨hx, hb, hml, hown, hts⟩ (mX1_summariseAll l D k mk rq_79  _ _ et5) (cwV 0 hts (lw_V q405 q169 q170 q91 q171) rfl rfl rfl ⟨rfl, hdX1_summariseAll⟩ ⟨Nat.le_of_ble_eq_true rfl, Nat.le_of_ble_eq_true rfl⟩) hK hP hD hS hA [3, 4, 5, 6, 7, 8] [0, 1, 2] (wQ k rdr mk xa ra ri_79 xi tp g4) rfl rfl (fm_c (fm_e _ rfl rfl) (fm_c (fm_e _ rfl rfl) (fm_c (fm_e _ rfl rfl) fm_n))) 9 rfl (by decide) (by decide) [rdr, (xa 0), (xa 2), (mk 0), (mk 1), (mk 2), (mk 3), (mk 4), (mk 5)] rfl rfl 3 1 rfl rfl rfl hl.1 rfl (Nat.le_of_ble_eq_true rfl) dX4_nodes_87 ⟨Nat.le_of_ble_eq_true rfl, Nat.le_of_ble_eq_true rfl⟩ (fun H locs hP hD hS => ?_)
      refine lv_aload_n hx hb dX4_nodes_90 rfl (lv_at hl 0 rfl) ?_
      refine va_get (D := D) (cl := vwCl) (ci := 4) (v := .int (ri_79 1)) (C := RX4) (T := TX4) (N := 9) hx hb hts in_X4 hown hK.1 hP 0 rfl rfl 2 (by decide) (hts _ q362) (fun _ h9 => h9) rfl dX4_nodes_91 ?_
      cases hf
    refine lv_if_ne (tgt := 78) hx hb dX4_nodes_71 (by decide) (fun c2 => ?_) (fun c2 => ?_)
    · have hf := oi_f c2 hf
      refine lv_iconst (v := 0) hx hb dX4_nodes_78 (by decide) ?_
      exact hB79 ri_66 rq_66 (0 : Int32) H locs hP hD hS hf ls (lv_sub hl [0] rfl)
    · have hf := oi_t c2 hf
      refine lv_iconst (v := 1) hx hb dX4_nodes_74 (by decide) ?_
      refine lv_goto (tgt := 79) hx hb dX4_nodes_75 (by decide) ?_
      exact hB79 ri_66 rq_66 (1 : Int32) H locs hP hD hS hf ls (lv_sub hl [0] rfl)
  refine lv_if_eq (tgt := 66) hx hb dX4_nodes_4 (by decide) (fun c1 => ?_) (fun c1 => ?_)
  · have hf := oi_t c1 hf
    exact hB66 ri rq H locs hP hD hS hf ls (lv_sub hl [0] rfl)
  · have hf := oi_f c1 hf
    have hL7 : ∀ (nn : Nat) (ri_7 : Nat → Int32) (rq_7 : RS), ∀ (H : Heap) (locs : List Loc), va_P D vwCl (wQ k rdr mk xa ra ri_7 xi tp rq_7) H → va_D A (wQ k rdr mk xa ra ri_7 xi tp rq_7) → va_S A s.heap H locs → fX4_nodes_L7 tp nn ri_7 rq_7 = some (.inl (EC, EP)) → ∀ ls : Array Slot, lv_has ls 1 [(0, .ref rdr)] → gF p l e rmX4_nodes_f s m [.ref rdr] below meth c (iQ A) (xcF D EC EP (wXT k xa ra xi tp) A) A 1 8 H locs 7 ls [] := by
      intro nn7
      induction nn7 with
      | zero =>
        intro ri_7 rq_7 H locs hP hD hS hf
        rw [fX4_nodes_L7] at hf; cases hf
      | succ nn7 ih7 =>
        intro ri_7 rq_7 H locs hP hD hS hf ls hl
        rw [fX4_nodes_L7] at hf
        refine lv_aload_n hx hb dX4_nodes_7 rfl (lv_at hl 0 rfl) ?_
        refine lv_aload_n hx hb dX4_nodes_8 rfl (lv_at hl 0 rfl) ?_
        refine va_get (D := D) (cl := vwCl) (ci := 4) (v := .int (ri_7 5)) (C := RX4) (T := TX4) (N := 9) hx hb hts in_X4 hown hK.1 hP 0 rfl rfl 6 (by decide) (hts _ q366) (fun _ h9 => h9) rfl dX4_nodes_9 ?_
        refine lv_iconst (v := 2) hx hb dX4_nodes_12 (by decide) ?_
        have hB36 : ∀ (ri_36 : Nat → Int32) (rq_36 : RS) (s0_36 : Int32), ∀ (H : Heap) (locs : List Loc), va_P D vwCl (wQ k rdr mk xa ra ri_36 xi tp rq_36) H → va_D A (wQ k rdr mk xa ra ri_36 xi tp rq_36) → va_S A s.heap H locs → fX4_nodes_B36 tp (fX4_nodes_L7 tp nn7) ri_36 rq_36 s0_36 = some (.inl (EC, EP)) → ∀ ls : Array Slot, lv_has ls 1 [(0, .ref rdr)] → gF p l e rmX4_nodes_f s m [.ref rdr] below meth c (iQ A) (xcF D EC EP (wXT k xa ra xi tp) A) A 1 8 H locs 36 ls [.int s0_36, .ref rdr] := by
          intro ri_36 rq_36 s0_36 H locs hP hD hS hf ls hl
          unfold fX4_nodes_B36 at hf
          refine lv_iconst (v := 2) hx hb dX4_nodes_36 (by decide) ?_
          obtain ⟨x7, ex7, hf⟩ := ob hf
          rcases ec_l hf with rfl | ⟨_, rfl, hf⟩
          · refine fx_excV (As := [.int s0_36, .int (2 : Int32)]) (rest := []) ⟨hx, hb, hml, hown, hts⟩ (mX4_need_f l D k rdr mk xa ra ri_36 xi tp rq_36 s0_36 (2 : Int32) _ EC EP ex7) (cwV 2 hts (lw_V q270 q272 qs2 q95 q273) rfl rfl rfl ⟨rfl, hdX4_need⟩ ⟨Nat.le_of_ble_eq_true rfl, Nat.le_of_ble_eq_true rfl⟩) hK hZ hP hD hS hA [0, 1, 2, 3, 4, 5, 6, 7, 8] rfl (by decide) [] (wr := []) rfl (by decide) (by decide) 0 4 rfl rfl rfl hl.1 rfl (Nat.le_of_ble_eq_true rfl) dX4_nodes_37 ⟨Nat.le_of_ble_eq_true rfl, Nat.le_of_ble_eq_true rfl⟩ (fun H locs q9 ce hP hD hS hc9 hv9 hcl9 => ?_)
            exact fx_thrown hex hlk hc9 hv9 hcl9 hP hD hS (Nat.le_of_ble_eq_true rfl) (Nat.le_of_ble_eq_true rfl)
          refine rd_callVv (As := [.int s0_36, .int (2 : Int32)]) (rest := []) ⟨hx, hb, hml, hown, hts⟩ (mX4_need l D k rdr mk xa ra ri_36 xi tp rq_36 s0_36 (2 : Int32) ex7) (cwV 2 hts (lw_V q270 q272 qs2 q95 q273) rfl rfl rfl ⟨rfl, hdX4_need⟩ ⟨Nat.le_of_ble_eq_true rfl, Nat.le_of_ble_eq_true rfl⟩) hK hP [0, 1, 2, 3, 4, 5, 6, 7, 8] rfl 0 4 rfl rfl rfl hl.1 rfl (Nat.le_of_ble_eq_true rfl) dX4_nodes_37 ⟨Nat.le_of_ble_eq_true rfl, Nat.le_of_ble_eq_true rfl⟩ ?_
          refine lv_aload_n hx hb dX4_nodes_40 rfl (lv_at hl 0 rfl) ?_
          refine va_get (D := D) (cl := vwCl) (ci := 4) (v := .int (ri_36 5)) (C := RX4) (T := TX4) (N := 9) hx hb hts in_X4 hown hK.1 hP 0 rfl rfl 6 (by decide) (hts _ q366) (fun _ h9 => h9) rfl dX4_nodes_41 ?_
          refine lv_iconst (v := 2) hx hb dX4_nodes_44 (by decide) ?_
          have hB59 : ∀ (ri_59 : Nat → Int32) (rq_59 : RS), ∀ (H : Heap) (locs : List Loc), va_P D vwCl (wQ k rdr mk xa ra ri_59 xi tp rq_59) H → va_D A (wQ k rdr mk xa ra ri_59 xi tp rq_59) → va_S A s.heap H locs → fX4_nodes_B59 tp (fX4_nodes_L7 tp nn7) ri_59 rq_59 = some (.inl (EC, EP)) → ∀ ls : Array Slot, lv_has ls 1 [(0, .ref rdr)] → gF p l e rmX4_nodes_f s m [.ref rdr] below meth c (iQ A) (xcF D EC EP (wXT k xa ra xi tp) A) A 1 8 H locs 59 ls [] := by
            intro ri_59 rq_59 H locs hP hD hS hf ls hl
            unfold fX4_nodes_B59 at hf
            refine lv_aload_n hx hb dX4_nodes_59 rfl (lv_at hl 0 rfl) ?_
            refine va_get (D := D) (cl := vwCl) (ci := 4) (v := .int (ri_59 2)) (C := RX4) (T := TX4) (N := 9) hx hb hts in_X4 hown hK.1 hP 0 rfl rfl 3 (by decide) (hts _ q363) (fun _ h9 => h9) rfl dX4_nodes_60 ?_
            refine lv_if_gt (tgt := 7) hx hb dX4_nodes_63 (by decide) (fun c9 => ?_) (fun c9 => ?_)
            · have hf := oi_t c9 hf
              exact ih7 ri_59 rq_59 H locs hP hD hS hf ls (lv_sub hl [0] rfl)
            · have hf := oi_f c9 hf
              exact hB66 ri_59 rq_59 H locs hP hD hS hf ls (lv_sub hl [0] rfl)
          refine lv_icmp_ne (tgt := 55) hx hb dX4_nodes_45 (by decide) (fun c8 => ?_) (fun c8 => ?_)
          · have hf := oi_f c8 hf
            refine lv_aload_n hx hb dX4_nodes_55 rfl (lv_at hl 0 rfl) ?_
            obtain ⟨x10, ex10, hf⟩ := ob hf
            rcases ec_l hf with rfl | ⟨⟨g11, g12⟩, rfl, hf⟩
            · refine fx_excV (As := []) (rest := []) ⟨hx, hb, hml, hown, hts⟩ (mX4_closes_f l D k rdr mk xa ra ri_36 xi tp rq_36  _ EC EP ex10) (cwV 0 hts (lw_V q401 q403 qs6 q95 q404) rfl rfl rfl ⟨rfl, hdX4_closes⟩ ⟨Nat.le_of_ble_eq_true rfl, Nat.le_of_ble_eq_true rfl⟩) hK hZ hP hD hS hA [0, 1, 2, 3, 4, 5, 6, 7, 8] rfl (by decide) [] (wr := []) rfl (by decide) (by decide) 0 4 rfl rfl rfl hl.1 rfl (Nat.le_of_ble_eq_true rfl) dX4_nodes_56 ⟨Nat.le_of_ble_eq_true rfl, Nat.le_of_ble_eq_true rfl⟩ (fun H locs q9 ce hP hD hS hc9 hv9 hcl9 => ?_)
              exact fx_thrown hex hlk hc9 hv9 hcl9 hP hD hS (Nat.le_of_ble_eq_true rfl) (Nat.le_of_ble_eq_true rfl)
            refine wr_callVv (As := []) (rest := []) ⟨hx, hb, hml, hown, hts⟩ (mX4_closes l D k rdr mk xa ra ri_36 xi tp rq_36  _ _ _ ex10) (cwV 0 hts (lw_V q401 q403 qs6 q95 q404) rfl rfl rfl ⟨rfl, hdX4_closes⟩ ⟨Nat.le_of_ble_eq_true rfl, Nat.le_of_ble_eq_true rfl⟩) hK hP hD hS hA [0, 1, 2, 3, 4, 5, 6, 7, 8] [] (wQ k rdr mk xa ra g11 xi tp g12) rfl rfl fm_n 9 rfl (by decide) (by decide) [rdr, (xa 0), (xa 2), (mk 0), (mk 1), (mk 2), (mk 3), (mk 4), (mk 5)] rfl rfl 0 4 rfl rfl rfl hl.1 rfl (Nat.le_of_ble_eq_true rfl) dX4_nodes_56 ⟨Nat.le_of_ble_eq_true rfl, Nat.le_of_ble_eq_true rfl⟩ (fun H locs hP hD hS => ?_)
            exact hB59 g11 g12 H locs hP hD hS hf ls (lv_sub hl [0] rfl)
          · have hf := oi_t c8 hf
            refine lv_aload_n hx hb dX4_nodes_48 rfl (lv_at hl 0 rfl) ?_
            obtain ⟨x13, ex13, hf⟩ := ob hf
            rcases ec_l hf with rfl | ⟨⟨g14, g15⟩, rfl, hf⟩
            · refine fx_excV (As := []) (rest := []) ⟨hx, hb, hml, hown, hts⟩ (mX4_opens_f l D k rdr mk xa ra ri_36 xi tp rq_36  _ EC EP ex13) (cwV 0 hts (lw_V q392 q394 qs5 q95 q395) rfl rfl rfl ⟨rfl, hdX4_opens⟩ ⟨Nat.le_of_ble_eq_true rfl, Nat.le_of_ble_eq_true rfl⟩) hK hZ hP hD hS hA [0, 1, 2, 3, 4, 5, 6, 7, 8] rfl (by decide) [] (wr := []) rfl (by decide) (by decide) 0 4 rfl rfl rfl hl.1 rfl (Nat.le_of_ble_eq_true rfl) dX4_nodes_49 ⟨Nat.le_of_ble_eq_true rfl, Nat.le_of_ble_eq_true rfl⟩ (fun H locs q9 ce hP hD hS hc9 hv9 hcl9 => ?_)
              exact fx_thrown hex hlk hc9 hv9 hcl9 hP hD hS (Nat.le_of_ble_eq_true rfl) (Nat.le_of_ble_eq_true rfl)
            refine wr_callVv (As := []) (rest := []) ⟨hx, hb, hml, hown, hts⟩ (mX4_opens l D k rdr mk xa ra ri_36 xi tp rq_36  _ _ _ ex13) (cwV 0 hts (lw_V q392 q394 qs5 q95 q395) rfl rfl rfl ⟨rfl, hdX4_opens⟩ ⟨Nat.le_of_ble_eq_true rfl, Nat.le_of_ble_eq_true rfl⟩) hK hP hD hS hA [0, 1, 2, 3, 4, 5, 6, 7, 8] [] (wQ k rdr mk xa ra g14 xi tp g15) rfl rfl fm_n 9 rfl (by decide) (by decide) [rdr, (xa 0), (xa 2), (mk 0), (mk 1), (mk 2), (mk 3), (mk 4), (mk 5)] rfl rfl 0 4 rfl rfl rfl hl.1 rfl (Nat.le_of_ble_eq_true rfl) dX4_nodes_49 ⟨Nat.le_of_ble_eq_true rfl, Nat.le_of_ble_eq_true rfl⟩ (fun H locs hP hD hS => ?_)
            refine lv_goto (tgt := 59) hx hb dX4_nodes_52 (by decide) ?_
            exact hB59 g14 g15 H locs hP hD hS hf ls (lv_sub hl [0] rfl)
        have hB31 : ∀ (ri_31 : Nat → Int32) (rq_31 : RS), ∀ (H : Heap) (locs : List Loc), va_P D vwCl (wQ k rdr mk xa ra ri_31 xi tp rq_31) H → va_D A (wQ k rdr mk xa ra ri_31 xi tp rq_31) → va_S A s.heap H locs → fX4_nodes_B31 tp (fX4_nodes_L7 tp nn7) ri_31 rq_31 = some (.inl (EC, EP)) → ∀ ls : Array Slot, lv_has ls 1 [(0, .ref rdr)] → gF p l e rmX4_nodes_f s m [.ref rdr] below meth c (iQ A) (xcF D EC EP (wXT k xa ra xi tp) A) A 1 8 H locs 31 ls [.ref rdr] := by
          intro ri_31 rq_31 H locs hP hD hS hf ls hl
          unfold fX4_nodes_B31 at hf
          refine lv_iconst (v := 1) hx hb dX4_nodes_31 (by decide) ?_
          refine lv_goto (tgt := 36) hx hb dX4_nodes_32 (by decide) ?_
          exact hB36 ri_31 rq_31 (1 : Int32) H locs hP hD hS hf ls (lv_sub hl [0] rfl)
        refine lv_icmp_eq (tgt := 31) hx hb dX4_nodes_13 (by decide) (fun c6 => ?_) (fun c6 => ?_)
        · have hf := oi_t c6 hf
          exact hB31 ri_7 rq_7 H locs hP hD hS hf ls (lv_sub hl [0] rfl)
        · have hf := oi_f c6 hf
          refine lv_aload_n hx hb dX4_nodes_16 rfl (lv_at hl 0 rfl) ?_
          refine va_get (D := D) (cl := vwCl) (ci := 4) (v := .int (ri_7 5)) (C := RX4) (T := TX4) (N := 9) hx hb hts in_X4 hown hK.1 hP 0 rfl rfl 6 (by decide) (hts _ q366) (fun _ h9 => h9) rfl dX4_nodes_17 ?_
          refine lv_iconst (v := 3) hx hb dX4_nodes_20 (by decide) ?_
          have hB35 : ∀ (ri_35 : Nat → Int32) (rq_35 : RS), ∀ (H : Heap) (locs : List Loc), va_P D vwCl (wQ k rdr mk xa ra ri_35 xi tp rq_35) H → va_D A (wQ k rdr mk xa ra ri_35 xi tp rq_35) → va_S A s.heap H locs → fX4_nodes_B35 tp (fX4_nodes_L7 tp nn7) ri_35 rq_35 = some (.inl (EC, EP)) → ∀ ls : Array Slot, lv_has ls 1 [(0, .ref rdr)] → gF p l e rmX4_nodes_f s m [.ref rdr] below meth c (iQ A) (xcF D EC EP (wXT k xa ra xi tp) A) A 1 8 H locs 35 ls [.ref rdr] := by
            intro ri_35 rq_35 H locs hP hD hS hf ls hl
            unfold fX4_nodes_B35 at hf
            refine lv_iconst (v := 0) hx hb dX4_nodes_35 (by decide) ?_
            exact hB36 ri_35 rq_35 (0 : Int32) H locs hP hD hS hf ls (lv_sub hl [0] rfl)
          refine lv_icmp_ne (tgt := 35) hx hb dX4_nodes_21 (by decide) (fun c16 => ?_) (fun c16 => ?_)
          · have hf := oi_f c16 hf
            exact hB35 ri_7 rq_7 H locs hP hD hS hf ls (lv_sub hl [0] rfl)
          · have hf := oi_t c16 hf
            refine lv_aload_n hx hb dX4_nodes_24 rfl (lv_at hl 0 rfl) ?_
            refine va_get (D := D) (cl := vwCl) (ci := 4) (v := .int (ri_7 2)) (C := RX4) (T := TX4) (N := 9) hx hb hts in_X4 hown hK.1 hP 0 rfl rfl 3 (by decide) (hts _ q363) (fun _ h9 => h9) rfl dX4_nodes_25 ?_
            refine lv_if_le (tgt := 35) hx hb dX4_nodes_28 (by decide) (fun c17 => ?_) (fun c17 => ?_)
            · have hf := oi_t c17 hf
              exact hB35 ri_7 rq_7 H locs hP hD hS hf ls (lv_sub hl [0] rfl)
            · have hf := oi_f c17 hf
              exact hB31 ri_7 rq_7 H locs hP hD hS hf ls (lv_sub hl [0] rfl)
    exact hL7 FU ri rq H locs hP hD hS hf ls (lv_sub hl [0] rfl)
