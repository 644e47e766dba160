/-! the reader made; text() -/
set_option maxRecDepth 100000
abbrev rmX4_init : Room := { frames := 6, cells := 6, slots := 120, locals := 300 }
theorem hdX4_init : yX4_init.cls ≠ "java/lang/invoke/MethodHandle" ∧ yX4_init.cls ≠ "java/lang/invoke/VarHandle" ∧ (parseMethodDescriptor yX4_init.desc).map (fun d => d.parameters.length) = some 2 := by decide +kernel
set_option maxHeartbeats 4000000 in
theorem mX4_init (l : Launch) (D : va_G) (k : Nat → ClassId) (rd0 : Nat) (xa : Nat → Nat) (ra : Nat → Nat → Nat) (xi tp : Nat → Int32) (p2 : Int32) (sz : Nat) (ri_o : Nat → Int32) (hf : fX4_next (upd (fun _ => 0) 0 p2) tp = some (.inr ri_o)) : Met l yX4_init (ws_ yX4_init cX4_init 3 none) rmX4_init (wrP D k ((rd0, .inr (4, [.int 0, .null, .int 0, .int 0, .int 0, .int 0, .int 0, .int 0, .null])) :: oX xa ra xi :: (xa 2, .inl (k 3, 160, .inl tp)) :: []) sz [.ref rd0, .ref (xa 0), .int p2]) (va_Qv (S := Nat → Nat) (fun _ => True) (fun u t => va_P D vwCl (wQ k rd0 u xa ra ri_o xi tp rs0) t.heap ∧ va_D (va_A ((rd0, .inr (4, [.int 0, .null, .int 0, .int 0, .int 0, .int 0, .int 0, .int 0, .null])) :: oX xa ra xi :: (xa 2, .inl (k 3, 160, .inl tp)) :: []) sz) (wQ k rd0 u xa ra ri_o xi tp rs0)) (va_A ((rd0, .inr (4, [.int 0, .null, .int 0, .int 0, .int 0, .int 0, .int 0, .int 0, .null])) :: oX xa ra xi :: (xa 2, .inl (k 3, 160, .inl tp)) :: []) sz)) 6 120 (va_A ((rd0, .inr (4, [.int 0, .null, .int 0, .int 0, .int 0, .int 0, .int 0, .int 0, .null])) :: oX xa ra xi :: (xa 2, .inl (k 3, 160, .inl tp)) :: []) sz) := by
  refine wr_startC (Qc := fun A => (va_Qv (S := Nat → Nat) (fun _ => True) (fun u t => va_P D vwCl (wQ k rd0 u xa ra ri_o xi tp rs0) t.heap ∧ va_D A (wQ k rd0 u xa ra ri_o xi tp rs0)) A)) (by decide +kernel) (Nat.le_of_ble_eq_true rfl) ?_
  intro p e s m below meth c ls A hsz hAe hA hx hb hr hlk hml hown hin hts hP hK hD hl
  have hl : lv_has ls 3 [(0, .ref rd0), (1, .ref (xa 0)), (2, .int p2)] := hl
  have hown : s.vm.findClass RX4 = some m.cls := hown
  have hS : va_S A s.heap s.heap [] := va_S.rf
  suffices hw : ∀ (H : Heap) (locs : List Loc), va_P D vwCl ((rd0, .inr (4, [.int 0, .null, .int 0, .int 0, .int 0, .int 0, .int 0, .int 0, .null])) :: oX xa ra xi :: (xa 2, .inl (k 3, 160, .inl tp)) :: []) H → va_S A s.heap H locs → gW p l e rmX4_init s m [.ref rd0, .ref (xa 0), .int p2] below meth c (va_Qv (S := Nat → Nat) (fun _ => True) (fun u t => va_P D vwCl (wQ k rd0 u xa ra ri_o xi tp rs0) t.heap ∧ va_D A (wQ k rd0 u xa ra ri_o xi tp rs0)) A) A 6 120 H locs 0 ls [] from hw s.heap [] hP hS
  clear hP hS
  intro H locs hP hS
  refine lv_aload_n hx hb dX4_init_0 rfl (lv_at hl 0 rfl) ?_
  refine lv_aload_n hx hb dX4_init_1 rfl (lv_at hl 1 rfl) ?_
  refine va_putF (D := D) (cl := vwCl) (ci := 4) (v := .ref (xa 0)) (ty := (.object "ExcessTree")) (C := RX4) (T := TX4) (N := 9) hx hb hts in_X4 tyX4 tyX4_ok nmX4 hown hK.1 hP hD hS 0 rfl rfl 8 (by decide) (hts _ q368) (fun _ h9 => h9) rfl hin rfl (by decide +kernel) rfl rfl (Nat.le_of_ble_eq_true rfl) dX4_init_2 (fun H locs hP hD hS => ?_)
  have hP : va_P D vwCl ((rd0, .inr (4, [.int 0, .null, .int 0, .int 0, .int 0, .int 0, .int 0, .int 0, .ref (xa 0)])) :: oX xa ra xi :: (xa 2, .inl (k 3, 160, .inl tp)) :: []) _ := hP
  have hD : va_D A ((rd0, .inr (4, [.int 0, .null, .int 0, .int 0, .int 0, .int 0, .int 0, .int 0, .ref (xa 0)])) :: oX xa ra xi :: (xa 2, .inl (k 3, 160, .inl tp)) :: []) := hD
  refine lv_aload_n hx hb dX4_init_5 rfl (lv_at hl 0 rfl) ?_
  refine W.objInit hx hb hown (hts _ q259) (hts _ q117) (hts _ q118) rfl (by rw [hml]; exact hl.1) rfl dX4_init_6 (Nat.le_of_ble_eq_true rfl) (Nat.le_of_ble_eq_true rfl) ?_
  refine W.eq (g2 := F0 m 9 ls []) rfl ?_
  refine lv_aload_n hx hb dX4_init_9 rfl (lv_at hl 0 rfl) ?_
  refine va_new (D := D) (cl := vwCl) (ci := 1) (fs := [.null, .int 0, .null, .null, .null, .null]) (C := RX1) (T := TX1) (N := 6) hx hb hts in_X1 tyX1 tyX1_ok hown (hts _ q260) (hts _ q120) (hts _ q91) hK.1 hP hD hS hA rfl (fun j hj => by rcases (show j = 0 ∨ j = 1 ∨ j = 2 ∨ j = 3 ∨ j = 4 ∨ j = 5 by omega) with rfl | rfl | rfl | rfl | rfl | rfl <;> rfl) (Nat.le_of_ble_eq_true rfl) (Nat.le_of_ble_eq_true rfl) dX4_init_10 (fun q H hP hD hS => ?_)
  have hP : va_P D vwCl ((rd0, .inr (4, [.int 0, .null, .int 0, .int 0, .int 0, .int 0, .int 0, .int 0, .ref (xa 0)])) :: oX xa ra xi :: (xa 2, .inl (k 3, 160, .inl tp)) :: [(q, .inr (1, [.null, .int 0, .null, .null, .null, .null]))]) _ := hP
  have hD : va_D A ((rd0, .inr (4, [.int 0, .null, .int 0, .int 0, .int 0, .int 0, .int 0, .int 0, .ref (xa 0)])) :: oX xa ra xi :: (xa 2, .inl (k 3, 160, .inl tp)) :: [(q, .inr (1, [.null, .int 0, .null, .null, .null, .null]))]) := hD
  refine lv_dup hx hb dX4_init_13 rfl ?_
  refine wr_grow (S := Nat → Nat) (w1 := (fun a => wR k a rs0)) (post := (fun a => a 0 = q)) (va_runIN (As := []) (rest := [.ref q, .ref rd0]) ⟨hx, hb, hml, hown, hts⟩ (mX1_init l D k q H.size) ⟨va_cnB 0 hts (lw_meth q123) rfl rfl rfl (hK.nwz 15 rfl) (hts _ q91) hdX1_init ⟨Nat.le_of_ble_eq_true rfl, Nat.le_of_ble_eq_true rfl⟩, rfl, hts _ q122⟩ (wr_preS hK hP hD [3] rfl (by decide)) rfl rfl hl.1 rfl (lv_room (Nat.le_of_ble_eq_true rfl)) dX4_init_14 ⟨Nat.le_of_ble_eq_true rfl, Nat.le_of_ble_eq_true rfl⟩) hP hD hS hA [3] [0, 1, 2] rfl (wr := [(rd0, .inr (4, [.int 0, .null, .int 0, .int 0, .int 0, .int 0, .int 0, .int 0, .ref (xa 0)])), oX xa ra xi, (xa 2, .inl (k 3, 160, .inl tp))]) rfl (by decide) (by decide) (fun u H locs eu hPu hDu hSu => ?_)
  clear hP hD hS
  subst eu
  have hP := hPu; have hD := hDu; have hS := hSu; clear hPu hDu hSu
  have hP : va_P D vwCl ((rd0, .inr (4, [.int 0, .null, .int 0, .int 0, .int 0, .int 0, .int 0, .int 0, .ref (xa 0)])) :: oX xa ra xi :: (xa 2, .inl (k 3, 160, .inl tp)) :: wR k u rs0) _ := hP
  have hD : va_D A ((rd0, .inr (4, [.int 0, .null, .int 0, .int 0, .int 0, .int 0, .int 0, .int 0, .ref (xa 0)])) :: oX xa ra xi :: (xa 2, .inl (k 3, 160, .inl tp)) :: wR k u rs0) := hD
  refine va_putF (D := D) (cl := vwCl) (ci := 4) (v := .ref (u 0)) (ty := (.object "ExcessTree$Row")) (C := RX4) (T := TX4) (N := 9) hx hb hts in_X4 tyX4 tyX4_ok nmX4 hown hK.1 hP hD hS 0 rfl rfl 1 (by decide) (hts _ q360) (fun _ h9 => h9) rfl hin rfl (by decide +kernel) rfl rfl (Nat.le_of_ble_eq_true rfl) dX4_init_17 (fun H locs hP hD hS => ?_)
  have hP : va_P D vwCl ((rd0, .inr (4, [.int 0, .ref (u 0), .int 0, .int 0, .int 0, .int 0, .int 0, .int 0, .ref (xa 0)])) :: oX xa ra xi :: (xa 2, .inl (k 3, 160, .inl tp)) :: wR k u rs0) _ := hP
  have hD : va_D A ((rd0, .inr (4, [.int 0, .ref (u 0), .int 0, .int 0, .int 0, .int 0, .int 0, .int 0, .ref (xa 0)])) :: oX xa ra xi :: (xa 2, .inl (k 3, 160, .inl tp)) :: wR k u rs0) := hD
  refine lv_aload_n hx hb dX4_init_20 rfl (lv_at hl 0 rfl) ?_
  refine lv_iload_n hx hb dX4_init_21 rfl (lv_at hl 2 rfl) ?_
  refine va_putF (D := D) (cl := vwCl) (ci := 4) (v := .int p2) (ty := .int) (C := RX4) (T := TX4) (N := 9) hx hb hts in_X4 tyX4 tyX4_ok nmX4 hown hK.1 hP hD hS 0 rfl rfl 0 (by decide) (hts _ q359) (fun _ h9 => h9) rfl hin rfl (by decide +kernel) rfl rfl (Nat.le_of_ble_eq_true rfl) dX4_init_22 (fun H locs hP hD hS => ?_)
  have hP : va_P D vwCl ((rd0, .inr (4, [.int p2, .ref (u 0), .int 0, .int 0, .int 0, .int 0, .int 0, .int 0, .ref (xa 0)])) :: oX xa ra xi :: (xa 2, .inl (k 3, 160, .inl tp)) :: wR k u rs0) _ := hP
  have hD : va_D A ((rd0, .inr (4, [.int p2, .ref (u 0), .int 0, .int 0, .int 0, .int 0, .int 0, .int 0, .ref (xa 0)])) :: oX xa ra xi :: (xa 2, .inl (k 3, 160, .inl tp)) :: wR k u rs0) := hD
  have hP : va_P D vwCl (wQ k rd0 u xa ra (upd (fun _ => 0) 0 p2) xi tp rs0) _ := hP
  have hD : va_D A (wQ k rd0 u xa ra (upd (fun _ => 0) 0 p2) xi tp rs0) := hD
  refine lv_aload_n hx hb dX4_init_25 rfl (lv_at hl 0 rfl) ?_
  refine wr_callVv (As := []) (rest := []) ⟨hx, hb, hml, hown, hts⟩ (mX4_next l D k rd0 u xa ra (upd (fun _ => 0) 0 p2) xi tp rs0 _ ri_o hf) (cwV 0 hts (lw_V q262 q264 qs0 q95 q265) rfl rfl rfl ⟨rfl, hdX4_next⟩ ⟨Nat.le_of_ble_eq_true rfl, Nat.le_of_ble_eq_true rfl⟩) hK hP hD hS hA [0, 1, 2, 3, 4, 5, 6, 7, 8] [] (wQ k rd0 u xa ra ri_o xi tp rs0) rfl rfl fm_n 9 rfl (by decide) (by decide) [rd0, xa 0, xa 2, u 0, u 1, u 2, u 3, u 4, u 5] rfl rfl 0 4 rfl rfl rfl hl.1 rfl (Nat.le_of_ble_eq_true rfl) dX4_init_26 ⟨Nat.le_of_ble_eq_true rfl, Nat.le_of_ble_eq_true rfl⟩ (fun H locs hP hD hS => ?_)
  exact W.vret hx hb hr (fun t ht _ => ⟨⟨u, rfl, trivial, at_heap ht hP, hD⟩, hS.F ht⟩) hS.2.2 dX4_init_29 hlk

abbrev rmX4_init_f : Room := { frames := 10, cells := 7, slots := 128, locals := 500 }
set_option maxHeartbeats 4000000 in
theorem mX4_init_f (l : Launch) (D : va_G) (k : Nat → ClassId) (rd0 : Nat) (xa : Nat → Nat) (ra : Nat → Nat → Nat) (xi tp : Nat → Int32) (p2 : Int32) (sz : Nat) (EC EP : Int32) (hf : fX4_next (upd (fun _ => 0) 0 p2) tp = some (.inl (EC, EP))) : fx_Met l yX4_init (ws_ yX4_init cX4_init 3 none) rmX4_init_f (wxP D k ((rd0, .inr (4, [.int 0, .null, .int 0, .int 0, .int 0, .int 0, .int 0, .int 0, .null])) :: oX xa ra xi :: (xa 2, .inl (k 3, 160, .inl tp)) :: []) sz [.ref rd0, .ref (xa 0), .int p2]) (vQ (va_A ((rd0, .inr (4, [.int 0, .null, .int 0, .int 0, .int 0, .int 0, .int 0, .int 0, .null])) :: oX xa ra xi :: (xa 2, .inl (k 3, 160, .inl tp)) :: []) sz)) (xcF D EC EP (wXT k xa ra xi tp) (va_A ((rd0, .inr (4, [.int 0, .null, .int 0, .int 0, .int 0, .int 0, .int 0, .int 0, .null])) :: oX xa ra xi :: (xa 2, .inl (k 3, 160, .inl tp)) :: []) sz)) 7 128 (va_A ((rd0, .inr (4, [.int 0, .null, .int 0, .int 0, .int 0, .int 0, .int 0, .int 0, .null])) :: oX xa ra xi :: (xa 2, .inl (k 3, 160, .inl tp)) :: []) sz) := by
  refine fx_start (Qc := fun A => vQ A) (XC := fun A => xcF D EC EP (wXT k xa ra xi tp) A) (by decide +kernel) (Nat.le_of_ble_eq_true rfl) ?_
  intro p e s m below meth c ls A hA hx hb hr hlk hml hown hin hts hP hK hD hZ hex hl
  have hl : lv_has ls 3 [(0, .ref rd0), (1, .ref (xa 0)), (2, .int p2)] := hl
  have hown : s.vm.findClass RX4 = some m.cls := hown
  have hS : va_S A s.heap s.heap [] := va_S.rf
  suffices hw : ∀ (H : Heap) (locs : List Loc), va_P D vwCl ((rd0, .inr (4, [.int 0, .null, .int 0, .int 0, .int 0, .int 0, .int 0, .int 0, .null])) :: oX xa ra xi :: (xa 2, .inl (k 3, 160, .inl tp)) :: []) H → va_S A s.heap H locs → gF p l e rmX4_init_f s m [.ref rd0, .ref (xa 0), .int p2] below meth c (vQ A) (xcF D EC EP (wXT k xa ra xi tp) A) A 7 128 H locs 0 ls [] from hw s.heap [] hP hS
  clear hP hS
  intro H locs hP hS
  refine lv_aload_n hx hb dX4_init_0 rfl (lv_at hl 0 rfl) ?_
  refine lv_aload_n hx hb dX4_init_1 rfl (lv_at hl 1 rfl) ?_
  refine va_putF (D := D) (cl := vwCl) (ci := 4) (v := .ref (xa 0)) (ty := (.object "ExcessTree")) (C := RX4) (T := TX4) (N := 9) hx hb hts in_X4 tyX4 tyX4_ok nmX4 hown hK.1 hP hD hS 0 rfl rfl 8 (by decide) (hts _ q368) (fun _ h9 => h9) rfl hin rfl (by decide +kernel) rfl rfl (Nat.le_of_ble_eq_true rfl) dX4_init_2 (fun H locs hP hD hS => ?_)
  have hP : va_P D vwCl ((rd0, .inr (4, [.int 0, .null, .int 0, .int 0, .int 0, .int 0, .int 0, .int 0, .ref (xa 0)])) :: oX xa ra xi :: (xa 2, .inl (k 3, 160, .inl tp)) :: []) _ := hP
  have hD : va_D A ((rd0, .inr (4, [.int 0, .null, .int 0, .int 0, .int 0, .int 0, .int 0, .int 0, .ref (xa 0)])) :: oX xa ra xi :: (xa 2, .inl (k 3, 160, .inl tp)) :: []) := hD
  refine lv_aload_n hx hb dX4_init_5 rfl (lv_at hl 0 rfl) ?_
  refine W.objInit hx hb hown (hts _ q259) (hts _ q117) (hts _ q118) rfl (by rw [hml]; exact hl.1) rfl dX4_init_6 (Nat.le_of_ble_eq_true rfl) (Nat.le_of_ble_eq_true rfl) ?_
  refine W.eq (g2 := F0 m 9 ls []) rfl ?_
  refine lv_aload_n hx hb dX4_init_9 rfl (lv_at hl 0 rfl) ?_
  refine va_new (D := D) (cl := vwCl) (ci := 1) (fs := [.null, .int 0, .null, .null, .null, .null]) (C := RX1) (T := TX1) (N := 6) hx hb hts in_X1 tyX1 tyX1_ok hown (hts _ q260) (hts _ q120) (hts _ q91) hK.1 hP hD hS hA rfl (fun j hj => by rcases (show j = 0 ∨ j = 1 ∨ j = 2 ∨ j = 3 ∨ j = 4 ∨ j = 5 by omega) with rfl | rfl | rfl | rfl | rfl | rfl <;> rfl) (Nat.le_of_ble_eq_true rfl) (Nat.le_of_ble_eq_true rfl) dX4_init_10 (fun q H hP hD hS => ?_)
  have hP : va_P D vwCl ((rd0, .inr (4, [.int 0, .null, .int 0, .int 0, .int 0, .int 0, .int 0, .int 0, .ref (xa 0)])) :: oX xa ra xi :: (xa 2, .inl (k 3, 160, .inl tp)) :: [(q, .inr (1, [.null, .int 0, .null, .null, .null, .null]))]) _ := hP
  have hD : va_D A ((rd0, .inr (4, [.int 0, .null, .int 0, .int 0, .int 0, .int 0, .int 0, .int 0, .ref (xa 0)])) :: oX xa ra xi :: (xa 2, .inl (k 3, 160, .inl tp)) :: [(q, .inr (1, [.null, .int 0, .null, .null, .null, .null]))]) := hD
  refine lv_dup hx hb dX4_init_13 rfl ?_
  refine wr_grow (S := Nat → Nat) (w1 := (fun a => wR k a rs0)) (post := (fun a => a 0 = q)) (va_runIN (As := []) (rest := [.ref q, .ref rd0]) ⟨hx, hb, hml, hown, hts⟩ (mX1_init l D k q H.size) ⟨va_cnB 0 hts (lw_meth q123) rfl rfl rfl (hK.nwz 15 rfl) (hts _ q91) hdX1_init ⟨Nat.le_of_ble_eq_true rfl, Nat.le_of_ble_eq_true rfl⟩, rfl, hts _ q122⟩ (wr_preS hK hP hD [3] rfl (by decide)) rfl rfl hl.1 rfl (lv_room (Nat.le_of_ble_eq_true rfl)) dX4_init_14 ⟨Nat.le_of_ble_eq_true rfl, Nat.le_of_ble_eq_true rfl⟩) hP hD hS hA [3] [0, 1, 2] rfl (wr := [(rd0, .inr (4, [.int 0, .null, .int 0, .int 0, .int 0, .int 0, .int 0, .int 0, .ref (xa 0)])), oX xa ra xi, (xa 2, .inl (k 3, 160, .inl tp))]) rfl (by decide) (by decide) (fun u H locs eu hPu hDu hSu => ?_)
  clear hP hD hS
  subst eu
  have hP := hPu; have hD := hDu; have hS := hSu; clear hPu hDu hSu
  have hP : va_P D vwCl ((rd0, .inr (4, [.int 0, .null, .int 0, .int 0, .int 0, .int 0, .int 0, .int 0, .ref (xa 0)])) :: oX xa ra xi :: (xa 2, .inl (k 3, 160, .inl tp)) :: wR k u rs0) _ := hP
  have hD : va_D A ((rd0, .inr (4, [.int 0, .null, .int 0, .int 0, .int 0, .int 0, .int 0, .int 0, .ref (xa 0)])) :: oX xa ra xi :: (xa 2, .inl (k 3, 160, .inl tp)) :: wR k u rs0) := hD
  refine va_putF (D := D) (cl := vwCl) (ci := 4) (v := .ref (u 0)) (ty := (.object "ExcessTree$Row")) (C := RX4) (T := TX4) (N := 9) hx hb hts in_X4 tyX4 tyX4_ok nmX4 hown hK.1 hP hD hS 0 rfl rfl 1 (by decide) (hts _ q360) (fun _ h9 => h9) rfl hin rfl (by decide +kernel) rfl rfl (Nat.le_of_ble_eq_true rfl) dX4_init_17 (fun H locs hP hD hS => ?_)
  have hP : va_P D vwCl ((rd0, .inr (4, [.int 0, .ref (u 0), .int 0, .int 0, .int 0, .int 0, .int 0, .int 0, .ref (xa 0)])) :: oX xa ra xi :: (xa 2, .inl (k 3, 160, .inl tp)) :: wR k u rs0) _ := hP
  have hD : va_D A ((rd0, .inr (4, [.int 0, .ref (u 0), .int 0, .int 0, .int 0, .int 0, .int 0, .int 0, .ref (xa 0)])) :: oX xa ra xi :: (xa 2, .inl (k 3, 160, .inl tp)) :: wR k u rs0) := hD
  refine lv_aload_n hx hb dX4_init_20 rfl (lv_at hl 0 rfl) ?_
  refine lv_iload_n hx hb dX4_init_21 rfl (lv_at hl 2 rfl) ?_
  refine va_putF (D := D) (cl := vwCl) (ci := 4) (v := .int p2) (ty := .int) (C := RX4) (T := TX4) (N := 9) hx hb hts in_X4 tyX4 tyX4_ok nmX4 hown hK.1 hP hD hS 0 rfl rfl 0 (by decide) (hts _ q359) (fun _ h9 => h9) rfl hin rfl (by decide +kernel) rfl rfl (Nat.le_of_ble_eq_true rfl) dX4_init_22 (fun H locs hP hD hS => ?_)
  have hP : va_P D vwCl ((rd0, .inr (4, [.int p2, .ref (u 0), .int 0, .int 0, .int 0, .int 0, .int 0, .int 0, .ref (xa 0)])) :: oX xa ra xi :: (xa 2, .inl (k 3, 160, .inl tp)) :: wR k u rs0) _ := hP
  have hD : va_D A ((rd0, .inr (4, [.int p2, .ref (u 0), .int 0, .int 0, .int 0, .int 0, .int 0, .int 0, .ref (xa 0)])) :: oX xa ra xi :: (xa 2, .inl (k 3, 160, .inl tp)) :: wR k u rs0) := hD
  have hP : va_P D vwCl (wQ k rd0 u xa ra (upd (fun _ => 0) 0 p2) xi tp rs0) _ := hP
  have hD : va_D A (wQ k rd0 u xa ra (upd (fun _ => 0) 0 p2) xi tp rs0) := hD
  refine lv_aload_n hx hb dX4_init_25 rfl (lv_at hl 0 rfl) ?_
  refine fx_excV (As := []) (rest := []) ⟨hx, hb, hml, hown, hts⟩ (mX4_next_f l D k rd0 u xa ra (upd (fun _ => 0) 0 p2) xi tp rs0 _ EC EP hf) (cwV 0 hts (lw_V q262 q264 qs0 q95 q265) rfl rfl rfl ⟨rfl, hdX4_next⟩ ⟨Nat.le_of_ble_eq_true rfl, Nat.le_of_ble_eq_true rfl⟩) hK hZ hP hD hS hA [0, 1, 2, 3, 4, 5, 6, 7, 8] rfl (by decide) [] (wr := []) rfl (by decide) (by decide) 0 4 rfl rfl rfl hl.1 rfl (Nat.le_of_ble_eq_true rfl) dX4_init_26 ⟨Nat.le_of_ble_eq_true rfl, Nat.le_of_ble_eq_true rfl⟩ (fun H locs q9 ce hP hD hS hc9 hv9 hcl9 => ?_)
  exact fx_thrown hex hlk hc9 hv9 hcl9 hP hD hS (Nat.le_of_ble_eq_true rfl) (Nat.le_of_ble_eq_true rfl)

def fX0_text (xi tp : Nat → Int32) (rs : RS) : Option (Int32 × (Nat → Int32) × RS) :=
  (fX4_next (upd (fun _ => 0) 0 (xi 6)) tp).bind fun x1 => match x1 with
    | .inl c => some (-10 - c.2, upd (upd (upd xi 6 0) 7 0) 7 c.1, rs)
    | .inr ri1 => (fX4_nodes ri1 tp rs0).bind fun x2 => match x2 with
      | .inl c => some (-10 - c.2, upd (upd (upd xi 6 0) 7 0) 7 c.1, rs)
      | .inr n => (fX1_as rs n.2.2).bind fun rs2 => some (n.1, upd (upd (upd xi 6 0) 7 0) 0 0, rs2)

abbrev qcX0_text (D : va_G) (k : Nat → ClassId) (xa : Nat → Nat) (ra : Nat → Nat → Nat) (tp : Nat → Int32) (r : Int32) (xi_o : Nat → Int32) (rs_o : RS) (A : Nat → Prop) : Array Value → State → Outcome → State → Prop := va_Qi (fun x (_ : Unit) => x = r) (fun _ t => va_P D vwCl (wN k xa ra xi_o rs_o ++ [(xa 2, .inl (k 3, 160, .inl tp))]) t.heap) A
abbrev rmX0_text : Room := { frames := 14, cells := 8, slots := 137, locals := 700 }
theorem hdX0_text : yX0_text.cls ≠ "java/lang/invoke/MethodHandle" ∧ yX0_text.cls ≠ "java/lang/invoke/VarHandle" ∧ (parseMethodDescriptor yX0_text.desc).map (fun d => d.parameters.length) = some 0 := by decide +kernel
set_option maxHeartbeats 4000000 in
theorem mX0_text (l : Launch) (D : va_G) (k : Nat → ClassId) (xa : Nat → Nat) (ra : Nat → Nat → Nat) (xi tp : Nat → Int32) (rs : RS) (sz : Nat) (r : Int32) (xi_o : Nat → Int32) (rs_o : RS) (hf : fX0_text xi tp rs = some (r, xi_o, rs_o)) : Met l yX0_text (wsW_ yX0_text cX0_text 4 (some .int) [(15, 47, 48, 144)]) rmX0_text (wxP D k (wN k xa ra xi rs ++ [(xa 2, .inl (k 3, 160, .inl tp))]) sz [.ref (xa 0)]) (qcX0_text D k xa ra tp r xi_o rs_o (va_A (wN k xa ra xi rs ++ [(xa 2, .inl (k 3, 160, .inl tp))]) sz)) 8 137 (va_A (wN k xa ra xi rs ++ [(xa 2, .inl (k 3, 160, .inl tp))]) sz) := by
  refine wx_startW (Qc := fun A => (qcX0_text D k xa ra tp r xi_o rs_o A)) (by decide +kernel) (Nat.le_of_ble_eq_true rfl) ?_
  intro p e s m below meth c ls A hA hx hb hr hlk hml hown hts hP hK hD hZ hexc hl
  have hl : lv_has ls 4 [(0, .ref (xa 0))] := hl
  have hown : s.vm.findClass RX0 = some m.cls := hown
  have hS : va_S A s.heap s.heap [] := va_S.rf
  suffices hw : ∀ (H : Heap) (locs : List Loc), va_P D vwCl (wN k xa ra xi rs ++ [(xa 2, .inl (k 3, 160, .inl tp))]) H → va_S A s.heap H locs → gW p l e rmX0_text s m [.ref (xa 0)] below meth c (qcX0_text D k xa ra tp r xi_o rs_o A) A 8 137 H locs 0 ls [] from hw s.heap [] hP hS
  clear hP hS
  intro H locs hP hS
  unfold fX0_text at hf
  refine lv_aload_n hx hb dX0_text_0 rfl (lv_at hl 0 rfl) ?_
  refine va_get (D := D) (cl := vwCl) (ci := 0) (v := .int (xi 6)) (C := RX0) (T := TX0) (N := 15) hx hb hts in_X0 hown hK.1 hP 0 rfl rfl 9 (by decide) (hts _ q200) (fun _ h9 => h9) rfl dX0_text_1 ?_
  refine lv_istore_n (lv' := [(1, .int (xi 6)), (0, .ref (xa 0))]) hx hb dX0_text_4 rfl hl (by decide) rfl (fun ls hl => ?_)
  refine lv_aload_n hx hb dX0_text_5 rfl (lv_at hl 1 rfl) ?_
  refine lv_iconst (v := 0) hx hb dX0_text_6 (by decide) ?_
  refine va_put (D := D) (cl := vwCl) (ci := 0) (v := .int 0) (ty := .int) (C := RX0) (T := TX0) (N := 15) hx hb hts in_X0 tyX0 tyX0_ok nmX0 hown hK.1 hP hD hS 0 rfl rfl 9 (by decide) (hts _ q200) (fun _ h9 => h9) rfl (by decide +kernel) rfl rfl (Nat.le_of_ble_eq_true rfl) dX0_text_7 (fun H locs hP hD hS => ?_)
  have hP : va_P D vwCl (wN k xa ra (upd xi 6 0) rs ++ [(xa 2, .inl (k 3, 160, .inl tp))]) _ := hP
  have hD : va_D A (wN k xa ra (upd xi 6 0) rs ++ [(xa 2, .inl (k 3, 160, .inl tp))]) := hD
  refine lv_aload_n hx hb dX0_text_10 rfl (lv_at hl 1 rfl) ?_
  refine lv_iconst (v := 0) hx hb dX0_text_11 (by decide) ?_
  refine va_put (D := D) (cl := vwCl) (ci := 0) (v := .int 0) (ty := .int) (C := RX0) (T := TX0) (N := 15) hx hb hts in_X0 tyX0 tyX0_ok nmX0 hown hK.1 hP hD hS 0 rfl rfl 10 (by decide) (hts _ q201) (fun _ h9 => h9) rfl (by decide +kernel) rfl rfl (Nat.le_of_ble_eq_true rfl) dX0_text_12 (fun H locs hP hD hS => ?_)
  have hP : va_P D vwCl (wN k xa ra (upd (upd xi 6 0) 7 0) rs ++ [(xa 2, .inl (k 3, 160, .inl tp))]) _ := hP
  have hD : va_D A (wN k xa ra (upd (upd xi 6 0) 7 0) rs ++ [(xa 2, .inl (k 3, 160, .inl tp))]) := hD
  refine va_new (D := D) (cl := vwCl) (ci := 4) (fs := [.int 0, .null, .int 0, .int 0, .int 0, .int 0, .int 0, .int 0, .null]) (C := RX4) (T := TX4) (N := 9) hx hb hts in_X4 tyX4 tyX4_ok hown (hts _ q254) (hts _ q255) (hts _ q95) hK.1 hP hD hS hA rfl (fun j hj => by rcases (show j = 0 ∨ j = 1 ∨ j = 2 ∨ j = 3 ∨ j = 4 ∨ j = 5 ∨ j = 6 ∨ j = 7 ∨ j = 8 by omega) with rfl | rfl | rfl | rfl | rfl | rfl | rfl | rfl | rfl <;> rfl) (Nat.le_of_ble_eq_true rfl) (Nat.le_of_ble_eq_true rfl) dX0_text_15 (fun q H hP hD hS => ?_)
  have hP : va_P D vwCl (wN k xa ra (upd (upd xi 6 0) 7 0) rs ++ [(xa 2, .inl (k 3, 160, .inl tp)), (q, .inr (4, [.int 0, .null, .int 0, .int 0, .int 0, .int 0, .int 0, .int 0, .null]))]) _ := hP
  have hD : va_D A (wN k xa ra (upd (upd xi 6 0) 7 0) rs ++ [(xa 2, .inl (k 3, 160, .inl tp)), (q, .inr (4, [.int 0, .null, .int 0, .int 0, .int 0, .int 0, .int 0, .int 0, .null]))]) := hD
  refine lv_dup hx hb dX0_text_18 rfl ?_
  refine lv_aload_n hx hb dX0_text_19 rfl (lv_at hl 1 rfl) ?_
  refine lv_iload_n hx hb dX0_text_20 rfl (lv_at hl 0 rfl) ?_
  have hH : ∀ (c1 c2 : Int32) (q9 : Nat) (H : Heap) (locs : List Loc), va_P D vwCl (wR k (ra 0) rs ++ (wXT k xa ra (upd (upd xi 6 0) 7 0) tp ++ [(q9, fE c1 c2)])) H → va_D A (wR k (ra 0) rs ++ (wXT k xa ra (upd (upd xi 6 0) 7 0) tp ++ [(q9, fE c1 c2)])) → va_S A s.heap H locs → some (-10 - c2, upd (upd (upd xi 6 0) 7 0) 7 c1, rs) = some (r, xi_o, rs_o) → ∀ ls : Array Slot, lv_has ls 4 [(0, .ref (xa 0))] → W p l e rmX0_text s m ([.ref (xa 0)] : List Value).toArray below meth c H locs 8 137 (MQ below (qcX0_text D k xa ra tp r xi_o rs_o A) ([.ref (xa 0)] : List Value).toArray s 8 137 A) (F0 m 48 ls [.ref q9]) := by
    intro c1 c2 q9 H locs hP hD hS hf ls hl
    obtain ⟨he1, he2, he3⟩ := prod3 hf
    refine lv_astore_n (lv' := [(2, .ref q9), (0, .ref (xa 0))]) hx hb dX0_text_48 rfl hl (by decide) rfl (fun ls hl => ?_)
    refine lv_aload_n hx hb dX0_text_49 rfl (lv_at hl 1 rfl) ?_
    refine lv_aload_n hx hb dX0_text_50 rfl (lv_at hl 0 rfl) ?_
    refine va_getN (D := D) (cl := vwCl) (ci := 5) (v := .int c1) (C := RX5) (T := TX5) (N := 8) hx hb hts in_X5 hown hK.1 hP 8 rfl rfl 6 (by decide) (hK.nw 9 rfl) (fun _ h9 => h9) rfl dX0_text_51 ?_
    refine va_put (D := D) (cl := vwCl) (ci := 0) (v := .int c1) (ty := .int) (C := RX0) (T := TX0) (N := 15) hx hb hts in_X0 tyX0 tyX0_ok nmX0 hown hK.1 hP hD hS 6 rfl rfl 10 (by decide) (hts _ q201) (fun _ h9 => h9) rfl (by decide +kernel) rfl rfl (Nat.le_of_ble_eq_true rfl) dX0_text_54 (fun H locs hP hD hS => ?_)
    have hP : va_P D vwCl (wR k (ra 0) rs ++ (wXT k xa ra (upd (upd (upd xi 6 0) 7 0) 7 c1) tp ++ [(q9, fE c1 c2)])) _ := hP
    have hD : va_D A (wR k (ra 0) rs ++ (wXT k xa ra (upd (upd (upd xi 6 0) 7 0) 7 c1) tp ++ [(q9, fE c1 c2)])) := hD
    refine lv_bipush (v := (-10)) hx hb dX0_text_57 (by decide) ?_
    refine lv_aload_n hx hb dX0_text_59 rfl (lv_at hl 0 rfl) ?_
    refine va_getN (D := D) (cl := vwCl) (ci := 5) (v := .int c2) (C := RX5) (T := TX5) (N := 8) hx hb hts in_X5 hown hK.1 hP 8 rfl rfl 7 (by decide) (hK.nw 10 rfl) (fun _ h9 => h9) rfl dX0_text_60 ?_
    refine lv_isub hx hb dX0_text_63 ?_
    have hP9 : va_P D vwCl (wN k xa ra (upd (upd (upd xi 6 0) 7 0) 7 c1) rs ++ [(xa 2, .inl (k 3, 160, .inl tp))]) _ := hP.sub [6, 0, 1, 2, 3, 4, 5, 7] rfl
    rw [he2, he3] at hP9
    exact wr_iret hx hb hr hlk he1 hP9 hS dX0_text_64
  obtain ⟨x1, ex1, hf⟩ := ob hf
  cases x1 with
  | inl c =>
    refine fx_excI (As := [.ref (xa 0), .int (xi 6)]) (rest := [.ref q]) ⟨hx, hb, hml, hown, hts⟩ (mX4_init_f l D k q xa ra (upd (upd xi 6 0) 7 0) tp (xi 6) _ c.1 c.2 ex1) ⟨va_cB 2 hts (lw_meth q258) rfl rfl rfl (hts _ q256) (hts _ q95) hdX4_init ⟨Nat.le_of_ble_eq_true rfl, Nat.le_of_ble_eq_true rfl⟩, rfl, hts _ q257⟩ hK hZ hP hD hS hA [8, 0, 7] rfl (by decide) [1, 2, 3, 4, 5, 6] (wr := wR k (ra 0) rs) rfl (by decide) (by decide) rfl hl.1 rfl (Nat.le_of_ble_eq_true rfl) dX0_text_21 ⟨Nat.le_of_ble_eq_true rfl, Nat.le_of_ble_eq_true rfl⟩ (fun H locs q9 ce hP hD hS hc9 hv9 hcl9 => ?_)
    refine vx_catch hown [] _ _ (hexc.trans rfl) fm_n rfl (by decide) (hts _ q253) (hK.nw 23 rfl) hc9 hv9 hcl9 (hH c.1 c.2 q9 H locs hP hD hS hf ls (lv_sub hl [1] rfl))
  | inr ri1 =>
    refine wr_grow (S := Nat → Nat) (w1 := (fun u => wQ k q u xa ra ri1 (upd (upd xi 6 0) 7 0) tp rs0)) (post := (fun _ => True)) (va_runI (As := [.ref (xa 0), .int (xi 6)]) (rest := [.ref q]) ⟨hx, hb, hml, hown, hts⟩ (mX4_init l D k q xa ra (upd (upd xi 6 0) 7 0) tp (xi 6) H.size ri1 ex1) ⟨va_cB 2 hts (lw_meth q258) rfl rfl rfl (hts _ q256) (hts _ q95) hdX4_init ⟨Nat.le_of_ble_eq_true rfl, Nat.le_of_ble_eq_true rfl⟩, rfl, hts _ q257⟩ (wr_preS hK hP hD [8, 0, 7] rfl (by decide)) rfl rfl hl.1 rfl (lv_room (Nat.le_of_ble_eq_true rfl)) dX0_text_21 ⟨Nat.le_of_ble_eq_true rfl, Nat.le_of_ble_eq_true rfl⟩) hP hD hS hA [8, 0, 7] [1, 2, 3, 4, 5, 6] rfl (wr := wR k (ra 0) rs) rfl (by decide) (by decide) (fun u H locs eu hPu hDu hSu => ?_)
    clear hP hD hS
    have hP := hPu; have hD := hDu; have hS := hSu; clear hPu hDu hSu
    have hP : va_P D vwCl (wR k (ra 0) rs ++ wQ k q u xa ra ri1 (upd (upd xi 6 0) 7 0) tp rs0) _ := hP
    have hD : va_D A (wR k (ra 0) rs ++ wQ k q u xa ra ri1 (upd (upd xi 6 0) 7 0) tp rs0) := hD
    refine lv_astore_n (lv' := [(2, .ref q), (1, .int (xi 6)), (0, .ref (xa 0))]) hx hb dX0_text_24 rfl hl (by decide) rfl (fun ls hl => ?_)
    refine lv_aload_n hx hb dX0_text_25 rfl (lv_at hl 0 rfl) ?_
    obtain ⟨x2, ex2, hf⟩ := ob hf
    cases x2 with
    | inl c =>
      refine fx_excVi (As := []) (rest := []) ⟨hx, hb, hml, hown, hts⟩ (mX4_nodes_f l D k q u xa ra ri1 (upd (upd xi 6 0) 7 0) tp rs0 _ c.1 c.2 ex2) (cwV 0 hts (lw_V q388 q389 q390 q95 q391) rfl rfl rfl ⟨rfl, hdX4_nodes⟩ ⟨Nat.le_of_ble_eq_true rfl, Nat.le_of_ble_eq_true rfl⟩) hK hZ hP hD hS hA [6, 7, 8, 9, 10, 11, 12, 13, 14] rfl (by decide) [0, 1, 2, 3, 4, 5] (wr := wR k (ra 0) rs) rfl (by decide) (by decide) 6 4 rfl rfl rfl hl.1 rfl (Nat.le_of_ble_eq_true rfl) dX0_text_26 ⟨Nat.le_of_ble_eq_true rfl, Nat.le_of_ble_eq_true rfl⟩ (fun H locs q9 ce hP hD hS hc9 hv9 hcl9 => ?_)
      refine vx_catch hown [] _ _ (hexc.trans rfl) fm_n rfl (by decide) (hts _ q253) (hK.nw 23 rfl) hc9 hv9 hcl9 (hH c.1 c.2 q9 H locs hP hD hS hf ls (lv_sub hl [2] rfl))
    | inr n =>
      obtain ⟨n1, n2, n3⟩ := n
      refine wr_callV (As := []) (rest := []) ⟨hx, hb, hml, hown, hts⟩ (mX4_nodes l D k q u xa ra ri1 (upd (upd xi 6 0) 7 0) tp rs0 _ n1 n2 n3 ex2) (cwV 0 hts (lw_V q388 q389 q390 q95 q391) rfl rfl rfl ⟨rfl, hdX4_nodes⟩ ⟨Nat.le_of_ble_eq_true rfl, Nat.le_of_ble_eq_true rfl⟩) hK hP hD hS hA [6, 7, 8, 9, 10, 11, 12, 13, 14] [0, 1, 2, 3, 4, 5] (wR k (ra 0) rs ++ wQ k q u xa ra n2 (upd (upd xi 6 0) 7 0) tp n3) rfl rfl (fm_c (fm_e _ rfl rfl) (fm_c (fm_e _ rfl rfl) (fm_c (fm_e _ rfl rfl) (fm_c (fm_e _ rfl rfl) (fm_c (fm_e _ rfl rfl) (fm_c (fm_e _ rfl rfl) fm_n)))))) 15 rfl (by decide) (by decide) [ra 0 0, ra 0 1, ra 0 2, ra 0 3, ra 0 4, ra 0 5, q, xa 0, xa 2, u 0, u 1, u 2, u 3, u 4, u 5] rfl rfl 6 4 rfl rfl rfl hl.1 rfl (Nat.le_of_ble_eq_true rfl) dX0_text_26 ⟨Nat.le_of_ble_eq_true rfl, Nat.le_of_ble_eq_true rfl⟩ (fun H locs hP hD hS => ?_)
      refine lv_istore_n (lv' := [(3, .int n1), (2, .ref q), (1, .int (xi 6)), (0, .ref (xa 0))]) hx hb dX0_text_29 rfl hl (by decide) rfl (fun ls hl => ?_)
      refine lv_aload_n hx hb dX0_text_30 rfl (lv_at hl 3 rfl) ?_
      refine va_get (D := D) (cl := vwCl) (ci := 0) (v := .ref (ra 0 0)) (C := RX0) (T := TX0) (N := 15) hx hb hts in_X0 hown hK.1 hP 7 rfl rfl 0 (by decide) (hts _ q190) (fun _ h9 => h9) rfl dX0_text_31 ?_
      refine lv_aload_n hx hb dX0_text_34 rfl (lv_at hl 1 rfl) ?_
      refine va_getN (D := D) (cl := vwCl) (ci := 4) (v := .ref (u 0)) (C := RX4) (T := TX4) (N := 9) hx hb hts in_X4 hown hK.1 hP 6 rfl rfl 1 (by decide) (hK.nw 11 rfl) (fun _ h9 => h9) rfl dX0_text_35 ?_
      obtain ⟨rs2, ers2, hf⟩ := ob hf
      obtain ⟨he1, he2, he3⟩ := prod3 hf
      refine wr_callVv (As := [.ref (u 0)]) (rest := []) ⟨hx, hb, hml, hown, hts⟩ (mX1_as l D k (ra 0) u rs n3 _ rs2 ers2) (cwV 1 hts (lw_V q406 q407 q408 q91 q409) rfl rfl rfl ⟨rfl, hdX1_as⟩ ⟨Nat.le_of_ble_eq_true rfl, Nat.le_of_ble_eq_true rfl⟩) hK hP hD hS hA [0, 1, 2, 3, 4, 5, 9, 10, 11, 12, 13, 14] [6, 7, 8] (wR k (ra 0) rs2 ++ wQ k q u xa ra n2 (upd (upd xi 6 0) 7 0) tp n3) rfl rfl (fm_c (fm_e _ rfl rfl) (fm_c (fm_e _ rfl rfl) (fm_c (fm_e _ rfl rfl) fm_n))) 15 rfl (by decide) (by decide) [ra 0 0, ra 0 1, ra 0 2, ra 0 3, ra 0 4, ra 0 5, q, xa 0, xa 2, u 0, u 1, u 2, u 3, u 4, u 5] rfl rfl 0 1 rfl rfl rfl hl.1 rfl (Nat.le_of_ble_eq_true rfl) dX0_text_38 ⟨Nat.le_of_ble_eq_true rfl, Nat.le_of_ble_eq_true rfl⟩ (fun H locs hP hD hS => ?_)
      refine lv_aload_n hx hb dX0_text_41 rfl (lv_at hl 3 rfl) ?_
      refine lv_iconst (v := 0) hx hb dX0_text_42 (by decide) ?_
      refine va_put (D := D) (cl := vwCl) (ci := 0) (v := .int 0) (ty := .int) (C := RX0) (T := TX0) (N := 15) hx hb hts in_X0 tyX0 tyX0_ok nmX0 hown hK.1 hP hD hS 7 rfl rfl 2 (by decide) (hts _ q192) (fun _ h9 => h9) rfl (by decide +kernel) rfl rfl (Nat.le_of_ble_eq_true rfl) dX0_text_43 (fun H locs hP hD hS => ?_)
      have hP : va_P D vwCl (wR k (ra 0) rs2 ++ wQ k q u xa ra n2 (upd (upd (upd xi 6 0) 7 0) 0 0) tp n3) _ := hP
      have hD : va_D A (wR k (ra 0) rs2 ++ wQ k q u xa ra n2 (upd (upd (upd xi 6 0) 7 0) 0 0) tp n3) := hD
      refine lv_iload_n hx hb dX0_text_46 rfl (lv_at hl 0 rfl) ?_
      have hP9 : va_P D vwCl (wN k xa ra (upd (upd (upd xi 6 0) 7 0) 0 0) rs2 ++ [(xa 2, .inl (k 3, 160, .inl tp))]) _ := hP.sub [7, 0, 1, 2, 3, 4, 5, 8] rfl
      rw [he2, he3] at hP9
      refine W.widen (k := 8) (n := 137) (Nat.le_of_ble_eq_true rfl) (Nat.le_of_ble_eq_true rfl) ?_
      exact wr_iret hx hb hr hlk he1 hP9 hS dX0_text_47
