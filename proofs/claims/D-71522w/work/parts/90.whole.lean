/-! the law from its entry -/
set_option maxRecDepth 100000
set_option maxHeartbeats 8000000 in
theorem whole_start {p : Program} {e : Env} {s : State} {m : MethodId} {below : List Frame} {meth : Method} {c : Code} (l : Launch) (hflags : l.flags = flags0) {b L : Nat} {xs : Nat → Int32} (hL : L ≤ 120) (C0 : lw_At p s m meth c b L xs) : W p l e room_1 s m #[Value.ref b] below meth c s.heap [] 0 0 (lw_Z below #[Value.ref b] s) (entryFrame m ([Value.ref b] : List Value).toArray 4) := by
  obtain ⟨hx, hb, hr, hml, hown, ht0, hX, hbl, hlk, hg, hmr⟩ := C0
  have hst : l.stackTraces = false := by unfold Launch.stackTraces; rw [hflags]; decide +kernel
  obtain ⟨D, k, hK⟩ := lw_KK ht0 hg
  obtain ⟨A, hAd⟩ : ∃ A : Nat → Prop, A = fun q => s.heap.size ≤ q := ⟨_, rfl⟩
  have hA : ∀ q : Nat, s.heap.size ≤ q → A q := fun q h => by rw [hAd]; exact h
  have hAA : ∀ q : Nat, A q → s.heap.size ≤ q := fun q h => by rw [hAd] at h; exact h
  have hZ : ZZ A s := lw_ZZ ht0 hg (fun a h h2 => absurd (hAA a h2) (by omega))
  have hts : ∀ w ∈ lw_all, w.before #[Value.ref b] s = true := fun w h => ht0 w (lw_all_tbl h)
  have hC : LC p l s m meth c b L xs D k A := ⟨hx, hb, hml, hown, hts, hK, hZ, hA, hX, hbl, fun h => absurd (hAA b h) (by omega), hst, hL, hr, hlk⟩
  have hl := lv_entry [Value.ref b] (n := 4) (Nat.le_of_ble_eq_true rfl)
  rw [lg_entry_eq]
  generalize (lg_sl [Value.ref b] ++ List.replicate (4 - (lg_sl [Value.ref b]).length) Slot.unset).toArray = ls at hl ⊢
  have hl : lv_has ls 4 [(0, .ref b)] := hl
  have hS : va_S A s.heap s.heap [] := va_S.rf
  have hP0 : va_P D vwCl [] s.heap := fun i q h => by simp at h
  have hD0 : va_D A [] := ⟨fun i j p q h => by simp at h, fun k q h => by simp at h⟩
  refine va_new (D := D) (cl := vwCl) (ci := 0) (fs := [.null, .null, .int 0, .int 0, .int 0, .int 0, .int 0, .int 0, .null, .int 0, .int 0, .null, .null, .null, .int 0]) (C := RX0) (T := TX0) (N := 15) hx hb hts in_X0 tyX0 tyX0_ok hown (hts _ q111) (hts _ q112) (hts _ q90) hK.1 hP0 hD0 hS hA rfl (fun j hj => by rcases (show j = 0 ∨ j = 1 ∨ j = 2 ∨ j = 3 ∨ j = 4 ∨ j = 5 ∨ j = 6 ∨ j = 7 ∨ j = 8 ∨ j = 9 ∨ j = 10 ∨ j = 11 ∨ j = 12 ∨ j = 13 ∨ j = 14 by omega) with rfl | rfl | rfl | rfl | rfl | rfl | rfl | rfl | rfl | rfl | rfl | rfl | rfl | rfl | rfl <;> rfl) (Nat.le_of_ble_eq_true rfl) (Nat.le_of_ble_eq_true rfl) dL_law_0 (fun a0 H hP hD hS => ?_)
  have hP : va_P D vwCl [(a0, .inr (0, [.null, .null, .int 0, .int 0, .int 0, .int 0, .int 0, .int 0, .null, .int 0, .int 0, .null, .null, .null, .int 0]))] _ := hP
  have hD : va_D A [(a0, .inr (0, [.null, .null, .int 0, .int 0, .int 0, .int 0, .int 0, .int 0, .null, .int 0, .int 0, .null, .null, .null, .int 0]))] := hD
  refine lv_dup hx hb dL_law_3 rfl ?_
  refine wr_grow (S := (Nat → Nat) × (Nat → Nat) × (Nat → Nat → Nat)) (w1 := (fun u => wXX k u.1 u.2.1 u.2.2 (fun _ => 0) rs0s rs0 rs0 rs0 rs0 (fun _ => 0) (fun _ => .null))) (post := (fun u => u.1 0 = a0)) (va_runI (As := []) (rest := [.ref a0]) ⟨hx, hb, hml.trans rfl, hown, hts⟩ (mX0_init l D k a0 H.size) ⟨va_cB 0 hts (lw_meth q115) rfl rfl rfl (hts _ q113) (hts _ q90) hdX0_init ⟨Nat.le_of_ble_eq_true rfl, Nat.le_of_ble_eq_true rfl⟩, rfl, hts _ q114⟩ (wr_preS hK hP hD [0] rfl (by decide)) rfl rfl hl.1 rfl (lv_room (Nat.le_of_ble_eq_true rfl)) dL_law_4 ⟨Nat.le_of_ble_eq_true rfl, Nat.le_of_ble_eq_true rfl⟩) hP hD hS hA [0] [] rfl (wr := []) rfl (by decide) (by decide) (fun u H locs eu hPu hDu hSu => ?_)
  obtain ⟨xa, sa, ra⟩ := u
  clear hP hD hS hP0 hD0
  have eu : xa 0 = a0 := eu
  subst eu
  have hP : va_P D vwCl (wXX k xa sa ra (fun _ => 0) rs0s rs0 rs0 rs0 rs0 (fun _ => 0) (fun _ => .null)) _ := hPu
  have hD : va_D A (wXX k xa sa ra (fun _ => 0) rs0s rs0 rs0 rs0 rs0 (fun _ => 0) (fun _ => .null)) := hDu
  have hS := hSu; clear hPu hDu hSu
  refine lv_astore_n (lv' := [(1, .ref (xa 0)), (0, .ref b)]) hx hb dL_law_7 rfl hl (by decide) rfl (fun ls hl => ?_)
  refine va_new (D := D) (cl := vwCl) (ci := 3) (fs := [.null, .null, .null, .int 0, .int 0, .int 0, .int 0, .int 0, .int 0, .int 0, .int 0, .null, .null, .null, .null, .null, .null, .int 0]) (C := RX3) (T := TX3) (N := 18) hx hb hts in_X3 tyX3 tyX3_ok hown (hts _ q932) (hts _ q933) (hts _ q94) hK.1 hP hD hS hA rfl (fun j hj => by rcases (show j = 0 ∨ j = 1 ∨ j = 2 ∨ j = 3 ∨ j = 4 ∨ j = 5 ∨ j = 6 ∨ j = 7 ∨ j = 8 ∨ j = 9 ∨ j = 10 ∨ j = 11 ∨ j = 12 ∨ j = 13 ∨ j = 14 ∨ j = 15 ∨ j = 16 ∨ j = 17 by omega) with rfl | rfl | rfl | rfl | rfl | rfl | rfl | rfl | rfl | rfl | rfl | rfl | rfl | rfl | rfl | rfl | rfl | rfl <;> rfl) (Nat.le_of_ble_eq_true rfl) (Nat.le_of_ble_eq_true rfl) dL_law_8 (fun m0 H hP hD hS => ?_)
  have hP : va_P D vwCl ((wXX k xa sa ra (fun _ => 0) rs0s rs0 rs0 rs0 rs0 (fun _ => 0) (fun _ => .null)) ++ [(m0, .inr (3, [.null, .null, .null, .int 0, .int 0, .int 0, .int 0, .int 0, .int 0, .int 0, .int 0, .null, .null, .null, .null, .null, .null, .int 0]))]) _ := hP
  have hD : va_D A ((wXX k xa sa ra (fun _ => 0) rs0s rs0 rs0 rs0 rs0 (fun _ => 0) (fun _ => .null)) ++ [(m0, .inr (3, [.null, .null, .null, .int 0, .int 0, .int 0, .int 0, .int 0, .int 0, .int 0, .int 0, .null, .null, .null, .null, .null, .null, .int 0]))]) := hD
  refine lv_dup hx hb dL_law_11 rfl ?_
  refine wr_grow (S := Nat → Nat) (w1 := (fun u => (wM k u (fun _ => 0) (fun _ => 0) (fun _ => 0) (fun _ => 0) (fun _ => 0) (fun _ => 0) (upd (upd (fun _ => 0) 0 (vp_nar .boolean 0)) 1 (vp_nar .boolean 0)) (upd (upd (upd (upd (fun _ => 0) 0 (-4)) 1 (-4)) 2 (-4)) 3 (-4)) (upd (upd (upd (upd (fun _ => 0) 0 0) 1 0) 2 0) 3 0) (fun _ => 0)))) (post := (fun u => u 0 = m0)) (va_runI (As := []) (rest := [.ref m0]) ⟨hx, hb, hml.trans rfl, hown, hts⟩ (mX3_init l D k m0 H.size) ⟨va_cB 0 hts (lw_meth q936) rfl rfl rfl (hts _ q934) (hts _ q94) hdX3_init ⟨Nat.le_of_ble_eq_true rfl, Nat.le_of_ble_eq_true rfl⟩, rfl, hts _ q935⟩ (wr_preS hK hP hD [38] rfl (by decide)) rfl rfl hl.1 rfl (lv_room (Nat.le_of_ble_eq_true rfl)) dL_law_12 ⟨Nat.le_of_ble_eq_true rfl, Nat.le_of_ble_eq_true rfl⟩) hP hD hS hA [38] [0, 1, 2, 3, 4, 5, 6, 7, 8, 9, 10, 11, 12, 13, 14, 15, 16, 17, 18, 19, 20, 21, 22, 23, 24, 25, 26, 27, 28, 29, 30, 31, 32, 33, 34, 35, 36, 37] rfl (wr := (wXX k xa sa ra (fun _ => 0) rs0s rs0 rs0 rs0 rs0 (fun _ => 0) (fun _ => .null))) rfl (by decide) (by decide) (fun u H locs eu hPu hDu hSu => ?_)
  clear hP hD hS
  subst eu
  have hP : va_P D vwCl ((wXX k xa sa ra (fun _ => 0) rs0s rs0 rs0 rs0 rs0 (fun _ => 0) (fun _ => .null)) ++ (wM k u (fun _ => 0) (fun _ => 0) (fun _ => 0) (fun _ => 0) (fun _ => 0) (fun _ => 0) (upd (upd (fun _ => 0) 0 (vp_nar .boolean 0)) 1 (vp_nar .boolean 0)) (upd (upd (upd (upd (fun _ => 0) 0 (-4)) 1 (-4)) 2 (-4)) 3 (-4)) (upd (upd (upd (upd (fun _ => 0) 0 0) 1 0) 2 0) 3 0) (fun _ => 0))) _ := hPu
  have hD : va_D A ((wXX k xa sa ra (fun _ => 0) rs0s rs0 rs0 rs0 rs0 (fun _ => 0) (fun _ => .null)) ++ (wM k u (fun _ => 0) (fun _ => 0) (fun _ => 0) (fun _ => 0) (fun _ => 0) (fun _ => 0) (upd (upd (fun _ => 0) 0 (vp_nar .boolean 0)) 1 (vp_nar .boolean 0)) (upd (upd (upd (upd (fun _ => 0) 0 (-4)) 1 (-4)) 2 (-4)) 3 (-4)) (upd (upd (upd (upd (fun _ => 0) 0 0) 1 0) 2 0) 3 0) (fun _ => 0))) := hDu
  have hS := hSu; clear hPu hDu hSu
  refine lv_astore_n (lv' := [(2, .ref (u 0)), (1, .ref (xa 0)), (0, .ref b)]) hx hb dL_law_15 rfl hl (by decide) rfl (fun ls hl => ?_)
  refine lv_iconst (v := 0) hx hb dL_law_16 (by decide) ?_
  refine lv_istore_n (lv' := [(3, .int 0), (2, .ref (u 0)), (1, .ref (xa 0)), (0, .ref b)]) hx hb dL_law_17 rfl hl (by decide) rfl (fun ls hl => ?_)
  have hP9 : va_P D vwCl ((LA k xa sa ra u (fun _ => 0) rs0s rs0 rs0 rs0 rs0 (fun _ => 0) (fun _ => 0) (fun _ => 0) (fun _ => 0) (fun _ => 0) (fun _ => 0) (fun _ => 0) (upd (upd (fun _ => 0) 0 (vp_nar .boolean 0)) 1 (vp_nar .boolean 0)) (upd (upd (upd (upd (fun _ => 0) 0 (-4)) 1 (-4)) 2 (-4)) 3 (-4)) (upd (upd (upd (upd (fun _ => 0) 0 0) 1 0) 2 0) 3 0) (fun _ => 0)) ++ [(sa 0, .inr (2, [.null])), (sa 1, .inr (2, [.null])), (sa 2, .inr (2, [.null])), (sa 3, .inr (2, [.null]))]) _ := hP.sub [0, 1, 2, 3, 4, 5, 6, 7, 8, 9, 10, 11, 12, 13, 14, 15, 16, 17, 18, 19, 20, 21, 22, 23, 24, 25, 26, 27, 28, 29, 30, 31, 32, 33, 38, 39, 40, 41, 42, 43, 44, 45, 46, 47, 34, 35, 36, 37] rfl
  have hD9 : va_D A ((LA k xa sa ra u (fun _ => 0) rs0s rs0 rs0 rs0 rs0 (fun _ => 0) (fun _ => 0) (fun _ => 0) (fun _ => 0) (fun _ => 0) (fun _ => 0) (fun _ => 0) (upd (upd (fun _ => 0) 0 (vp_nar .boolean 0)) 1 (vp_nar .boolean 0)) (upd (upd (upd (upd (fun _ => 0) 0 (-4)) 1 (-4)) 2 (-4)) 3 (-4)) (upd (upd (upd (upd (fun _ => 0) 0 0) 1 0) 2 0) 3 0) (fun _ => 0)) ++ [(sa 0, .inr (2, [.null])), (sa 1, .inr (2, [.null])), (sa 2, .inr (2, [.null])), (sa 3, .inr (2, [.null]))]) := hD.sub [0, 1, 2, 3, 4, 5, 6, 7, 8, 9, 10, 11, 12, 13, 14, 15, 16, 17, 18, 19, 20, 21, 22, 23, 24, 25, 26, 27, 28, 29, 30, 31, 32, 33, 38, 39, 40, 41, 42, 43, 44, 45, 46, 47, 34, 35, 36, 37] (by decide) rfl
  have hLT : (LT k sa (fun _ => 0) (fun _ => 0) (fun _ => 0) (fun _ _ => 0) (fun _ _ => 0)) = [(sa 0, .inr (2, [.null])), (sa 1, .inr (2, [.null])), (sa 2, .inr (2, [.null])), (sa 3, .inr (2, [.null]))] := rfl
  rw [← hLT] at hP9 hD9
  refine W.widen (k := 100 + 9 * 0) (n := 3000 + 300 * 0) (Nat.le_of_ble_eq_true rfl) (Nat.le_of_ble_eq_true rfl) ?_
  exact lw_loop hC hAA 120 0 (fun _ => 0) rs0s rs0 rs0 rs0 rs0 (fun _ => 0) (fun _ => 0) (fun _ => 0) (fun _ => 0) (fun _ _ => 0) (fun _ _ => 0) (fun _ => 0) (fun _ => 0) (fun _ => 0) (fun _ => 0) (fun _ => 0) (fun _ => 0) (upd (upd (fun _ => 0) 0 (vp_nar .boolean 0)) 1 (vp_nar .boolean 0)) (upd (upd (upd (upd (fun _ => 0) 0 (-4)) 1 (-4)) 2 (-4)) 3 (-4)) (upd (upd (upd (upd (fun _ => 0) 0 0) 1 0) 2 0) 3 0) (fun _ => 0) _ _ ls (by omega) (by omega) (lv_sub hl [3, 2, 1, 0] rfl) ⟨hP9, hD9⟩ hS rel_init
