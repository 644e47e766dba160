/-! THE START: what the words of the tables give -/
set_option maxRecDepth 100000
theorem arr_prim {s : State} {ty : FieldType} {args : Array Value} (h : (Cond.arrayClass ty).before args s = true) (hp : ∀ C, ty ≠ .object C) : ∃ c : ClassId, ArrOfT s c ty ∧ va_RA s c ty := by
  obtain ⟨c, k, comp, h1, h2, h3⟩ := Cond.arrayClass_spec h
  refine ⟨c, fun n z => ⟨fun k h => ?_, k, h2, comp, h3⟩, ?_⟩
  · cases h
  · cases ty <;> first | exact h1 | exact absurd rfl (hp _)
theorem arr_obj {s : State} {C : String} {args : Array Value} (h : (Cond.arrayOver (.object C)).before args s = true) : ∃ c : ClassId, ArrOfT s c (.object C) ∧ va_RA s c (.object C) := by
  obtain ⟨comp, c, k, h1, h2, h3, h4, h5⟩ := Cond.arrayOver_spec h
  exact ⟨c, fun n z => ⟨fun k h => (by cases h), k, h3, comp, h4⟩, k, comp, h3, h4, h1, h5⟩
theorem lw_KK {s : State} {b : Nat} (ht0 : ∀ w ∈ lw_tbl, w.before #[Value.ref b] s = true) (hg : (Jvm.Cond.and given_1 narrow_1).before #[Value.ref b] s = true) : ∃ (D : va_G) (k : Nat → ClassId), KK D k s := by
  have hs := flat_of_before _ hg
  obtain ⟨c0, i0, k0⟩ := u_known (C := RX0) (T := TX0) (N := 15) (n := 15) ht0 (fun w h => lw_all_tbl (in_X0 w h)) (ht0 _ (lw_all_tbl q112))
  obtain ⟨c1, i1, k1⟩ := u_known (C := RX1) (T := TX1) (N := 6) (n := 6) ht0 (fun w h => lw_all_tbl (in_X1 w h)) (ht0 _ (lw_all_tbl q120))
  obtain ⟨c2, i2, k2⟩ := u_known (C := RX2) (T := TX2) (N := 1) (n := 1) ht0 (fun w h => lw_all_tbl (in_X2 w h)) (ht0 _ (lw_all_tbl q158))
  obtain ⟨c3, i3, k3⟩ := u_known (C := RX3) (T := TX3) (N := 18) (n := 18) ht0 (fun w h => lw_all_tbl (in_X3 w h)) (ht0 _ (lw_all_tbl q933))
  obtain ⟨c4, i4, k4⟩ := u_known (C := RX4) (T := TX4) (N := 9) (n := 9) ht0 (fun w h => lw_all_tbl (in_X4 w h)) (ht0 _ (lw_all_tbl q255))
  obtain ⟨c5, i5, k5⟩ := u_known (C := RX5) (T := TX5) (N := 8) (n := 8) ht0 (fun w h => lw_all_tbl (in_X5 w h)) (ht0 _ (lw_all_tbl q275))
  obtain ⟨a0, p0, r0⟩ := arr_prim (ht0 _ (lw_all_tbl q152)) (fun C h => by cases h)
  obtain ⟨a1, p1, r1⟩ := arr_prim (ht0 _ (lw_all_tbl q153)) (fun C h => by cases h)
  obtain ⟨a2, p2, r2⟩ := arr_prim (ht0 _ (lw_all_tbl q154)) (fun C h => by cases h)
  obtain ⟨a3, p3, r3⟩ := arr_prim (ht0 _ (lw_all_tbl q167)) (fun C h => by cases h)
  obtain ⟨a4, p4, r4⟩ := arr_prim (ht0 _ (lw_all_tbl q993)) (fun C h => by cases h)
  obtain ⟨a5, p5, r5⟩ := arr_obj (ht0 _ q155)
  obtain ⟨a6, p6, r6⟩ := arr_obj (ht0 _ q157)
  refine ⟨(fun n => match n with | 0 => c0 | 1 => c1 | 2 => c2 | 3 => c3 | 4 => c4 | _ => c5, fun n => match n with | 0 => i0 | 1 => i1 | 2 => i2 | 3 => i3 | 4 => i4 | _ => i5), (fun n => match n with | 0 => a0 | 1 => a1 | 2 => a2 | 3 => a3 | 4 => a4 | 5 => a5 | _ => a6), ⟨fun n q hq => ?_, fun n q hq => ?_⟩, fun w hw => ?_, fun q hq => ?_, va_AO.of (ht0 _ q155), va_AO.of (ht0 _ q157)⟩
  · match n, hq with
    | 0, hq => cases hq; exact k0
    | 1, hq => cases hq; exact k1
    | 2, hq => cases hq; exact k2
    | 3, hq => cases hq; exact k3
    | 4, hq => cases hq; exact k4
    | 5, hq => cases hq; exact k5
    | n + 6, hq => simp [vwCl] at hq
  · match n, hq with
    | 0, hq => cases hq; exact ⟨p0, r0⟩
    | 1, hq => cases hq; exact ⟨p1, r1⟩
    | 2, hq => cases hq; exact ⟨p2, r2⟩
    | 3, hq => cases hq; exact ⟨p3, r3⟩
    | 4, hq => cases hq; exact ⟨p4, r4⟩
    | 5, hq => cases hq; exact ⟨p5, r5⟩
    | 6, hq => cases hq; exact ⟨p6, r6⟩
    | n + 7, hq => simp [tysA] at hq
  · refine va_Nw.of (nwL_tabs w hw) (ht0 w ?_)
    have h : nwL.all (fun w => decide (w ∈ lw_tbl)) = true := by decide +kernel
    exact of_decide_eq_true (List.all_eq_true.mp h w hw)
  · refine va_Nc.of (args := #[Value.ref b]) (hs _ ?_)
    have h : ncL.all (fun q => decide (Cond.not (.castable q.1 q.2) ∈ flatC (Jvm.Cond.and given_1 narrow_1))) = true := by decide +kernel
    exact of_decide_eq_true (List.all_eq_true.mp h q hq)
theorem lw_ZZ {s : State} {b : Nat} {A : Nat → Prop} (ht0 : ∀ w ∈ lw_tbl, w.before #[Value.ref b] s = true) (hg : (Jvm.Cond.and given_1 narrow_1).before #[Value.ref b] s = true) (hA : ∀ a : Nat, a < s.heap.size → ¬ A a) : ZZ A s := by
  have hs := flat_of_before _ hg
  refine ⟨vx_Zqof (args := #[Value.ref b]) (ht0 _ q299) (ht0 _ (lw_all_tbl q96)) (hs _ (by decide +kernel)) hA, vx_Zqof (args := #[Value.ref b]) (ht0 _ q301) (ht0 _ (lw_all_tbl q96)) (hs _ (by decide +kernel)) hA, ?_⟩
  have h1 : (Cond.exactly (.string "java/lang/Math" 111) "java/lang/String").before #[Value.ref b] s = true := hs _ (by decide +kernel)
  obtain ⟨a, c9, cell9, k9, h2, -⟩ := Cond.exactly_spec h1
  refine ⟨a, vk_R.of (A := #[Value.ref b]) (ht0 _ q707) h2⟩
