/-! THE LAW'S WORLD split at a sheet, and put together -/
set_option maxRecDepth 100000
section SP
variable {D : va_G} {A : Nat → Prop} {H : Heap} {k : Nat → ClassId} {sa kd qa sn : Nat → Nat} {sf : Nat → Nat → Int32} {sg : Nat → Nat → Int64} {w : va_W} {j : Nat}
/-- a world and its addresses -/
def PD (D : va_G) (A : Nat → Prop) (w : va_W) (H : Heap) : Prop := va_P D vwCl w H ∧ va_D A w
theorem PD.perm {w w' : va_W} (h : PD D A w H) (p : w.Perm w') : PD D A w' H := ⟨va_P_perm h.1 p, va_D_perm h.2 p⟩
theorem PD.drop {w w' : va_W} {e : Nat × va_E} (h : PD D A (w ++ e :: w') H) : PD D A (w ++ w') H := by
  refine ⟨fun i q hq => ?_, ?_⟩
  · obtain ⟨n, hn⟩ := List.getElem?_of_mem (show q ∈ w ++ e :: w' by
      rcases List.mem_append.mp (List.mem_of_getElem? hq) with h | h
      · exact List.mem_append_left _ h
      · exact List.mem_append_right _ (List.mem_cons_of_mem _ h))
    exact h.1 n q hn
  · have h2 := h.2
    rw [va_D_nodup] at h2 ⊢
    have hs : (w ++ w').Sublist (w ++ e :: w') := (List.Sublist.refl w).append (List.sublist_cons_self e w')
    exact ⟨h2.1.sublist (hs.map _), fun q hq => h2.2 q (hs.mem hq)⟩
theorem sE_0 (h : kd j = 0) : sE k kd qa sn sf sg j = none := by unfold sE; rw [h]; rfl
theorem sE_1 (h : kd j = 1) : sE k kd qa sn sf sg j = some (qa j, .inl (k 3, sn j, .inl (sf j))) := by unfold sE; rw [h]; rfl
theorem sE_2 (h : kd j = 2) : sE k kd qa sn sf sg j = some (qa j, .inl (k 1, sn j, .inl (sf j))) := by unfold sE; rw [h]; rfl
theorem sE_3 (h : kd j = 3) : sE k kd qa sn sf sg j = some (qa j, .inl (k 0, sn j, .inr (.inl (sg j)))) := by unfold sE; rw [h]; rfl
theorem PD.to0 (h : PD D A (w ++ LT k sa kd qa sn sf sg) H) (hj : j < 4) (h0 : kd j = 0) : PD D A ((w ++ [(sa j, .inr (2, [.null]))]) ++ LR k sa kd qa sn sf sg (L4.erase j)) H := by
  have h2 := h.perm (LT_0 hj (sE_0 h0))
  rw [sO_0 h0] at h2; exact h2
theorem PD.of0 (h : PD D A ((w ++ [(sa j, .inr (2, [.null]))]) ++ LR k sa kd qa sn sf sg (L4.erase j)) H) (hj : j < 4) (h0 : kd j = 0) : PD D A (w ++ LT k sa kd qa sn sf sg) H := by
  have h2 := LT_0 (k := k) (sa := sa) (kd := kd) (qa := qa) (sn := sn) (sf := sf) (sg := sg) (w := w) hj (sE_0 h0)
  rw [sO_0 h0] at h2; exact h.perm h2.symm
theorem PD.toE {e : Nat × va_E} (h : PD D A (w ++ LT k sa kd qa sn sf sg) H) (hj : j < 4) (h0 : kd j ≠ 0) (he : sE k kd qa sn sf sg j = some e) : PD D A ((w ++ [(sa j, .inr (2, [.ref (qa j)])), e]) ++ LR k sa kd qa sn sf sg (L4.erase j)) H := by
  have h2 := h.perm (LT_1 hj he)
  rw [sO_1 h0] at h2; exact h2
theorem PD.ofE {e : Nat × va_E} (h : PD D A ((w ++ [(sa j, .inr (2, [.ref (qa j)])), e]) ++ LR k sa kd qa sn sf sg (L4.erase j)) H) (hj : j < 4) (h0 : kd j ≠ 0) (he : sE k kd qa sn sf sg j = some e) : PD D A (w ++ LT k sa kd qa sn sf sg) H := by
  have h2 := LT_1 (k := k) (sa := sa) (kd := kd) (qa := qa) (sn := sn) (sf := sf) (sg := sg) (w := w) hj he
  rw [sO_1 h0] at h2; exact h.perm h2.symm
/-- the other sheets see nothing of sheet j -/
theorem LR_upd {kd' qa' sn' : Nat → Nat} {sf' : Nat → Nat → Int32} {sg' : Nat → Nat → Int64} (h : ∀ i, i ≠ j → kd' i = kd i ∧ qa' i = qa i ∧ sn' i = sn i ∧ sf' i = sf i ∧ sg' i = sg i) : LR k sa kd' qa' sn' sf' sg' (L4.erase j) = LR k sa kd qa sn sf sg (L4.erase j) := LR_congr (fun i hi => h i (L4_off hi))
theorem PD.ofU {e : Nat × va_E} {kd' qa' sn' : Nat → Nat} {sf' : Nat → Nat → Int32} {sg' : Nat → Nat → Int64} {q : Nat} (h : PD D A ((w ++ [(sa j, .inr (2, [.ref q])), e]) ++ LR k sa kd qa sn sf sg (L4.erase j)) H) (hj : j < 4) (hq : qa' j = q) (h0 : kd' j ≠ 0) (he : sE k kd' qa' sn' sf' sg' j = some e) (ho : ∀ i, i ≠ j → kd' i = kd i ∧ qa' i = qa i ∧ sn' i = sn i ∧ sf' i = sf i ∧ sg' i = sg i) : PD D A (w ++ LT k sa kd' qa' sn' sf' sg') H := by
  subst hq
  rw [← LR_upd (k := k) (sa := sa) ho] at h
  exact h.ofE hj h0 he
/-- sheet j's object at the end of the static part, whatever it holds -/
theorem PD.toV (h : PD D A (w ++ LT k sa kd qa sn sf sg) H) (hj : j < 4) : PD D A ((w ++ [(sa j, .inr (2, [sV kd qa j]))]) ++ ((sE k kd qa sn sf sg j).toList ++ LR k sa kd qa sn sf sg (L4.erase j))) H := by
  cases he : sE k kd qa sn sf sg j with
  | none => exact h.perm (LT_0 hj he)
  | some e =>
    have h2 := h.perm (LT_1 hj he)
    rw [List.append_assoc] at h2 ⊢
    exact h2
theorem PD.ofV (h : PD D A ((w ++ [(sa j, .inr (2, [sV kd qa j]))]) ++ ((sE k kd qa sn sf sg j).toList ++ LR k sa kd qa sn sf sg (L4.erase j))) H) (hj : j < 4) : PD D A (w ++ LT k sa kd qa sn sf sg) H := by
  cases he : sE k kd qa sn sf sg j with
  | none => rw [he] at h; exact h.perm (LT_0 hj he).symm
  | some e =>
    rw [he] at h
    refine PD.perm ?_ (LT_1 hj he).symm
    rw [List.append_assoc] at h ⊢
    exact h
theorem PD.dropV {u : va_W} {o : Option (Nat × va_E)} {v : va_W} (h : PD D A (u ++ (o.toList ++ v)) H) : PD D A (u ++ v) H := by
  cases o with
  | none => exact h
  | some e => exact PD.drop (w := u) (e := e) h
end SP
