/-! THE LAW'S WORLD -/
set_option maxRecDepth 100000
abbrev LA (k : Nat → ClassId) (xa sa : Nat → Nat) (ra : Nat → Nat → Nat) (ma : Nat → Nat) (xi : Nat → Int32) (rs r0 r1 rc rt : RS) (tp : Nat → Int32) (mi st rp tm cr cw ik ln lg : Nat → Int32) (ce : Nat → Int64) : va_W := wN k xa ra xi rs ++ (imA k xa ra :: (wR k (ra 1) r0 ++ (wR k (ra 2) r1 ++ (wR k (ra 3) rc ++ (wR k (ra 4) rt ++ ((xa 2, .inl (k 3, 160, .inl tp)) :: (xa 3, .inl (k 6, 4, .inr (.inr (.inr (.inr (fun i => some (sa i))))))) :: wM k ma mi st rp tm cr cw ik ln lg ce))))))
def sV (kd qa : Nat → Nat) (j : Nat) : Value := if kd j = 0 then .null else .ref (qa j)
def sO (sa kd qa : Nat → Nat) (j : Nat) : Nat × va_E := (sa j, .inr (2, [sV kd qa j]))
def sE (k : Nat → ClassId) (kd qa sn : Nat → Nat) (sf : Nat → Nat → Int32) (sg : Nat → Nat → Int64) (j : Nat) : Option (Nat × va_E) := match kd j with
  | 0 => none
  | 1 => some (qa j, .inl (k 3, sn j, .inl (sf j)))
  | 2 => some (qa j, .inl (k 1, sn j, .inl (sf j)))
  | _ => some (qa j, .inl (k 0, sn j, .inr (.inl (sg j))))
def L4 : List Nat := [0, 1, 2, 3]
def LR (k : Nat → ClassId) (sa kd qa sn : Nat → Nat) (sf : Nat → Nat → Int32) (sg : Nat → Nat → Int64) (js : List Nat) : va_W := js.map (sO sa kd qa) ++ js.filterMap (sE k kd qa sn sf sg)
abbrev LT (k : Nat → ClassId) (sa kd qa sn : Nat → Nat) (sf : Nat → Nat → Int32) (sg : Nat → Nat → Int64) : va_W := LR k sa kd qa sn sf sg L4
theorem L4_perm {j : Nat} (hj : j < 4) : L4.Perm (j :: L4.erase j) := List.perm_cons_erase (by unfold L4; simp; omega)
theorem L4_off {j i : Nat} (hi : i ∈ L4.erase j) : i ≠ j := fun e => by
  subst e
  exact (List.Nodup.not_mem_erase (by unfold L4; decide)) hi
theorem LR_perm {k : Nat → ClassId} {sa kd qa sn : Nat → Nat} {sf : Nat → Nat → Int32} {sg : Nat → Nat → Int64} {js js' : List Nat} (h : js.Perm js') : (LR k sa kd qa sn sf sg js).Perm (LR k sa kd qa sn sf sg js') := (h.map _).append (h.filterMap _)
theorem fmap_congr {α β : Type} {f g : α → Option β} {l : List α} (h : ∀ x ∈ l, f x = g x) : l.filterMap f = l.filterMap g := by
  induction l with
  | nil => rfl
  | cons a t ih => rw [List.filterMap_cons, List.filterMap_cons, h a List.mem_cons_self, ih (fun x hx => h x (List.mem_cons_of_mem _ hx))]
theorem LR_congr {k : Nat → ClassId} {sa kd qa sn kd' qa' sn' : Nat → Nat} {sf sf' : Nat → Nat → Int32} {sg sg' : Nat → Nat → Int64} {js : List Nat} (h : ∀ i ∈ js, kd' i = kd i ∧ qa' i = qa i ∧ sn' i = sn i ∧ sf' i = sf i ∧ sg' i = sg i) : LR k sa kd' qa' sn' sf' sg' js = LR k sa kd qa sn sf sg js := by
  unfold LR
  congr 1
  · apply List.map_congr_left
    intro i hi
    obtain ⟨h1, h2, -⟩ := h i hi
    unfold sO sV; rw [h1, h2]
  · apply fmap_congr
    intro i hi
    obtain ⟨h1, h2, h3, h4, h5⟩ := h i hi
    unfold sE; rw [h1, h2, h3, h4, h5]
/-- sheet j (and its array) at the end of the static part -/
theorem LT_0 {k : Nat → ClassId} {sa kd qa sn : Nat → Nat} {sf : Nat → Nat → Int32} {sg : Nat → Nat → Int64} {w : va_W} {j : Nat} (hj : j < 4) (h : sE k kd qa sn sf sg j = none) : (w ++ LT k sa kd qa sn sf sg).Perm ((w ++ [sO sa kd qa j]) ++ LR k sa kd qa sn sf sg (L4.erase j)) := by
  rw [List.append_assoc]
  refine List.Perm.append_left w ((LR_perm (L4_perm hj)).trans ?_)
  unfold LR
  rw [List.map_cons, List.filterMap_cons, h]
  exact List.Perm.refl _
theorem LT_1 {k : Nat → ClassId} {sa kd qa sn : Nat → Nat} {sf : Nat → Nat → Int32} {sg : Nat → Nat → Int64} {w : va_W} {j : Nat} {e : Nat × va_E} (hj : j < 4) (h : sE k kd qa sn sf sg j = some e) : (w ++ LT k sa kd qa sn sf sg).Perm ((w ++ [sO sa kd qa j, e]) ++ LR k sa kd qa sn sf sg (L4.erase j)) := by
  rw [List.append_assoc]
  refine List.Perm.append_left w ((LR_perm (L4_perm hj)).trans ?_)
  unfold LR
  rw [List.map_cons, List.filterMap_cons, h]
  refine List.Perm.cons _ ?_
  exact List.perm_middle.trans (List.Perm.refl _)
theorem sO_0 {sa kd qa : Nat → Nat} {j : Nat} (h : kd j = 0) : sO sa kd qa j = (sa j, .inr (2, [.null])) := by unfold sO sV; rw [if_pos h]
theorem sO_1 {sa kd qa : Nat → Nat} {j : Nat} (h : kd j ≠ 0) : sO sa kd qa j = (sa j, .inr (2, [.ref (qa j)])) := by unfold sO sV; rw [if_neg h]
/-- what the law's rows stand on -/
def LC (p : Program) (l : Launch) (s : State) (m : MethodId) (meth : Method) (c : Code) (b L : Nat) (xs : Nat → Int32) (D : va_G) (k : Nat → ClassId) (A : Nat → Prop) : Prop :=
  p.tables.exec = Jvm.exec ∧ c.code = code ∧ c.maxLocals = 4 ∧ s.vm.findClass "ExcessTreeLaw" = some m.cls ∧ (∀ w ∈ lw_all, w.before #[Value.ref b] s = true) ∧ KK D k s ∧ ZZ A s ∧ (∀ q : Nat, s.heap.size ≤ q → A q) ∧ va_X b L xs s s.heap ∧ b < s.heap.size ∧ ¬ A b ∧ l.stackTraces = false ∧ L ≤ 120 ∧ meth.sig.returnType = ret ∧ meth.locks = false
abbrev LL (ls : Array Slot) (b x m i : Nat) : Prop := lv_has ls 4 [(0, .ref b), (1, .ref x), (2, .ref m), (3, .int (nI i))]
section LW
variable {p : Program} {l : Launch} {e : Env} {R : Room} {s : State} {m : MethodId} {below : List Frame} {meth : Method} {c : Code} {H : Heap} {locs : List Loc} {cells slots : Nat} {Q : State → Prop}
variable {pc : Nat} {ls : Array Slot} {rest : List Value} {D : va_G} {k : Nat → ClassId} {A : Nat → Prop} {b L : Nat} {xs : Nat → Int32} {x0 m0 i : Nat}
theorem lw_arg (C : LC p l s m meth c b L xs D k A) (hl : LL ls b x0 m0 i) (hi : i + 5 ≤ L) (hS : va_S A s.heap H locs) (j : Nat) {n : Int} (hj : j < 5) (hn : Int32.ofInt n = nI j) (d0 : decode code pc = .ok (.aload_n 0, 1)) (d1 : decode code (pc + 1) = .ok (.iload_n 3, 1)) (d2 : decode code (pc + 2) = .ok (.iconst n, 1)) (d3 : decode code (pc + 3) = .ok (.iadd, 1)) (d4 : decode code (pc + 4) = .ok (.iaload, 1))
    (kk : W p l e R s m #[Value.ref b] below meth c H locs cells slots Q (F0 m (pc + 5) ls (.int (xs (i + j)) :: rest))) : W p l e R s m #[Value.ref b] below meth c H locs cells slots Q (F0 m pc ls rest) := by
  obtain ⟨hx, hb, hml, hown, hts, hK, hZ, hA, hX, hbl, hbA, hst, hL, hr, hlk⟩ := C
  refine lv_aload_n hx hb d0 rfl (lv_at hl 0 rfl) ?_
  refine lv_iload_n hx hb d1 rfl (lv_at hl 3 rfl) ?_
  refine lv_iconst (v := nI j) hx hb d2 hn ?_
  refine lv_iadd hx hb d3 ?_
  rw [nI_add]
  refine va_sld hx hb hX hbl hbA hS (i := nI (i + j)) (nI_in (by omega) (by omega)) d4 ?_
  rw [nI_clamp (by omega)]
  exact kk
end LW
theorem lg_cmp_self (x : Int64) : lg_cmp x x = 0 := by
  unfold lg_cmp
  rw [if_neg (by simp), if_pos rfl]
