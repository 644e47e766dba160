/-! PRELUDE: worlds of the two classes, contracts of readers and writers, rows that read a decompiled function off -/
set_option maxRecDepth 100000
-- ===== options
theorem ob {α β : Type} {o : Option α} {K : α → Option β} {r : β} (h : o.bind K = some r) : ∃ v, o = some v ∧ K v = some r := by
  cases o with
  | none => cases h
  | some v => exact ⟨v, rfl, h⟩
theorem oi_t {β : Type} {c : Prop} [Decidable c] {A B : Option β} {r : β} (hc : c) (h : (if c then A else B) = some r) : A = some r := by rw [if_pos hc] at h; exact h
theorem oi_f {β : Type} {c : Prop} [Decidable c] {A B : Option β} {r : β} (hc : ¬ c) (h : (if c then A else B) = some r) : B = some r := by rw [if_neg hc] at h; exact h
theorem on {α : Type} {r : α} {P : Prop} (h : (none : Option α) = some r) : P := by cases h
-- ===== arrays
def rdI (n : Nat) (f : Nat → Int32) (i : Int32) : Option Int32 := if i < 0 ∨ n ≤ i.toNatClampNeg then none else some (f i.toNatClampNeg)
def rdL (n : Nat) (f : Nat → Int64) (i : Int32) : Option Int64 := if i < 0 ∨ n ≤ i.toNatClampNeg then none else some (f i.toNatClampNeg)
def wrI (n : Nat) (f : Nat → Int32) (i x : Int32) : Option (Nat → Int32) := if i < 0 ∨ n ≤ i.toNatClampNeg then none else some (upd f i.toNatClampNeg x)
def wrL (n : Nat) (f : Nat → Int64) (i : Int32) (x : Int64) : Option (Nat → Int64) := if i < 0 ∨ n ≤ i.toNatClampNeg then none else some (vp_updL f i.toNatClampNeg x)
theorem rdI_s {n : Nat} {f : Nat → Int32} {i v : Int32} (h : rdI n f i = some v) : vp_in i n ∧ f i.toNatClampNeg = v := by
  unfold rdI at h
  by_cases hc : i < 0 ∨ n ≤ i.toNatClampNeg
  · rw [if_pos hc] at h; cases h
  · rw [if_neg hc] at h; exact ⟨hc, Option.some.inj h⟩
theorem rdL_s {n : Nat} {f : Nat → Int64} {i : Int32} {v : Int64} (h : rdL n f i = some v) : vp_in i n ∧ f i.toNatClampNeg = v := by
  unfold rdL at h
  by_cases hc : i < 0 ∨ n ≤ i.toNatClampNeg
  · rw [if_pos hc] at h; cases h
  · rw [if_neg hc] at h; exact ⟨hc, Option.some.inj h⟩
theorem wrI_s {n : Nat} {f g : Nat → Int32} {i x : Int32} (h : wrI n f i x = some g) : vp_in i n ∧ upd f i.toNatClampNeg x = g := by
  unfold wrI at h
  by_cases hc : i < 0 ∨ n ≤ i.toNatClampNeg
  · rw [if_pos hc] at h; cases h
  · rw [if_neg hc] at h; exact ⟨hc, Option.some.inj h⟩
theorem wrL_s {n : Nat} {f g : Nat → Int64} {i : Int32} {x : Int64} (h : wrL n f i x = some g) : vp_in i n ∧ vp_updL f i.toNatClampNeg x = g := by
  unfold wrL at h
  by_cases hc : i < 0 ∨ n ≤ i.toNatClampNeg
  · rw [if_pos hc] at h; cases h
  · rw [if_neg hc] at h; exact ⟨hc, Option.some.inj h⟩
def zb (x : Int32) : Prop := x = 0 ∨ x = 1
theorem zb_n {x : Int32} (h : zb x) : narrow .boolean (.int x) = .int x := by rcases h with rfl | rfl <;> rfl
def FU : Nat := 1000
def max32 (x y : Int32) : Int32 := if x < y then y else x
def min32 (x y : Int32) : Int32 := if y < x then y else x
theorem on_z {β : Type} {x : Int32} {B : Option β} {r : β} (h : (if x = 0 then none else B) = some r) : ¬ x = 0 := by
  intro hc; rw [if_pos hc] at h; cases h
theorem on_zL {β : Type} {x : Int64} {B : Option β} {r : β} (h : (if x = 0 then none else B) = some r) : ¬ x = 0 := by
  intro hc; rw [if_pos hc] at h; cases h
-- ===== switches
theorem tb_out (n : Nat) {x : Int32} (h : ∀ j : Nat, j < n → ¬ x = nI j) : x.toInt < 0 ∨ (n : Int) - 1 < x.toInt := by
  by_cases h0 : x < 0
  · left; exact Int32.lt_iff_toInt_lt.mp h0
  · obtain ⟨j, hj, rfl⟩ := nI_of h0
    right
    rw [nI_toInt hj]
    by_cases hjn : j < n
    · exact absurd rfl (h j hjn)
    · omega
theorem tb_out4 {x : Int32} (h0 : ¬ x = 0) (h1 : ¬ x = 1) (h2 : ¬ x = 2) (h3 : ¬ x = 3) : x.toInt < 0 ∨ 3 < x.toInt := by
  have h := tb_out 4 (x := x) (fun j hj => match j, hj with
    | 0, _ => h0
    | 1, _ => h1
    | 2, _ => h2
    | 3, _ => h3
    | j + 4, hj => absurd hj (by omega))
  rcases h with h | h
  · exact Or.inl h
  · right; exact h
theorem tb_out5 {x : Int32} (h0 : ¬ x = 0) (h1 : ¬ x = 1) (h2 : ¬ x = 2) (h3 : ¬ x = 3) (h4 : ¬ x = 4) : x.toInt < 0 ∨ 4 < x.toInt := by
  have h := tb_out 5 (x := x) (fun j hj => match j, hj with
    | 0, _ => h0
    | 1, _ => h1
    | 2, _ => h2
    | 3, _ => h3
    | 4, _ => h4
    | j + 5, hj => absurd hj (by omega))
  rcases h with h | h
  · exact Or.inl h
  · right; exact h
theorem tb_out14 {x : Int32} (h0 : ¬ x = 0) (h1 : ¬ x = 1) (h2 : ¬ x = 2) (h3 : ¬ x = 3) (h4 : ¬ x = 4) (h5 : ¬ x = 5) (h6 : ¬ x = 6) (h7 : ¬ x = 7) (h8 : ¬ x = 8) (h9 : ¬ x = 9) (h10 : ¬ x = 10) (h11 : ¬ x = 11) (h12 : ¬ x = 12) (h13 : ¬ x = 13) : x.toInt < 0 ∨ 13 < x.toInt := by
  have h := tb_out 14 (x := x) (fun j hj => match j, hj with
    | 0, _ => h0
    | 1, _ => h1
    | 2, _ => h2
    | 3, _ => h3
    | 4, _ => h4
    | 5, _ => h5
    | 6, _ => h6
    | 7, _ => h7
    | 8, _ => h8
    | 9, _ => h9
    | 10, _ => h10
    | 11, _ => h11
    | 12, _ => h12
    | 13, _ => h13
    | j + 14, hj => absurd hj (by omega))
  rcases h with h | h
  · exact Or.inl h
  · right; exact h
-- ===== the state of a row: words, places, weights, gain, low, high
abbrev RS : Type := (Nat → Int64) × Int32 × (Nat → Int32) × (Nat → Int32) × (Nat → Int32) × (Nat → Int32)
def rW (r : RS) : Nat → Int64 := r.1
def rP (r : RS) : Int32 := r.2.1
def rT (r : RS) : Nat → Int32 := r.2.2.1
def rG (r : RS) : Nat → Int32 := r.2.2.2.1
def rL (r : RS) : Nat → Int32 := r.2.2.2.2.1
def rH (r : RS) : Nat → Int32 := r.2.2.2.2.2
def rsW (r : RS) (x : Nat → Int64) : RS := (x, rP r, rT r, rG r, rL r, rH r)
def rsP (r : RS) (x : Int32) : RS := (rW r, x, rT r, rG r, rL r, rH r)
def rsT (r : RS) (x : Nat → Int32) : RS := (rW r, rP r, x, rG r, rL r, rH r)
def rsG (r : RS) (x : Nat → Int32) : RS := (rW r, rP r, rT r, x, rL r, rH r)
def rsL (r : RS) (x : Nat → Int32) : RS := (rW r, rP r, rT r, rG r, x, rH r)
def rsH (r : RS) (x : Nat → Int32) : RS := (rW r, rP r, rT r, rG r, rL r, x)
-- ===== worlds
abbrev vwCl : List vw_C := [(RX0, TX0, 15), (RX1, TX1, 6), (RX2, TX2, 1), (RX3, TX3, 18), (RX4, TX4, 9), (RX5, TX5, 8)]
abbrev tysA (k : Nat → ClassId) : List (ClassId × FieldType) := [(k 0, .long), (k 1, .int), (k 2, .short), (k 3, .byte), (k 4, .boolean), (k 5, .object RX1), (k 6, .object RX2)]
/-- a row -/
abbrev wR (k : Nat → ClassId) (a : Nat → Nat) (r : RS) : va_W := [(a 0, .inr (1, [.ref (a 1), .int (rP r), .ref (a 2), .ref (a 3), .ref (a 4), .ref (a 5)])), (a 1, .inl (k 0, 2, .inr (.inl (rW r)))), (a 2, .inl (k 1, 64, .inl (rT r))), (a 3, .inl (k 2, 16, .inl (rG r))), (a 4, .inl (k 2, 16, .inl (rL r))), (a 5, .inl (k 2, 16, .inl (rH r)))]
/-- the tree's own object: xa 0 its cell, 1 images, 2 tape, 3 sheets; ra 0 now, 1 and 2 images, 3 cut, 4 taken; its ints -/
abbrev oX (xa : Nat → Nat) (ra : Nat → Nat → Nat) (xi : Nat → Int32) : Nat × va_E := (xa 0, .inr (0, [.ref (ra 0 0), .ref (xa 1), .int (xi 0), .int (xi 1), .int (xi 2), .int (xi 3), .int (xi 4), .int (xi 5), .ref (xa 2), .int (xi 6), .int (xi 7), .ref (ra 3 0), .ref (xa 3), .ref (ra 4 0), .int (xi 8)]))
abbrev wN (k : Nat → ClassId) (xa : Nat → Nat) (ra : Nat → Nat → Nat) (xi : Nat → Int32) (rs : RS) : va_W := oX xa ra xi :: wR k (ra 0) rs
abbrev imA (k : Nat → ClassId) (xa : Nat → Nat) (ra : Nat → Nat → Nat) : Nat × va_E := (xa 1, .inl (k 5, 2, .inr (.inr (.inr (.inr (fun i => some (ra (1 + i) 0)))))))
/-- the model: ma 0 its cell, 1 state, 2 readPage, 3 tape, 4 cutRow, 5 cutWeights, 6 isKept, 7 lanes, 8 lengths, 9 cells -/
abbrev wM (k : Nat → ClassId) (ma : Nat → Nat) (mi : Nat → Int32) (st rp tp cr cw ik ln lg : Nat → Int32) (ce : Nat → Int64) : va_W := [(ma 0, .inr (3, [.ref (ma 1), .ref (ma 2), .ref (ma 3), .int (mi 0), .int (mi 1), .int (mi 2), .int (mi 3), .int (mi 4), .int (mi 5), .int (mi 6), .int (mi 7), .ref (ma 4), .ref (ma 5), .ref (ma 6), .ref (ma 7), .ref (ma 8), .ref (ma 9), .int (mi 8)])), (ma 1, .inl (k 1, 579, .inl st)), (ma 2, .inl (k 1, 193, .inl rp)), (ma 3, .inl (k 1, 160, .inl tp)), (ma 4, .inl (k 1, 128, .inl cr)), (ma 5, .inl (k 1, 64, .inl cw)), (ma 6, .inl (k 4, 2, .inl ik)), (ma 7, .inl (k 1, 4, .inl ln)), (ma 8, .inl (k 1, 4, .inl lg)), (ma 9, .inl (k 0, 160, .inr (.inl ce)))]
/-- the whole tree: 0..6 itself and now, 7 images' array, 8.. and 14.. the images, 20.. cut, 26.. taken, 32 tape, 33 sheets' array, 34..37 the sheets -/
abbrev wXX (k : Nat → ClassId) (xa sa : Nat → Nat) (ra : Nat → Nat → Nat) (xi : Nat → Int32) (rs r0 r1 rc rt : RS) (tp : Nat → Int32) (sv : Nat → Value) : va_W := wN k xa ra xi rs ++ (imA k xa ra :: (wR k (ra 1) r0 ++ (wR k (ra 2) r1 ++ (wR k (ra 3) rc ++ (wR k (ra 4) rt ++ [(xa 2, .inl (k 3, 160, .inl tp)), (xa 3, .inl (k 6, 4, .inr (.inr (.inr (.inr (fun i => some (sa i))))))), (sa 0, .inr (2, [sv 0])), (sa 1, .inr (2, [sv 1])), (sa 2, .inr (2, [sv 2])), (sa 3, .inr (2, [sv 3]))])))))
-- ===== the tables: classes, arrays, links between nest mates
def nwL : List Cond := [.methodLinkNest "ExcessTree" 88 ⟨"ExcessTree$Row", "<init>", "()V"⟩ "ExcessTree", .fieldLinkNest "ExcessTree" 290 "ExcessTree$Row" "words" "[J" "ExcessTree", .fieldLinkNest "ExcessTree" 7 "ExcessTree$Row" "places" "I" "ExcessTree", .fieldLinkNest "ExcessTree" 243 "ExcessTree$Row" "weight" "[I" "ExcessTree", .fieldLinkNest "ExcessTree" 34 "ExcessTree$Row" "gain" "[S" "ExcessTree", .fieldLinkNest "ExcessTree" 176 "ExcessTree$Row" "low" "[S" "ExcessTree", .fieldLinkNest "ExcessTree" 152 "ExcessTree$Row" "high" "[S" "ExcessTree", .methodLinkNest "ExcessTree" 109 ⟨"ExcessTree$Sheet", "<init>", "()V"⟩ "ExcessTree", .fieldLinkNest "ExcessTree" 315 "ExcessTree$Sheet" "cells" "Ljava/lang/Object;" "ExcessTree", .fieldLinkNest "ExcessTree" 146 "ExcessTree$Fault" "code" "I" "ExcessTree", .fieldLinkNest "ExcessTree" 149 "ExcessTree$Fault" "place" "I" "ExcessTree", .fieldLinkNest "ExcessTree" 134 "ExcessTree$Reader" "made" "LExcessTree$Row;" "ExcessTree", .fieldLinkNest "ExcessTree$Reader" 61 "ExcessTree$Row" "places" "I" "ExcessTree", .fieldLinkNest "ExcessTree$Reader" 71 "ExcessTree$Row" "weight" "[I" "ExcessTree", .fieldLinkNest "ExcessTree$Reader" 32 "ExcessTree" "tape" "[B" "ExcessTree", .methodLinkNest "ExcessTree$Reader" 17 ⟨"ExcessTree$Row", "<init>", "()V"⟩ "ExcessTree", .castable "java/lang/ArrayIndexOutOfBoundsException" "java/lang/ArrayIndexOutOfBoundsException", .castable "java/lang/ArrayIndexOutOfBoundsException" "java/lang/IndexOutOfBoundsException", .castable "java/lang/ClassCastException" "java/lang/ClassCastException", .castable "java/lang/RuntimeException" "java/lang/Throwable", .castable "java/lang/ArithmeticException" "java/lang/ArithmeticException", .castable "java/lang/NegativeArraySizeException" "java/lang/NegativeArraySizeException", .castable "java/lang/NullPointerException" "java/lang/NullPointerException", .castable "ExcessTree$Fault" "ExcessTree$Fault", .declares ⟨"java/lang/Throwable", "<init>", "()V"⟩, .declares ⟨"java/lang/Throwable", "<init>", "(Ljava/lang/String;)V"⟩, .declares ⟨"java/lang/IndexOutOfBoundsException", "<init>", "()V"⟩, .declares ⟨"java/lang/IndexOutOfBoundsException", "<init>", "(Ljava/lang/String;)V"⟩, .declares ⟨"java/lang/Exception", "<init>", "()V"⟩, .declares ⟨"java/lang/Exception", "<init>", "(Ljava/lang/String;)V"⟩, .declares ⟨"java/lang/RuntimeException", "<init>", "()V"⟩, .declares ⟨"java/lang/RuntimeException", "<init>", "(Ljava/lang/String;)V"⟩, .declares ⟨"java/lang/Throwable", "fillInStackTrace", "()Ljava/lang/Throwable;"⟩]
def ncL : List (String × String) := [("[B", "[I"), ("[B", "[J"), ("[I", "[B"), ("[I", "[J"), ("[J", "[B"), ("[J", "[I"), ("java/lang/ArrayIndexOutOfBoundsException", "java/lang/NullPointerException"), ("java/lang/ArrayIndexOutOfBoundsException", "java/lang/ClassCastException"), ("java/lang/ClassCastException", "java/lang/NullPointerException")]
def KK (D : va_G) (k : Nat → ClassId) (U : State) : Prop := va_K D vwCl (tysA k) U ∧ (∀ w ∈ nwL, va_Nw w U) ∧ (∀ q ∈ ncL, va_Nc q.1 q.2 U) ∧ va_AO RX1 U ∧ va_AO RX2 U
theorem nwL_warm {s U : State} (hW : s.WarmedH U.vm) (h : ∀ w ∈ nwL, va_Nw w s) : ∀ w ∈ nwL, va_Nw w U := by
  intro w hw
  have hz := h w hw
  simp only [nwL, List.mem_cons, List.not_mem_nil, or_false] at hw
  rcases hw with rfl | rfl | rfl | rfl | rfl | rfl | rfl | rfl | rfl | rfl | rfl | rfl | rfl | rfl | rfl | rfl | rfl | rfl | rfl | rfl | rfl | rfl | rfl | rfl | rfl | rfl | rfl | rfl | rfl | rfl | rfl | rfl | rfl <;> first | exact va_Nw.warmF hW hz | exact va_Nw.warmM hW hz | exact va_Nw.warmC hW hz | exact va_Nw.warmD hW hz
theorem nwL_tabs : ∀ w ∈ nwL, w.onTables = true := by decide +kernel
theorem nwL_same {s U : State} (e : s.vm = U.vm) (h : ∀ w ∈ nwL, va_Nw w s) : ∀ w ∈ nwL, va_Nw w U := fun w hw => va_Nw.same (nwL_tabs w hw) e (h w hw)
theorem KK.warm {D : va_G} {k : Nat → ClassId} {s U : State} (hW : s.WarmedH U.vm) (h : KK D k s) : KK D k U := ⟨va_K.moved hW.alike h.1, nwL_warm hW h.2.1, fun q hq => (h.2.2.1 q hq).moved hW.alike, h.2.2.2.1.moved hW.alike, h.2.2.2.2.moved hW.alike⟩
theorem KK.calling {D : va_G} {k : Nat → ClassId} {U : State} (g : JFrame) (mk : MethodId) (a : Array Value) (h : KK D k U) : KK D k (U.calling g mk a) := ⟨va_K.moved (u := U) (U := U.calling g mk a) (Vm.Alike.refl U.vm) h.1, nwL_same (s := U) (U := U.calling g mk a) rfl h.2.1, fun q hq => va_Nc.moved (u := U) (U := U.calling g mk a) (Vm.Alike.refl U.vm) (h.2.2.1 q hq), va_AO.moved (u := U) (U := U.calling g mk a) (Vm.Alike.refl U.vm) h.2.2.2.1, va_AO.moved (u := U) (U := U.calling g mk a) (Vm.Alike.refl U.vm) h.2.2.2.2⟩
theorem KK.nw {D : va_G} {k : Nat → ClassId} {U : State} {A : Array Value} (h : KK D k U) (i : Nat) {w : Cond} (hi : nwL[i]? = some w) : w.before A U = true := va_Nw.use (nwL_tabs w (List.mem_of_getElem? hi)) (h.2.1 w (List.mem_of_getElem? hi))
theorem KK.nwz {D : va_G} {k : Nat → ClassId} {U : State} (h : KK D k U) (i : Nat) {w : Cond} (hi : nwL[i]? = some w) : va_Nw w U := h.2.1 w (List.mem_of_getElem? hi)
theorem KK.nc {D : va_G} {k : Nat → ClassId} {U : State} (h : KK D k U) (i : Nat) {q : String × String} (hi : ncL[i]? = some q) : va_Nc q.1 q.2 U := h.2.2.1 q (List.mem_of_getElem? hi)
-- ===== contracts
abbrev rdP (D : va_G) (k : Nat → ClassId) (ws : va_W) (av : List Value) : Array Value → State → Prop := va_Pc av (fun U => va_P D vwCl ws U.heap ∧ KK D k U)
theorem rdP_bl {D : va_G} {k : Nat → ClassId} {ws : va_W} {av : List Value} : FrameBlind (rdP D k ws av) := fun a _ g mk q => ⟨q.1, q.2.1, q.2.2.calling g mk a⟩
abbrev CtI (l : Launch) (y : MethodName) (cc : ByteArray) (n : Nat) (rm : Room) (av : List Value) (D : va_G) (k : Nat → ClassId) (ws : va_W) (r : Int32) : Prop := Met l y (ws_ y cc n (some .int)) rm (rdP D k ws av) (vp_Si (fun x => x = r)) 0 0 (fun _ => False)
abbrev CtZ (l : Launch) (y : MethodName) (cc : ByteArray) (n : Nat) (rm : Room) (av : List Value) (D : va_G) (k : Nat → ClassId) (ws : va_W) (r : Int32) : Prop := Met l y (ws_ y cc n (some .boolean)) rm (rdP D k ws av) (vp_Si (fun x => x = r ∧ zb x)) 0 0 (fun _ => False)
abbrev CtL (l : Launch) (y : MethodName) (cc : ByteArray) (n : Nat) (rm : Room) (av : List Value) (D : va_G) (k : Nat → ClassId) (ws : va_W) (r : Int64) : Prop := Met l y (ws_ y cc n (some .long)) rm (rdP D k ws av) (vp_Sl (fun x => x = r)) 0 0 (fun _ => False)
abbrev gR (p : Program) (l : Launch) (e : Env) (rm : Room) (s : State) (m : MethodId) (av : List Value) (below : List Frame) (meth : Method) (c : Code) (Qc : Array Value → State → Outcome → State → Prop) (pc : Nat) (ls : Array Slot) (st : List Value) : Prop := W p l e rm s m av.toArray below meth c s.heap [] 0 0 (MQ below Qc av.toArray s 0 0 (fun _ => False)) (F0 m pc ls st)
theorem rd_start {l : Launch} {y : MethodName} {cc : ByteArray} {n : Nat} {ret : Option FieldType} {rm : Room} {D : va_G} {k : Nat → ClassId} {ws : va_W} {av : List Value} {Qc : Array Value → State → Outcome → State → Prop} (hy : plainName y.cls = true) (hn : (lg_sl av).length ≤ n)
    (body : ∀ (p : Program) (e : Env) (s : State) (m : MethodId) (below : List Frame) (meth : Method) (c : Code) (ls : Array Slot), p.tables.exec = Jvm.exec → c.code = cc → meth.sig.returnType = ret → meth.locks = false → c.maxLocals = n → s.vm.findClass y.cls = some m.cls → (∀ w ∈ lw_all, w.before av.toArray s = true) → va_P D vwCl ws s.heap → KK D k s → lv_has ls n (lv_args 0 av) → gR p l e rm s m av below meth c Qc 0 ls []) :
    Met l y (ws_ y cc n ret) rm (rdP D k ws av) Qc 0 0 (fun _ => False) := by
  refine Met.ofW (cc := cc) (maxL := n) (ret := ret) hy rfl ?_
  intro p e s m args below meth c s₁ B hml hv
  obtain ⟨rfl, hP, hK⟩ := hv
  have hts := atoms_spec (ws := ws_ y cc n ret) B.pre
  have hl := lv_entry av (n := n) hn
  rw [lg_entry_eq]
  generalize (lg_sl av ++ List.replicate (n - (lg_sl av).length) Slot.unset).toArray = ls at hl ⊢
  exact body p e s m below meth c ls B.exec B.bytes B.returns B.notSynchronized hml (findClass_of_methodNamed B.named) (fun w h => hts w (List.mem_cons_of_mem _ h)) hP hK hl
section RD
variable {p : Program} {l : Launch} {e : Env} {R : Room} {s : State} {m : MethodId} {args : Array Value} {below : List Frame} {meth : Method} {c : Code} {H : Heap} {locs : List Loc} {cells slots : Nat} {Q : State → Prop}
variable {cc : ByteArray} {pc : Nat} {ls : Array Slot} {rest st0 : List Value} {D : va_G} {k : Nat → ClassId} {a : Nat} {ws wc : va_W}
theorem rd_iret {v r : Int32} (hx : p.tables.exec = Jvm.exec) (hb : c.code = cc) (hr : meth.sig.returnType = some .int) (hlk : meth.locks = false) (he : v = r) (d : decode cc pc = .ok (.ireturn, 1)) : W p l e R s m args below meth c s.heap [] 0 0 (MQ below (vp_Si (fun x => x = r)) args s 0 0 (fun _ => False)) (F0 m pc ls [.int v]) :=
  W.iret hx hb hr (fun _ ht _ => ⟨v, rfl, he, ht⟩) (fun _ h => by cases h) d hlk
theorem rd_zret {v r : Int32} (hx : p.tables.exec = Jvm.exec) (hb : c.code = cc) (hr : meth.sig.returnType = some .boolean) (hlk : meth.locks = false) (hz : zb v) (he : v = r) (d : decode cc pc = .ok (.ireturn, 1)) : W p l e R s m args below meth c s.heap [] 0 0 (MQ below (vp_Si (fun x => x = r ∧ zb x)) args s 0 0 (fun _ => False)) (F0 m pc ls [.int v]) :=
  W.zret hx hb hr (zb_n hz) (fun _ ht _ => ⟨v, rfl, ⟨he, hz⟩, ht⟩) (fun _ h => by cases h) d hlk
theorem rd_lret {v r : Int64} (hx : p.tables.exec = Jvm.exec) (hb : c.code = cc) (hr : meth.sig.returnType = some .long) (hlk : meth.locks = false) (he : v = r) (d : decode cc pc = .ok (.lreturn, 1)) : W p l e R s m args below meth c s.heap [] 0 0 (MQ below (vp_Sl (fun x => x = r)) args s 0 0 (fun _ => False)) (F0 m pc ls [.long v]) :=
  W.lret hx hb hr (fun _ ht _ => ⟨v, rfl, he, ht⟩) (fun _ h => by cases h) d hlk
theorem x_iald (hx : p.tables.exec = Jvm.exec) (hb : c.code = cc) (hK : KK D k s) (hP : va_P D vwCl ws H) (q0 t0 : Nat) {cA : ClassId} {n : Nat} {f : Nat → Int32} {i v : Int32} (h : rdI n f i = some v) (ha : ws[q0]? = some (a, .inl (cA, n, .inl f))) (ht : (tysA k)[t0]? = some (cA, .int)) (d : decode cc pc = .ok (.iaload, 1))
    (kk : W p l e R s m args below meth c H locs cells slots Q (F0 m (pc + 1) ls (.int v :: rest))) : W p l e R s m args below meth c H locs cells slots Q (F0 m pc ls (.int i :: .ref a :: rest)) := by
  obtain ⟨h1, rfl⟩ := rdI_s h
  exact va_iald hx hb hK.1 hP q0 t0 ha ht h1 d kk
theorem x_bald (hx : p.tables.exec = Jvm.exec) (hb : c.code = cc) (hK : KK D k s) (hP : va_P D vwCl ws H) (q0 t0 : Nat) {cA : ClassId} {n : Nat} {f : Nat → Int32} {i v : Int32} (h : rdI n f i = some v) (ha : ws[q0]? = some (a, .inl (cA, n, .inl f))) (ht : (tysA k)[t0]? = some (cA, .byte)) (d : decode cc pc = .ok (.baload, 1))
    (kk : W p l e R s m args below meth c H locs cells slots Q (F0 m (pc + 1) ls (.int v :: rest))) : W p l e R s m args below meth c H locs cells slots Q (F0 m pc ls (.int i :: .ref a :: rest)) := by
  obtain ⟨h1, rfl⟩ := rdI_s h
  exact va_bald hx hb hK.1 hP q0 t0 ha ht h1 d kk
theorem x_zald (hx : p.tables.exec = Jvm.exec) (hb : c.code = cc) (hK : KK D k s) (hP : va_P D vwCl ws H) (q0 t0 : Nat) {cA : ClassId} {n : Nat} {f : Nat → Int32} {i v : Int32} (h : rdI n f i = some v) (ha : ws[q0]? = some (a, .inl (cA, n, .inl f))) (ht : (tysA k)[t0]? = some (cA, .boolean)) (d : decode cc pc = .ok (.baload, 1))
    (kk : W p l e R s m args below meth c H locs cells slots Q (F0 m (pc + 1) ls (.int v :: rest))) : W p l e R s m args below meth c H locs cells slots Q (F0 m pc ls (.int i :: .ref a :: rest)) := by
  obtain ⟨h1, rfl⟩ := rdI_s h
  exact va_zald hx hb hK.1 hP q0 t0 ha ht h1 d kk
theorem x_sald (hx : p.tables.exec = Jvm.exec) (hb : c.code = cc) (hK : KK D k s) (hP : va_P D vwCl ws H) (q0 t0 : Nat) {cA : ClassId} {n : Nat} {f : Nat → Int32} {i v : Int32} (h : rdI n f i = some v) (ha : ws[q0]? = some (a, .inl (cA, n, .inl f))) (ht : (tysA k)[t0]? = some (cA, .short)) (d : decode cc pc = .ok (.saload, 1))
    (kk : W p l e R s m args below meth c H locs cells slots Q (F0 m (pc + 1) ls (.int v :: rest))) : W p l e R s m args below meth c H locs cells slots Q (F0 m pc ls (.int i :: .ref a :: rest)) := by
  obtain ⟨h1, rfl⟩ := rdI_s h
  exact va_sald hx hb hK.1 hP q0 t0 ha ht h1 d kk
theorem x_lald (hx : p.tables.exec = Jvm.exec) (hb : c.code = cc) (hK : KK D k s) (hP : va_P D vwCl ws H) (q0 t0 : Nat) {cA : ClassId} {n : Nat} {f : Nat → Int64} {i : Int32} {v : Int64} (h : rdL n f i = some v) (ha : ws[q0]? = some (a, .inl (cA, n, .inr (.inl f)))) (ht : (tysA k)[t0]? = some (cA, .long)) (d : decode cc pc = .ok (.laload, 1))
    (kk : W p l e R s m args below meth c H locs cells slots Q (F0 m (pc + 1) ls (.long v :: rest))) : W p l e R s m args below meth c H locs cells slots Q (F0 m pc ls (.int i :: .ref a :: rest)) := by
  obtain ⟨h1, rfl⟩ := rdL_s h
  exact va_lald hx hb hK.1 hP q0 t0 ha ht h1 d kk
theorem x_asI {y z : Int32} (h : some z = some y) (kk : W p l e R s m args below meth c H locs cells slots Q (F0 m pc ls (.int y :: rest))) : W p l e R s m args below meth c H locs cells slots Q (F0 m pc ls (.int z :: rest)) := by
  cases h; exact kk
theorem x_asL {y z : Int64} (h : some z = some y) (kk : W p l e R s m args below meth c H locs cells slots Q (F0 m pc ls (.long y :: rest))) : W p l e R s m args below meth c H locs cells slots Q (F0 m pc ls (.long z :: rest)) := by
  cases h; exact kk
-- ----- Math.max, Math.min
theorem x_mmax {own : String} {index : Nat} (hx : p.tables.exec = Jvm.exec) (hb : c.code = cc) (hml : c.maxLocals = ls.size) (hown : s.vm.findClass own = some m.cls) (hlink : (Cond.methodLink own index Lib.Math.max.name).before args s = true) (hstat : (Cond.static Lib.Math.max.name).before args s = true) (hini : (Cond.initialized "java/lang/Math").before args s = true) (hcode : (Cond.code Lib.Math.max.name Lib.Math.max.code 2 (some .int)).before args s = true) (hframes : 1 ≤ R.frames) (hlocals : (rest.map fun v => v.category).sum + 13 ≤ R.locals) (hc : cells ≤ R.cells) (hs : slots ≤ R.slots) {x y : Int32} (d : decode cc pc = .ok (.invokestatic index, 3))
    (kk : W p l e R s m args below meth c H locs cells slots Q (F0 m (pc + 3) ls (.int (max32 x y) :: rest))) : W p l e R s m args below meth c H locs cells slots Q (F0 m pc ls (.int y :: .int x :: rest)) := va_mmax hx hb hml hown hlink hstat hini hcode hframes hlocals hc hs d kk
theorem x_mmin {own : String} {index : Nat} (hx : p.tables.exec = Jvm.exec) (hb : c.code = cc) (hml : c.maxLocals = ls.size) (hown : s.vm.findClass own = some m.cls) (hlink : (Cond.methodLink own index Lib.Math.min.name).before args s = true) (hstat : (Cond.static Lib.Math.min.name).before args s = true) (hini : (Cond.initialized "java/lang/Math").before args s = true) (hcode : (Cond.code Lib.Math.min.name Lib.Math.min.code 2 (some .int)).before args s = true) (hframes : 1 ≤ R.frames) (hlocals : (rest.map fun v => v.category).sum + 13 ≤ R.locals) (hc : cells ≤ R.cells) (hs : slots ≤ R.slots) {x y : Int32} (d : decode cc pc = .ok (.invokestatic index, 3))
    (kk : W p l e R s m args below meth c H locs cells slots Q (F0 m (pc + 3) ls (.int (min32 x y) :: rest))) : W p l e R s m args below meth c H locs cells slots Q (F0 m pc ls (.int y :: .int x :: rest)) := va_mmin hx hb hml hown hlink hstat hini hcode hframes hlocals hc hs d kk
-- ----- calls of readers
variable {own C : String} {index maxL nL n : Nat} {y : MethodName} {bytes : ByteArray} {rm : Room} {As : List Value} {b : Nat} {T : u_T} {N : Nat}
theorem rd_pre {ret : Option FieldType} (hK : KK D k s) (hP : va_P D vwCl ws H) (is : List Nat) (hs : is.filterMap (fun i => ws[i]?) = wc) (q0 ci : Nat) {fs : List Value} (he : ws[q0]? = some (b, .inr (ci, fs))) (hc : vwCl[ci]? = some (C, T, N)) : PreV s H C b (rdP D k wc (.ref b :: As)) As :=
  ⟨rdP_bl, va_recv hK.1 hP (ci := ci) (q0 := q0) hc he, fun U hU hW => ⟨rfl, by rw [hU]; exact hP.sub is hs, hK.warm hW⟩⟩
theorem rd_callV {r : Int32} (S : CallFix p m c cc nL s args lw_all own) (hM : CtI l y bytes maxL rm (.ref b :: As) D k wc r) (cw : CallW R s args own C index y bytes maxL (some .int) (ws_ y bytes maxL (some .int)) rm 0 0 n) (hK : KK D k s) (hP : va_P D vwCl ws H) (is : List Nat) (hs : is.filterMap (fun i => ws[i]?) = wc) (q0 ci : Nat) {fs : List Value} (he : ws[q0]? = some (b, .inr (ci, fs))) (hc : vwCl[ci]? = some (C, T, N))
    (hn : As.length = n) (hsize : ls.size = nL) (hst : st0 = As.reverse ++ .ref b :: rest) (hW : (rest.map fun v => v.category).sum ≤ 8) (d : decode cc pc = .ok (.invokevirtual index, 3)) (hf : cells ≤ R.cells ∧ slots ≤ R.slots)
    (kk : W p l e R s m args below meth c H locs cells slots Q (F0 m (pc + 3) ls (.int r :: rest))) : W p l e R s m args below meth c H locs cells slots Q (F0 m pc ls st0) := by
  refine vp_callSi (W.runV (As := As) (rest := rest) S hM cw (rd_pre (ret := some .int) hK hP is hs q0 ci he hc) rfl hn hsize hst (lv_room hW) d hf) (fun r' hr' => ?_)
  cases hr'; exact kk
theorem rd_callVZ {r : Int32} (S : CallFix p m c cc nL s args lw_all own) (hM : CtZ l y bytes maxL rm (.ref b :: As) D k wc r) (cw : CallW R s args own C index y bytes maxL (some .boolean) (ws_ y bytes maxL (some .boolean)) rm 0 0 n) (hK : KK D k s) (hP : va_P D vwCl ws H) (is : List Nat) (hs : is.filterMap (fun i => ws[i]?) = wc) (q0 ci : Nat) {fs : List Value} (he : ws[q0]? = some (b, .inr (ci, fs))) (hc : vwCl[ci]? = some (C, T, N))
    (hn : As.length = n) (hsize : ls.size = nL) (hst : st0 = As.reverse ++ .ref b :: rest) (hW : (rest.map fun v => v.category).sum ≤ 8) (d : decode cc pc = .ok (.invokevirtual index, 3)) (hf : cells ≤ R.cells ∧ slots ≤ R.slots)
    (kk : zb r → W p l e R s m args below meth c H locs cells slots Q (F0 m (pc + 3) ls (.int r :: rest))) : W p l e R s m args below meth c H locs cells slots Q (F0 m pc ls st0) := by
  refine vp_callSi (W.runV (As := As) (rest := rest) S hM cw (rd_pre (ret := some .boolean) hK hP is hs q0 ci he hc) rfl hn hsize hst (lv_room hW) d hf) (fun r' hr' => ?_)
  obtain ⟨rfl, hz⟩ := hr'; exact kk hz
theorem rd_callSZ {r : Int32} (S : CallFix p m c cc nL s args lw_all own) (hM : CtZ l y bytes maxL rm As D k [] r) (cw : CallB R s args own index y bytes maxL (some .boolean) (ws_ y bytes maxL (some .boolean)) rm 0 0 n ∧ (Cond.static y).before args s = true) (hK : KK D k s)
    (hn : As.length = n) (hsize : ls.size = nL) (hst : st0 = As.reverse ++ rest) (hW : (rest.map fun v => v.category).sum ≤ 8) (d : decode cc pc = .ok (.invokestatic index, 3)) (hf : cells ≤ R.cells ∧ slots ≤ R.slots)
    (kk : zb r → W p l e R s m args below meth c H locs cells slots Q (F0 m (pc + 3) ls (.int r :: rest))) : W p l e R s m args below meth c H locs cells slots Q (F0 m pc ls st0) := by
  refine vp_callSi (W.runS (As := As) (rest := rest) S hM cw ⟨rdP_bl, fun U hU hW => ⟨rfl, fun _ _ h => (by simp at h), hK.warm hW⟩⟩ rfl hn hsize hst (lv_room hW) d hf) (fun r' hr' => ?_)
  obtain ⟨rfl, hz⟩ := hr'; exact kk hz
theorem rd_callS {r : Int32} (S : CallFix p m c cc nL s args lw_all own) (hM : CtI l y bytes maxL rm As D k [] r) (cw : CallB R s args own index y bytes maxL (some .int) (ws_ y bytes maxL (some .int)) rm 0 0 n ∧ (Cond.static y).before args s = true) (hK : KK D k s)
    (hn : As.length = n) (hsize : ls.size = nL) (hst : st0 = As.reverse ++ rest) (hW : (rest.map fun v => v.category).sum ≤ 8) (d : decode cc pc = .ok (.invokestatic index, 3)) (hf : cells ≤ R.cells ∧ slots ≤ R.slots)
    (kk : W p l e R s m args below meth c H locs cells slots Q (F0 m (pc + 3) ls (.int r :: rest))) : W p l e R s m args below meth c H locs cells slots Q (F0 m pc ls st0) := by
  refine vp_callSi (W.runS (As := As) (rest := rest) S hM cw ⟨rdP_bl, fun U hU hW => ⟨rfl, fun _ _ h => (by simp at h), hK.warm hW⟩⟩ rfl hn hsize hst (lv_room hW) d hf) (fun r' hr' => ?_)
  cases hr'; exact kk
theorem vp_callSl' {post : Int64 → Prop} {aa : Array Value} (hr : CallRun p l e R s m args below meth c H locs cells slots 0 0 (F0 m pc ls st0) rest (vp_Sl post aa) (fun _ => False))
    (kk : ∀ r : Int64, post r → W p l e R s m args below meth c H locs cells slots Q (F0 m (pc + 3) ls (.long r :: rest))) : W p l e R s m args below meth c H locs cells slots Q (F0 m pc ls st0) := by
  intro T hT X
  obtain ⟨v, st₀, t, T', L, h0, X', hL, e1, ⟨r, hv, hp, hh⟩, st⟩ := hr T hT X
  cases hv
  obtain ⟨t2, a1, b1⟩ := kk r hp T' (by rw [e1, hh, h0]) (Stand.forget X' (fun q h => (hL q h).elim))
  exact ⟨t2, st t2 a1, b1⟩
theorem rd_callSL {r : Int64} (S : CallFix p m c cc nL s args lw_all own) (hM : CtL l y bytes maxL rm As D k [] r) (cw : CallB R s args own index y bytes maxL (some .long) (ws_ y bytes maxL (some .long)) rm 0 0 n ∧ (Cond.static y).before args s = true) (hK : KK D k s)
    (hn : As.length = n) (hsize : ls.size = nL) (hst : st0 = As.reverse ++ rest) (hW : (rest.map fun v => v.category).sum ≤ 8) (d : decode cc pc = .ok (.invokestatic index, 3)) (hf : cells ≤ R.cells ∧ slots ≤ R.slots)
    (kk : W p l e R s m args below meth c H locs cells slots Q (F0 m (pc + 3) ls (.long r :: rest))) : W p l e R s m args below meth c H locs cells slots Q (F0 m pc ls st0) := by
  refine vp_callSl' (W.runS (As := As) (rest := rest) S hM cw ⟨rdP_bl, fun U hU hW => ⟨rfl, fun _ _ h => (by simp at h), hK.warm hW⟩⟩ rfl hn hsize hst (lv_room hW) d hf) (fun r' hr' => ?_)
  cases hr'; exact kk
end RD
