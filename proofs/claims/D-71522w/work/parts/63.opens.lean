/-! opens, excess -/
set_option maxRecDepth 100000
def wd (rs : RS) (w : Nat) : Nat := (rW rs w).toBitVec.toNat
theorem opens_step (rs : RS) {p c w nn : Nat} (hp : p ≤ 128) (hw : w < 2) : fX1_opens_L4 rs (nI p) (nn + 1) (nI c) (nI w) = fX1_opens_L4 rs (nI p) nn (nI (c + pc (wd rs w) (min 64 (p - 64 * w)))) (nI (w + 1)) := by
  rw [fX1_opens_L4]
  rw [show (2 : Int32) = nI 2 from rfl, if_neg (nI_ge (a := w) (b := 2) hw (by omega))]
  have h1 : nI p - ((64 : Int32) * nI w) = iZ ((p : Int) - 64 * w) := by
    rw [show (64 : Int32) = iZ 64 from rfl, nI_iZ, nI_iZ, iZ_mul, iZ_sub]
  rw [h1, mm_spec (by omega) (by omega)]
  have h2 : ((p : Int) - 64 * w).toNat = p - 64 * w := by omega
  rw [h2]
  simp only [Option.bind_some]
  have hB : ∀ s0 : Int64, fJ3_bitCount (rW rs w &&& s0) = some (nI (pc (wd rs w) (min 64 (p - 64 * w)))) → fX1_opens_B45 rs (nI p) (fX1_opens_L4 rs (nI p) nn) (nI c) (nI w) s0 = fX1_opens_L4 rs (nI p) nn (nI (c + pc (wd rs w) (min 64 (p - 64 * w)))) (nI (w + 1)) := by
    intro s0 h
    unfold fX1_opens_B45
    rw [rdL_n hw (by omega)]
    simp only [Option.bind_some]
    rw [h]
    simp only [Option.bind_some]
    rw [nI_add, nI_1]
  by_cases h3 : 64 ≤ p - 64 * w
  · rw [if_pos (by rw [show min 64 (p - 64 * w) = 64 by omega]; rfl)]
    exact hB _ (by rw [full_spec, show min 64 (p - 64 * w) = 64 by omega]; rfl)
  · rw [if_neg (fun h => by
      have := (nI_eq (a := min 64 (p - 64 * w)) (b := 64) (by omega) (by omega)).mp h
      omega)]
    exact hB _ (by rw [mask_spec _ (by omega)]; rfl)
theorem wd_bit (rs : RS) {w i : Nat} (hi : i < 64) : (wd rs w).testBit i = rbit rs (64 * w + i) := by
  unfold wd rbit
  rw [testBit_word _ hi, show (64 * w + i) / 64 = w by omega, show (64 * w + i) % 64 = i by omega]
theorem opens_spec {rs : RS} {b : Nat → Bool} (hb : ∀ p, p < 128 → rbit rs p = b p) {p : Nat} (hp : p ≤ 128) : fX1_opens rs (nI p) = some (nI (oq b p)) := by
  unfold fX1_opens
  rw [show FU = 997 + 1 + 1 + 1 from rfl, show (0 : Int32) = nI 0 from rfl, opens_step rs hp (by omega), opens_step rs hp (by omega), fX1_opens_L4, if_pos (by decide)]
  congr 2
  have h0 : pc (wd rs 0) (min 64 (p - 64 * 0)) = oq b (min 64 p) := by
    rw [show p - 64 * 0 = p by omega]
    refine pc_oq _ _ _ (fun i hi => ?_)
    rw [wd_bit rs (by omega), ← hb i (by omega)]; congr 1; omega
  have h1 : pc (wd rs 1) (min 64 (p - 64 * 1)) = oq (fun i => b (64 + i)) (min 64 (p - 64)) := by
    rw [show p - 64 * 1 = p - 64 by omega]
    refine pc_oq _ _ _ (fun i hi => ?_)
    rw [wd_bit rs (by omega), hb _ (by omega)]
  rw [h0, h1, Nat.zero_add]
  by_cases h : p ≤ 64
  · rw [show min 64 p = p by omega, show min 64 (p - 64) = 0 by omega]; rfl
  · rw [show min 64 p = 64 by omega, show min 64 (p - 64) = p - 64 by omega, ← oq_add, show 64 + (p - 64) = p by omega]
theorem excess_spec {rs : RS} {b : Nat → Bool} (hb : ∀ p, p < 128 → rbit rs p = b p) {p : Nat} (hp : p ≤ 128) : fX1_excess rs (nI p) = some (iZ (ex b p)) := by
  unfold fX1_excess
  rw [opens_spec hb hp]
  simp only [Option.bind_some]
  rw [show (2 : Int32) = iZ 2 from rfl, nI_iZ, nI_iZ, iZ_mul, iZ_sub, ex_oq]
/-! the model's excess -/
theorem excessAt_loop {st : Nat → Int32} {b : Nat → Bool} {n : Nat} (hs : ∀ p, p < n → st p = if b p then 1 else 0) (hn : n ≤ 128) {p : Nat} (hp : p ≤ n) : ∀ (d k nn : Nat), p - k = d → k ≤ p → d < nn → fX3_excessAt_L4 st (nI p) nn (iZ (ex b k)) (nI k) = some (iZ (ex b p)) := by
  intro d
  induction d with
  | zero =>
    intro k nn h1 h2 h3
    obtain ⟨nn, rfl⟩ : ∃ q, nn = q + 1 := ⟨nn - 1, by omega⟩
    rw [fX3_excessAt_L4, if_pos (nI_le (by omega) (by omega)), show k = p by omega]
  | succ d ih =>
    intro k nn h1 h2 h3
    obtain ⟨nn, rfl⟩ : ∃ q, nn = q + 1 := ⟨nn - 1, by omega⟩
    rw [fX3_excessAt_L4, if_neg (nI_ge (by omega) (by omega)), rdI_n (by omega) (by omega)]
    simp only [Option.bind_some]
    rw [hs k (by omega)]
    have hB : ∀ x : Int32, x = iZ (if b k then 1 else -1) → fX3_excessAt_B25 st (nI p) (fX3_excessAt_L4 st (nI p) nn) (nI k) x (iZ (ex b k)) = some (iZ (ex b p)) := by
      intro x hx
      unfold fX3_excessAt_B25
      simp only [Option.bind_some]
      rw [hx, iZ_add, ← ex_s, nI_1]
      exact ih (k + 1) nn (by omega) (by omega) (by omega)
    cases hbk : b k
    · rw [if_neg (by simp)]; exact hB _ (by rw [hbk]; rfl)
    · rw [if_pos (by simp)]; exact hB _ (by rw [hbk]; rfl)
theorem excessAt_spec {st : Nat → Int32} {b : Nat → Bool} {n : Nat} (hs : ∀ p, p < n → st p = if b p then 1 else 0) (hn : n ≤ 128) {p : Nat} (hp : p ≤ n) : fX3_excessAt st (nI p) = some (iZ (ex b p)) := by
  unfold fX3_excessAt
  exact excessAt_loop hs hn hp p 0 FU rfl (by omega) (by unfold FU; omega)
/-! in -/
theorem lg_lt (x y : Int64) : lg_cmp x y < 0 ↔ x < y := by
  have h := lg_cmp_ge x y
  rw [← Int32.not_le, h, Int64.not_le]
theorem lg_gt (x y : Int64) : 0 < lg_cmp x y ↔ y < x := by
  unfold lg_cmp
  by_cases h : x > y
  · rw [if_pos h]; exact ⟨fun _ => h, fun _ => by decide⟩
  · rw [if_neg h]
    by_cases h2 : x = y
    · rw [if_pos h2]; exact ⟨fun h3 => absurd h3 (by decide), fun h3 => absurd h3 h⟩
    · rw [if_neg h2]; exact ⟨fun h3 => absurd h3 (by decide), fun h3 => absurd h3 h⟩
theorem in_spec (x lo hi : Int64) : fX0_in x lo hi = some (if lo ≤ x ∧ x ≤ hi then 1 else 0) := by
  unfold fX0_in
  by_cases h : x < lo
  · rw [if_pos ((lg_lt _ _).mpr h), if_neg (fun h2 => Int64.not_le.mpr h h2.1)]
  · rw [if_neg (fun h2 => h ((lg_lt _ _).mp h2))]
    by_cases h2 : hi < x
    · rw [if_pos ((lg_gt _ _).mpr h2), if_neg (fun h3 => Int64.not_le.mpr h2 h3.2)]
    · rw [if_neg (fun h3 => h2 ((lg_gt _ _).mp h3)), if_pos ⟨Int64.not_lt.mp h, Int64.not_lt.mp h2⟩]
theorem in_specM (x lo hi : Int64) : fX3_in x lo hi = some (if lo ≤ x ∧ x ≤ hi then 1 else 0) := in_spec x lo hi
theorem le_L {x y : Int32} : x.toInt64 ≤ y.toInt64 ↔ x ≤ y := by
  rw [Int64.le_iff_toInt_le, Int32.toInt_toInt64, Int32.toInt_toInt64, Int32.le_iff_toInt_le]
theorem in32 (a lo hi : Int32) : fX0_in a.toInt64 lo.toInt64 hi.toInt64 = some (if lo ≤ a ∧ a ≤ hi then 1 else 0) := by
  rw [in_spec]
  by_cases h : lo ≤ a ∧ a ≤ hi
  · rw [if_pos h, if_pos ⟨le_L.mpr h.1, le_L.mpr h.2⟩]
  · rw [if_neg h, if_neg (fun h2 => h ⟨le_L.mp h2.1, le_L.mp h2.2⟩)]
theorem in32M (a lo hi : Int32) : fX3_in a.toInt64 lo.toInt64 hi.toInt64 = some (if lo ≤ a ∧ a ≤ hi then 1 else 0) := in32 a lo hi
/-- a number between 0 and a known one -/
theorem in0 (a : Int32) {n : Nat} (hn : n < 2 ^ 31) : (fX0_in a.toInt64 (0 : Int64) (nI n).toInt64 = some 0 ∧ fX3_in a.toInt64 (0 : Int64) (nI n).toInt64 = some 0 ∧ (a < 0 ∨ nI n < a)) ∨ ∃ p : Nat, p ≤ n ∧ a = nI p ∧ fX0_in a.toInt64 (0 : Int64) (nI n).toInt64 = some 1 ∧ fX3_in a.toInt64 (0 : Int64) (nI n).toInt64 = some 1 := by
  have e1 := in32 a 0 (nI n)
  have e2 := in32M a 0 (nI n)
  rw [show (0 : Int32).toInt64 = (0 : Int64) from rfl] at e1 e2
  rw [e1, e2]
  by_cases h : (0 : Int32) ≤ a ∧ a ≤ nI n
  · right
    obtain ⟨p, hp, rfl⟩ := nI_of (Int32.not_lt.mpr h.1)
    exact ⟨p, (nI_leI hp hn).mp h.2, rfl, by rw [if_pos h], by rw [if_pos h]⟩
  · left
    refine ⟨by rw [if_neg h], by rw [if_neg h], ?_⟩
    by_cases h2 : a < 0
    · exact Or.inl h2
    · exact Or.inr (Int32.not_le.mp (fun h3 => h ⟨Int32.not_lt.mp h2, h3⟩))
theorem inm1 (a : Int32) : fX0_in a.toInt64 (0 : Int64) (((0 : Int32) - (1 : Int32)).toInt64) = some 0 ∧ fX3_in a.toInt64 (0 : Int64) (((0 : Int32) - (1 : Int32)).toInt64) = some 0 := by
  have e1 := in32 a 0 ((0 : Int32) - 1)
  have e2 := in32M a 0 ((0 : Int32) - 1)
  rw [show (0 : Int32).toInt64 = (0 : Int64) from rfl] at e1 e2
  rw [e1, e2]
  have h : ¬ ((0 : Int32) ≤ a ∧ a ≤ (0 : Int32) - 1) := fun h => absurd (Int32.le_trans h.1 h.2) (by decide)
  exact ⟨by rw [if_neg h], by rw [if_neg h]⟩
