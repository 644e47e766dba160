/-! A ROW'S PLACES: what isOpen, step, opens, excess answer -/
set_option maxRecDepth 100000
/-- how many are open ahead of a place -/
def oq (b : Nat → Bool) : Nat → Nat
  | 0 => 0
  | p + 1 => oq b p + (if b p then 1 else 0)
theorem oq_s (b : Nat → Bool) (p : Nat) : oq b (p + 1) = oq b p + (if b p then 1 else 0) := rfl
theorem ex_s (b : Nat → Bool) (p : Nat) : ex b (p + 1) = ex b p + (if b p then 1 else -1) := rfl
theorem ex_oq (b : Nat → Bool) : ∀ p, ex b p = 2 * (oq b p : Int) - p := by
  intro p
  induction p with
  | zero => rfl
  | succ p ih =>
    rw [ex_s, oq_s, ih]
    cases b p <;> simp <;> omega
theorem oq_le (b : Nat → Bool) : ∀ p, oq b p ≤ p := by
  intro p
  induction p with
  | zero => exact Nat.le_refl _
  | succ p ih => rw [oq_s]; split <;> omega
theorem ex_rng (b : Nat → Bool) (p : Nat) : -(p : Int) ≤ ex b p ∧ ex b p ≤ p := by
  have h := ex_oq b p
  have h2 := oq_le b p
  omega
theorem oq_congr {b b' : Nat → Bool} : ∀ {p : Nat}, (∀ q, q < p → b q = b' q) → oq b p = oq b' p := by
  intro p
  induction p with
  | zero => intro _; rfl
  | succ p ih => intro h; rw [oq_s, oq_s, ih (fun q hq => h q (by omega)), h p (by omega)]
theorem ex_congr {b b' : Nat → Bool} {p : Nat} (h : ∀ q, q < p → b q = b' q) : ex b p = ex b' p := by
  rw [ex_oq, ex_oq, oq_congr h]
theorem nI_div {a c : Nat} (ha : a < 2 ^ 31) (hc : 0 < c) (hc2 : c < 2 ^ 31) : nI a / nI c = nI (a / c) := by
  rw [nI_iZ, nI_iZ, iZ_div (by omega) (by omega) (by omega) (by omega), nI_iZ]
  congr 1
theorem nI_mul (a c : Nat) : nI a * nI c = nI (a * c) := by
  rw [nI_iZ, nI_iZ, iZ_mul, nI_iZ]; congr 1
theorem nI_subN {a c : Nat} (h : c ≤ a) : nI a - nI c = nI (a - c) := by
  rw [nI_iZ, nI_iZ, iZ_sub, nI_iZ]; congr 1; omega
theorem rdL_n {n : Nat} {f : Nat → Int64} {p : Nat} (h : p < n) (hn : n < 2 ^ 31) : rdL n f (nI p) = some (f p) := by
  unfold rdL
  rw [if_neg (nI_in h hn), nI_clamp (by omega)]
theorem rdI_n {n : Nat} {f : Nat → Int32} {p : Nat} (h : p < n) (hn : n < 2 ^ 31) : rdI n f (nI p) = some (f p) := by
  unfold rdI
  rw [if_neg (nI_in h hn), nI_clamp (by omega)]
theorem wrI_n {n : Nat} {f : Nat → Int32} {p : Nat} {x : Int32} (h : p < n) (hn : n < 2 ^ 31) : wrI n f (nI p) x = some (upd f p x) := by
  unfold wrI
  rw [if_neg (nI_in h hn), nI_clamp (by omega)]
theorem wrL_n {n : Nat} {f : Nat → Int64} {p : Nat} {x : Int64} (h : p < n) (hn : n < 2 ^ 31) : wrL n f (nI p) x = some (vp_updL f p x) := by
  unfold wrL
  rw [if_neg (nI_in h hn), nI_clamp (by omega)]
theorem lg_cmp0 (x y : Int64) : lg_cmp x y = 0 ↔ x = y := by
  unfold lg_cmp
  by_cases h : x > y
  · rw [if_pos h]
    constructor
    · intro h2; exact absurd h2 (by decide)
    · intro h2; subst h2; exact absurd h (by simp)
  · rw [if_neg h]
    by_cases h2 : x = y
    · rw [if_pos h2]; simp [h2]
    · rw [if_neg h2]
      constructor
      · intro h3; exact absurd h3 (by decide)
      · intro h3; exact absurd h3 h2
theorem nI_mod {p c : Nat} (hp : p < 2 ^ 31) (hc : 0 < c) (hc2 : c < 2 ^ 31) : nI p - nI p / nI c * nI c = nI (p % c) := by
  rw [nI_div hp hc hc2, nI_mul, nI_subN (Nat.div_mul_le_self p c)]
  congr 1
  have := Nat.div_add_mod p c
  rw [Nat.mul_comm] at this
  omega
theorem isOpen_spec (rs : RS) {p : Nat} (h : p < 128) : fX1_isOpen rs (nI p) = some (if rbit rs p then 1 else 0) := by
  unfold fX1_isOpen
  rw [show (64 : Int32) = nI 64 from rfl, nI_mod (by omega) (by omega) (by omega), nI_div (by omega) (by omega) (by omega), rdL_n (by omega) (by omega)]
  simp only [Option.bind_some]
  unfold rbit
  obtain ⟨n, hn, e⟩ := wb_of (rW rs (p / 64))
  rw [e, wb_bit hn (Nat.mod_lt _ (by omega))]
  have h1 : (lN n).toBitVec.getLsbD (p % 64) = n.testBit (p % 64) := by
    rw [lN_bv, BitVec.getLsbD_ofNat]
    simp [Nat.mod_lt]
  rw [h1, Nat.testBit_eq_decide_div_mod_eq]
  by_cases h2 : n / 2 ^ (p % 64) % 2 = 1
  · rw [h2, if_pos ((lg_cmp0 (lN 1) 1).mpr rfl)]; simp
  · rw [show n / 2 ^ (p % 64) % 2 = 0 by omega, if_neg (fun h3 => absurd ((lg_cmp0 _ _).mp h3) (by decide))]; simp
theorem step_spec (rs : RS) {p : Nat} (h : p < 128) : fX1_step rs (nI p) = some (if rbit rs p then 1 else -1) := by
  unfold fX1_step
  rw [isOpen_spec rs h]
  simp only [Option.bind_some]
  cases rbit rs p <;> rfl
/-! opens -/
theorem mm_spec {z : Int} (h : -1000 ≤ z) (h2 : z ≤ 1000) : max32 (0 : Int32) (min32 (64 : Int32) (iZ z)) = nI (min 64 z.toNat) := by
  unfold min32
  rw [show (64 : Int32) = iZ 64 from rfl, show (0 : Int32) = iZ 0 from rfl]
  by_cases h3 : z < 64
  · rw [if_pos ((iZ_lt (by omega) (by omega)).mpr h3)]
    unfold max32
    by_cases h4 : 0 < z
    · rw [if_pos ((iZ_lt (by omega) (by omega)).mpr h4), nI_iZ]; congr 1; omega
    · rw [if_neg (fun h5 => h4 ((iZ_lt (by omega) (by omega)).mp h5)), nI_iZ]; congr 1; omega
  · rw [if_neg (fun h5 => h3 ((iZ_lt (by omega) (by omega)).mp h5))]
    unfold max32
    rw [if_pos ((iZ_lt (by omega) (by omega)).mpr (by omega)), nI_iZ]; congr 1; omega
theorem pc_mod (n k : Nat) : ∀ j, pc (n % 2 ^ k) j = pc n (min j k) := by
  intro j
  induction j with
  | zero => simp [pc]
  | succ j ih =>
    rw [pc_s, ih, Nat.testBit_mod_two_pow]
    by_cases h : j < k
    · rw [show min (j + 1) k = min j k + 1 by omega, pc_s, show min j k = j by omega]; simp [h]
    · rw [show min (j + 1) k = min j k by omega]; simp [h]
theorem pc_oq (n : Nat) (b : Nat → Bool) : ∀ k, (∀ i, i < k → n.testBit i = b i) → pc n k = oq b k := by
  intro k
  induction k with
  | zero => intro _; rfl
  | succ k ih => intro h; rw [pc_s, oq_s, ih (fun i hi => h i (by omega)), h k (by omega)]
theorem oq_add (b : Nat → Bool) (a : Nat) : ∀ k, oq b (a + k) = oq b a + oq (fun i => b (a + i)) k := by
  intro k
  induction k with
  | zero => rfl
  | succ k ih => rw [← Nat.add_assoc, oq_s, oq_s, ih]; omega
theorem testBit_word (w : Int64) {i : Nat} (h : i < 64) : w.toBitVec.toNat.testBit i = w.toBitVec.getLsbD i := by
  rw [BitVec.getLsbD]
/-- bits of a word below k -/
theorem mask_spec (w : Int64) {k : Nat} (hk : k < 64) : fJ3_bitCount (w &&& (((1 : Int64) <<< ((nI k).toInt64 &&& 63)) - (1 : Int64))) = some (nI (pc w.toBitVec.toNat k)) := by
  obtain ⟨n, hn, rfl⟩ := wb_of w
  rw [show (1 : Int64) = lN 1 from rfl, wb_shl 1 hk, lN_sub (by have := Nat.one_le_two_pow (n := k); omega), Nat.one_mul, wb_mask hn hk, bc_spec, lN_nat hn, lN_nat (Nat.lt_of_le_of_lt (Nat.mod_le _ _) hn), pc_mod]
  rw [show min 64 k = k by omega]
theorem full_spec (w : Int64) : fJ3_bitCount (w &&& (-1 : Int64)) = some (nI (pc w.toBitVec.toNat 64)) := by
  rw [show w &&& (-1 : Int64) = w by
    apply Int64.toBitVec_inj.mp
    rw [Int64.toBitVec_and]
    show _ &&& BitVec.allOnes 64 = _
    rw [BitVec.and_allOnes], bc_spec]
