/-! BITS COUNTED: Long.bitCount -/
set_option maxRecDepth 100000
/-- how many of the low k bits are set -/
def pc (n : Nat) : Nat → Nat
  | 0 => 0
  | k + 1 => pc n k + (if n.testBit k then 1 else 0)
theorem pc_s (n k : Nat) : pc n (k + 1) = pc n k + (if n.testBit k then 1 else 0) := rfl
theorem land_split (x m M : Nat) (hm : m < 256) : x &&& (m + 256 * M) = (x % 256 &&& m) + 256 * (x / 256 &&& M) := by
  have h1 : (x &&& (m + 256 * M)) % 256 = x % 256 &&& m := by
    rw [show (256 : Nat) = 2 ^ 8 from rfl, Nat.and_mod_two_pow]
    congr 1
    omega
  have h2 : (x &&& (m + 256 * M)) / 256 = x / 256 &&& M := by
    rw [show (256 : Nat) = 2 ^ 8 from rfl, Nat.and_div_two_pow]
    congr 1
    omega
  omega
def MK (m : Nat) : Nat → Nat
  | 0 => 0
  | k + 1 => m + 256 * MK m k
theorem MK_s (m k : Nat) : MK m (k + 1) = m + 256 * MK m k := rfl
def c1 (b : Nat) : Nat := b - (b / 2 &&& 85)
def c2 (b : Nat) : Nat := (b &&& 51) + (b / 4 &&& 51)
def c3 (b : Nat) : Nat := (b + b / 16) &&& 15
def b8 (b : Nat) : Nat := pc b 8
theorem c_all : ∀ b, b < 256 → (b / 2 &&& 85) ≤ b ∧ c1 b < 256 ∧ c2 (c1 b) % 16 ≤ 4 ∧ c2 (c1 b) / 16 ≤ 4 ∧ c3 (c2 (c1 b)) = b8 b ∧ b8 b ≤ 8 := by decide +kernel
theorem c_m1 : ∀ b, b < 256 → ∀ t, t < 2 → (b / 2 + 128 * t) &&& 85 = b / 2 &&& 85 := by decide +kernel
theorem c_m2 : ∀ b, b < 256 → ∀ t, t < 4 → (b / 4 + 64 * t) &&& 51 = b / 4 &&& 51 := by decide +kernel
theorem c_m3 : ∀ c, c < 69 → ∀ t, t < 5 → (c + c / 16 + 16 * t) &&& 15 = (c + c / 16) &&& 15 := by decide +kernel
def y1 (k n : Nat) : Nat := n - (n / 2 &&& MK 85 k)
def y2 (k n : Nat) : Nat := (n &&& MK 51 k) + (n / 4 &&& MK 51 k)
def y3 (k n : Nat) : Nat := (n + n / 16) &&& MK 15 k
theorem land_le_l (a b : Nat) : a &&& b ≤ a := Nat.and_le_left
theorem y1_s (k b T : Nat) (hb : b < 256) : y1 (k + 1) (b + 256 * T) = c1 b + 256 * y1 k T := by
  unfold y1 c1
  rw [MK_s, land_split _ _ _ (by decide)]
  have h1 : (b + 256 * T) / 2 % 256 = b / 2 + 128 * (T % 2) := by omega
  have h2 : (b + 256 * T) / 2 / 256 = T / 2 := by omega
  rw [h1, h2, c_m1 b hb (T % 2) (by omega)]
  have h3 := (c_all b hb).1
  have h4 := Nat.le_trans (land_le_l (T / 2) (MK 85 k)) (Nat.div_le_self T 2)
  omega
theorem y2_s (k b T : Nat) (hb : b < 256) : y2 (k + 1) (b + 256 * T) = c2 b + 256 * y2 k T := by
  unfold y2 c2
  rw [MK_s, land_split _ _ _ (by decide), land_split _ _ _ (by decide)]
  have h1 : (b + 256 * T) / 4 % 256 = b / 4 + 64 * (T % 4) := by omega
  have h2 : (b + 256 * T) / 4 / 256 = T / 4 := by omega
  have h3 : (b + 256 * T) % 256 = b := by omega
  have h4 : (b + 256 * T) / 256 = T := by omega
  rw [h1, h2, h3, h4, c_m2 b hb (T % 4) (by omega)]
  omega
theorem y3_s (k c T : Nat) (hc : c % 16 ≤ 4) (hc2 : c / 16 ≤ 4) (hT : T % 16 ≤ 4) : y3 (k + 1) (c + 256 * T) = c3 c + 256 * y3 k T := by
  unfold y3 c3
  rw [MK_s, land_split _ _ _ (by decide)]
  have h1 : (c + 256 * T + (c + 256 * T) / 16) % 256 = c + c / 16 + 16 * (T % 16) := by omega
  have h2 : (c + 256 * T + (c + 256 * T) / 16) / 256 = T + T / 16 := by omega
  rw [h1, h2, c_m3 c (by omega) (T % 16) (by omega)]
/-- the three first steps, byte by byte -/
def yy (k n : Nat) : Nat := y3 k (y2 k (y1 k n))
theorem y21_low (k T : Nat) : y2 k (y1 k T) % 16 ≤ 4 := by
  cases k with
  | zero => unfold y2 MK; simp
  | succ k =>
    rw [show T = T % 256 + 256 * (T / 256) by omega, y1_s k _ _ (by omega)]
    have h := c_all (T % 256) (by omega)
    rw [y2_s k _ _ h.2.1]
    omega
theorem yy_s (k b T : Nat) (hb : b < 256) : yy (k + 1) (b + 256 * T) = b8 b + 256 * yy k T := by
  have h := c_all b hb
  unfold yy
  rw [y1_s k _ _ hb, y2_s k _ _ h.2.1, y3_s k _ _ h.2.2.1 h.2.2.2.1 (y21_low k _), h.2.2.2.2.1]
/-- the counts of the bytes -/
def bs : Nat → Nat → Nat
  | 0, _ => 0
  | k + 1, n => b8 (n % 256) + bs k (n / 256)
def bv : Nat → Nat → Nat
  | 0, _ => 0
  | k + 1, n => b8 (n % 256) + 256 * bv k (n / 256)
theorem yy_bv : ∀ (k n : Nat), n < 256 ^ k → yy k n = bv k n := by
  intro k
  induction k with
  | zero => intro n h; simp at h; subst h; rfl
  | succ k ih =>
    intro n h
    have e : n = n % 256 + 256 * (n / 256) := by omega
    have h2 : n / 256 < 256 ^ k := by rw [Nat.pow_succ] at h; omega
    have h3 := yy_s k (n % 256) (n / 256) (by omega)
    rw [← e] at h3
    rw [h3, ih _ h2]; rfl
theorem b8_le (n : Nat) : b8 (n % 256) ≤ 8 := (c_all (n % 256) (by omega)).2.2.2.2.2
theorem bits_byte : ∀ (i n : Nat), i < 8 → (n % 256).testBit i = n.testBit i := by
  intro i n h
  rw [show (256 : Nat) = 2 ^ 8 from rfl, Nat.testBit_mod_two_pow]
  simp [h]
theorem pc_byte (n : Nat) : ∀ k, k ≤ 8 → pc (n % 256) k = pc n k := by
  intro k
  induction k with
  | zero => intro _; rfl
  | succ k ih => intro h; unfold pc; rw [ih (by omega), bits_byte k n (by omega)]
theorem pc_shift (n a : Nat) : ∀ k, pc n (a + k) = pc n a + pc (n / 2 ^ a) k := by
  intro k
  induction k with
  | zero => rfl
  | succ k ih =>
    rw [← Nat.add_assoc, pc_s, pc_s, ih, Nat.testBit_div_two_pow, Nat.add_comm k a]
    omega
theorem bs_pc : ∀ (k n : Nat), bs k n = pc n (8 * k) := by
  intro k
  induction k with
  | zero => intro n; rfl
  | succ k ih =>
    intro n
    show b8 (n % 256) + bs k (n / 256) = _
    rw [ih, show 8 * (k + 1) = 8 + 8 * k by omega, pc_shift, show n / 2 ^ 8 = n / 256 from rfl]
    unfold b8
    rw [pc_byte n 8 (by omega)]
theorem dv {a p X : Nat} (h : a < p) : (a + p * X) / p = X := by
  rw [Nat.add_mul_div_left _ _ (by omega), Nat.div_eq_of_lt h, Nat.zero_add]
theorem fold_a {a0 a1 a2 a3 a4 a5 a6 a7 z : Nat} (h0 : a0 ≤ 8) (h1 : a1 ≤ 8) (h2 : a2 ≤ 8) (h3 : a3 ≤ 8) (h4 : a4 ≤ 8) (h5 : a5 ≤ 8) (h6 : a6 ≤ 8) (h7 : a7 ≤ 8) (hz : z = a0 + 256 * (a1 + 256 * (a2 + 256 * (a3 + 256 * (a4 + 256 * (a5 + 256 * (a6 + 256 * a7))))))) : z / 256 = a1 + 256 * (a2 + 256 * (a3 + 256 * (a4 + 256 * (a5 + 256 * (a6 + 256 * a7))))) := by
  rw [hz, dv (by omega)]
theorem fold_b {s0 s1 Y w : Nat} (h0 : s0 ≤ 16) (h1 : s1 ≤ 16) (hw : w = s0 + 256 * s1 + 65536 * Y) : w / 65536 = Y := by
  rw [hw, dv (by omega)]
theorem fold_c {t0 t1 t2 t3 Y v : Nat} (h0 : t0 ≤ 32) (h1 : t1 ≤ 32) (h2 : t2 ≤ 32) (h3 : t3 ≤ 32) (hv : v = t0 + 256 * t1 + 65536 * t2 + 16777216 * t3 + 4294967296 * Y) : v / 4294967296 = Y := by
  rw [hv, dv (by omega)]
theorem fold_m {t K : Nat} (h : t ≤ 64) : (t + 256 * K) % 128 = t := by omega
/-- the last steps: the bytes' counts come together -/
theorem fold_n {a0 a1 a2 a3 a4 a5 a6 a7 z : Nat} (h0 : a0 ≤ 8) (h1 : a1 ≤ 8) (h2 : a2 ≤ 8) (h3 : a3 ≤ 8) (h4 : a4 ≤ 8) (h5 : a5 ≤ 8) (h6 : a6 ≤ 8) (h7 : a7 ≤ 8) (hz : z = a0 + 256 * (a1 + 256 * (a2 + 256 * (a3 + 256 * (a4 + 256 * (a5 + 256 * (a6 + 256 * a7))))))) : z < 2 ^ 60 ∧ z + z / 256 < 2 ^ 61 ∧ ((z + z / 256) + (z + z / 256) / 65536) < 2 ^ 62 ∧ (((z + z / 256) + (z + z / 256) / 65536) + ((z + z / 256) + (z + z / 256) / 65536) / 4294967296) % 128 = a0 + (a1 + (a2 + (a3 + (a4 + (a5 + (a6 + a7)))))) := by
  have e1 := fold_a h0 h1 h2 h3 h4 h5 h6 h7 hz
  obtain ⟨q1, hq1⟩ : ∃ q1, q1 = z / 256 := ⟨_, rfl⟩
  rw [← hq1] at e1 ⊢
  obtain ⟨w, hw⟩ : ∃ w, w = z + q1 := ⟨_, rfl⟩
  rw [← hw]
  have e2 : w / 65536 = (a2 + a3) + 256 * ((a3 + a4) + 256 * ((a4 + a5) + 256 * ((a5 + a6) + 256 * ((a6 + a7) + 256 * a7)))) := fold_b (s0 := a0 + a1) (s1 := a1 + a2) (by omega) (by omega) (by clear hq1; omega)
  obtain ⟨q2, hq2⟩ : ∃ q2, q2 = w / 65536 := ⟨_, rfl⟩
  rw [← hq2] at e2 ⊢
  obtain ⟨v, hv⟩ : ∃ v, v = w + q2 := ⟨_, rfl⟩
  rw [← hv]
  have e3 : v / 4294967296 = (a4 + a5 + a6 + a7) + 256 * ((a5 + a6 + a7) + 256 * ((a6 + a7) + 256 * a7)) := fold_c (t0 := a0 + a1 + a2 + a3) (t1 := a1 + a2 + a3 + a4) (t2 := a2 + a3 + a4 + a5) (t3 := a3 + a4 + a5 + a6) (by omega) (by omega) (by omega) (by omega) (by clear hq1 hq2; omega)
  obtain ⟨q3, hq3⟩ : ∃ q3, q3 = v / 4294967296 := ⟨_, rfl⟩
  rw [← hq3] at e3 ⊢
  clear hq1 hq2 hq3
  refine ⟨by omega, by omega, by omega, ?_⟩
  rw [show v + q3 = (a0 + (a1 + (a2 + (a3 + (a4 + (a5 + (a6 + a7))))))) + 256 * ((a1 + a2 + a3 + a4 + a5 + a6 + a7) + 256 * ((a2 + a3 + a4 + a5 + a6 + a7) + 256 * ((a3 + a4 + a5 + a6 + a7) + 256 * ((a4 + a5 + a6 + a7) + 256 * ((a5 + a6 + a7) + 256 * ((a6 + a7) + 256 * a7)))))) by omega]
  exact fold_m (by omega)
theorem fold8 (n : Nat) : bv 8 n < 2 ^ 60 ∧ bv 8 n + bv 8 n / 256 < 2 ^ 61 ∧ ((bv 8 n + bv 8 n / 256) + (bv 8 n + bv 8 n / 256) / 65536) < 2 ^ 62 ∧ (((bv 8 n + bv 8 n / 256) + (bv 8 n + bv 8 n / 256) / 65536) + ((bv 8 n + bv 8 n / 256) + (bv 8 n + bv 8 n / 256) / 65536) / 4294967296) % 128 = bs 8 n := by
  have h := fold_n (b8_le n) (b8_le (n / 256)) (b8_le (n / 256 / 256)) (b8_le (n / 256 / 256 / 256)) (b8_le (n / 256 / 256 / 256 / 256)) (b8_le (n / 256 / 256 / 256 / 256 / 256)) (b8_le (n / 256 / 256 / 256 / 256 / 256 / 256)) (b8_le (n / 256 / 256 / 256 / 256 / 256 / 256 / 256)) (z := bv 8 n) (by simp only [bv, Nat.add_zero, Nat.mul_zero])
  refine ⟨h.1, h.2.1, h.2.2.1, h.2.2.2.trans ?_⟩
  simp only [bs, Nat.add_zero]
theorem mk85 : (6148914691236517205 : Int64) = lN (MK 85 8) := by decide +kernel
theorem mk51 : (3689348814741910323 : Int64) = lN (MK 51 8) := by decide +kernel
theorem mk15 : (1085102592571150095 : Int64) = lN (MK 15 8) := by decide +kernel
theorem mk51b : 2 * MK 51 8 < 2 ^ 63 := by decide +kernel
theorem bc_spec (x : Int64) : fJ3_bitCount x = some (nI (pc x.toBitVec.toNat 64)) := by
  obtain ⟨n, hn, rfl⟩ := wb_of x
  rw [lN_nat hn]
  have s1 := wb_shr (n := n) (k := 1) hn (by decide)
  have g1 : (lN n - (((lN n).toUInt64 >>> (((1 : Int32)).toInt64.toUInt64 &&& Int64.toUInt64 63)).toInt64 &&& (6148914691236517205 : Int64))) = lN (y1 8 n) := by
    rw [show (1 : Int32) = nI 1 from rfl, s1, mk85, fb_andL, lN_sub (Nat.le_trans (land_le_l _ _) (Nat.div_le_self _ _))]; rfl
  have b1 : y1 8 n < 2 ^ 64 := Nat.lt_of_le_of_lt (Nat.sub_le _ _) hn
  have s2 := wb_shr (n := y1 8 n) (k := 2) b1 (by decide)
  have g2 : ((lN (y1 8 n) &&& (3689348814741910323 : Int64)) + (((lN (y1 8 n)).toUInt64 >>> (((2 : Int32)).toInt64.toUInt64 &&& Int64.toUInt64 63)).toInt64 &&& (3689348814741910323 : Int64))) = lN (y2 8 (y1 8 n)) := by
    rw [show (2 : Int32) = nI 2 from rfl, s2, mk51, fb_andL, fb_andL, lN_add]; rfl
  have b2 : y2 8 (y1 8 n) < 2 ^ 63 := by
    have h1 : y1 8 n &&& MK 51 8 ≤ MK 51 8 := Nat.and_le_right
    have h2 : y1 8 n / 4 &&& MK 51 8 ≤ MK 51 8 := Nat.and_le_right
    have h3 := mk51b
    unfold y2
    omega
  have s3 := wb_shr (n := y2 8 (y1 8 n)) (k := 4) (by omega) (by decide)
  have g3 : ((lN (y2 8 (y1 8 n)) + ((lN (y2 8 (y1 8 n))).toUInt64 >>> (((4 : Int32)).toInt64.toUInt64 &&& Int64.toUInt64 63)).toInt64) &&& (1085102592571150095 : Int64)) = lN (bv 8 n) := by
    rw [show (4 : Int32) = nI 4 from rfl, s3, mk15, lN_add, fb_andL]
    have h := yy_bv 8 n (by rw [show (256 : Nat) ^ 8 = 2 ^ 64 from rfl]; exact hn)
    rw [← h]; rfl
  obtain ⟨f1, f2, f3, f4⟩ := fold8 n
  have s4 := wb_shr (n := bv 8 n) (k := 8) (by omega) (by decide)
  have s5 := wb_shr (n := bv 8 n + bv 8 n / 256) (k := 16) (by omega) (by decide)
  have s6 := wb_shr (n := (bv 8 n + bv 8 n / 256) + (bv 8 n + bv 8 n / 256) / 65536) (k := 32) (by omega) (by decide)
  unfold fJ3_bitCount
  simp only [Option.bind_some]
  rw [g1, g2, g3, show (8 : Int32) = nI 8 from rfl, s4, lN_add, show (2 : Nat) ^ 8 = 256 from rfl, show (16 : Int32) = nI 16 from rfl, s5, lN_add, show (2 : Nat) ^ 16 = 65536 from rfl, show (32 : Int32) = nI 32 from rfl, s6, lN_add, show (2 : Nat) ^ 32 = 4294967296 from rfl]
  have ht : ∀ z : Nat, (lN z).toInt32 = nI z := fun z => Int64.toInt32_ofNat
  rw [ht, show (127 : Int32) = nI 127 from rfl, nx_and, show (127 : Nat) = 2 ^ 7 - 1 from rfl, Nat.and_two_pow_sub_one_eq_mod, show (2 : Nat) ^ 7 = 128 from rfl, f4, bs_pc]
