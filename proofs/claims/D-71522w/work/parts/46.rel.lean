/-! WHAT STANDS BETWEEN THE TREE AND ITS MODEL -/
set_option maxRecDepth 100000
/-- excess: how many more are open than shut, ahead of a place -/
def ex (b : Nat → Bool) : Nat → Int
  | 0 => 0
  | p + 1 => ex b p + (if b p then 1 else -1)
def Tree (b : Nat → Bool) (n : Nat) : Prop := ex b n = 0 ∧ ∀ p : Nat, 0 < p → p < n → 0 < ex b p
def rbit (rs : RS) (p : Nat) : Bool := (rW rs (p / 64)).toBitVec.getLsbD (p % 64)
/-- the blocks below a place of the heap -/
def blo (k : Nat) : Nat := match k with | 1 => 0 | 2 => 0 | 3 => 4 | 4 => 0 | 5 => 2 | 6 => 4 | 7 => 6 | k => k - 8
def bhi (k : Nat) : Nat := match k with | 1 => 8 | 2 => 4 | 3 => 8 | 4 => 2 | 5 => 4 | 6 => 6 | 7 => 8 | k => k - 7
/-- a summary of places lo to hi: gain, least, most behind any -/
def SumOf (b : Nat → Bool) (lo hi : Nat) (g l h : Int) : Prop := g = ex b hi - ex b lo ∧ (hi ≤ lo → l = 1000 ∧ h = -1000) ∧ (lo < hi → (∀ p : Nat, lo < p → p ≤ hi → l ≤ ex b p - ex b lo ∧ ex b p - ex b lo ≤ h) ∧ (∃ p : Nat, lo < p ∧ p ≤ hi ∧ ex b p - ex b lo = l) ∧ ∃ p : Nat, lo < p ∧ p ≤ hi ∧ ex b p - ex b lo = h)
def Sums (rs : RS) (b : Nat → Bool) (n : Nat) : Prop := ∀ k : Nat, 0 < k → k < 16 → SumOf b (min n (16 * blo k)) (min n (16 * bhi k)) (rG rs k).toInt (rL rs k).toInt (rH rs k).toInt
def XRow (rs : RS) (b : Nat → Bool) (m : Nat) : Prop := m ≤ 64 ∧ rP rs = nI (2 * m) ∧ (∀ p : Nat, p < 128 → rbit rs p = b p) ∧ (∀ p : Nat, 2 * m ≤ p → b p = false) ∧ Tree b (2 * m) ∧ Sums rs b (2 * m)
def MRow (st : Nat → Int32) (b : Nat → Bool) (m : Nat) : Prop := st 192 = nI m ∧ ∀ p : Nat, p < 2 * m → st p = if b p then 1 else 0
def RPage (rs : RS) (st : Nat → Int32) : Prop := ∃ (b : Nat → Bool) (m : Nat), XRow rs b m ∧ MRow st b m ∧ ∀ v : Nat, v < m → rT rs v = st (128 + v) ∧ 0 ≤ rT rs v
def RImg (xi : Nat → Int32) (r0 r1 : RS) (st ik : Nat → Int32) : Prop := ∃ k0 k1 : Nat, k0 < 2 ∧ k1 < 2 ∧ xi 0 = nI (k0 + 2 * k1) ∧ ik 0 = nI k0 ∧ ik 1 = nI k1 ∧ (k0 = 1 → RPage r0 (fun i => st (193 + i))) ∧ (k1 = 1 → RPage r1 (fun i => st (386 + i)))
def RTape (xi tp mi tm : Nat → Int32) : Prop := ∃ n : Nat, n ≤ 160 ∧ xi 6 = nI n ∧ mi 0 = nI n ∧ ∀ q : Nat, q < 160 → tp q = tm q ∧ 0 ≤ tp q ∧ tp q ≤ 127
def RSheet (kd sn : Nat → Nat) (sf : Nat → Nat → Int32) (sg : Nat → Nat → Int64) (ln lg : Nat → Int32) (ce : Nat → Int64) (j : Nat) : Prop := kd j < 4 ∧ sn j ≤ 40 ∧ (kd j = 0 → ln j = -4) ∧ (0 < kd j → ln j = nI (kd j - 1) ∧ lg j = nI (sn j)) ∧ (kd j = 1 → ∀ i : Nat, i < sn j → ce (40 * j + i) = (sf j i).toInt64 ∧ (sf j i).toInt8.toInt32 = sf j i) ∧ (kd j = 2 → ∀ i : Nat, i < sn j → ce (40 * j + i) = (sf j i).toInt64) ∧ (kd j = 3 → ∀ i : Nat, i < sn j → ce (40 * j + i) = sg j i)
def Rel (xi : Nat → Int32) (rs r0 r1 rt : RS) (tp : Nat → Int32) (kd sn : Nat → Nat) (sf : Nat → Nat → Int32) (sg : Nat → Nat → Int64) (mi st tm ik ln lg : Nat → Int32) (ce : Nat → Int64) : Prop :=
  RPage rs st ∧ RImg xi r0 r1 st ik ∧ (∀ v : Nat, v < 64 → rT rt v = 0) ∧ RTape xi tp mi tm ∧ xi 7 = mi 1 ∧ xi 8 = mi 8 ∧ ∀ j : Nat, j < 4 → RSheet kd sn sf sg ln lg ce j
def updF {α : Type} (f : Nat → α) (j : Nat) (x : α) : Nat → α := fun i => if i = j then x else f i
theorem updF_same {α : Type} {f : Nat → α} {j : Nat} {x : α} : updF f j x j = x := by unfold updF; rw [if_pos rfl]
theorem updF_other {α : Type} {f : Nat → α} {j i : Nat} {x : α} (h : i ≠ j) : updF f j x i = f i := by unfold updF; rw [if_neg h]
