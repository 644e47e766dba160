/-! backward -/
set_option maxRecDepth 100000
theorem searchBack_spec {rs : RS} {b : Nat → Bool} {n p : Nat} {D : Int} (hb : ∀ p, p < 128 → rbit rs p = b p) (hn : n ≤ 128) (hS : Sums rs b n) (hD : -2147483648 ≤ D ∧ D < 2147483648) (hp : p ≤ n) : ∃ r, fX0_searchBack rs (nI p) (iZ D) = some r ∧ Last b D p r := by
  unfold fX0_searchBack
  by_cases h : p = 0
  · subst h
    rw [if_pos (show nI 0 = (0 : Int32) from rfl)]
    exact ⟨-4, rfl, Or.inl ⟨rfl, fun q hq => by omega⟩⟩
  · rw [if_neg (nI_nz (by omega) (by omega)), show nI p - (1 : Int32) = nI (p - 1) from nI_subN (c := 1) (by omega), show (16 : Int32) = nI 16 from rfl, nI_div (by omega) (by omega) (by omega)]
    simp only [bsm]
    rw [excess_spec hb (by omega)]
    simp only [bsm]
    rw [nI_mul]
    obtain ⟨r, g1, g2⟩ := backInBlock_loop (p := p) (g := 16 * ((p - 1) / 16)) hb hD (nI p) (iZ (ex b p)) _ p FU rfl (by omega) (by omega) (Nat.le_refl _) (by unfold FU; omega) (fun j j1 j2 _ => by omega)
    unfold fX0_backInBlock
    rw [g1]
    simp only [bsm]
    rcases g2 with ⟨c1, c2⟩ | ⟨q, c1, c2, c3, c4, c5, c6⟩
    · rw [if_pos c1]
      by_cases hy : (p - 1) / 16 = 0
      · rw [hy, if_pos (show nI 0 = (0 : Int32) from rfl)]
        refine ⟨r, rfl, Or.inl ⟨c1, fun q hq => c2 q (by omega) hq (by omega)⟩⟩
      · rw [if_neg (nI_nz (by omega) (by omega)), excess_spec hb (by omega)]
        simp only [bsm]
        rw [show (8 : Int32) = nI 8 from rfl, nI_add]
        have e : blo (8 + (p - 1) / 16) = (p - 1) / 16 := by rw [(bl_8 (k := 8 + (p - 1) / 16) (by omega)).1]; omega
        rw [← e] at c2 ⊢
        rw [show 8 + blo (8 + (p - 1) / 16) = 8 + (p - 1) / 16 by rw [e]]
        exact bclimb_spec hb hn hp hS hD _ (8 + (p - 1) / 16) FU (by omega) (by omega) (by unfold FU; omega) (by rw [e]; omega) (fun j j1 j2 => c2 j (by omega) j2 (Or.inl (by omega)))
    · rw [c6, if_neg (m4_ne (by omega))]
      exact ⟨_, rfl, Or.inr ⟨q, c1, c4, c5, rfl⟩⟩
