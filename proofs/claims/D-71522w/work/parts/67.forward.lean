/-! forward -/
set_option maxRecDepth 100000
theorem op_9 {xi : Nat → Int32} {rs r0 r1 rt : RS} {tp : Nat → Int32} {kd sn : Nat → Nat} {sf : Nat → Nat → Int32} {sg : Nat → Nat → Int64} {mi st tm ik ln lg : Nat → Int32} {ce : Nat → Int64} (hR : Rel xi rs r0 r1 rt tp kd sn sf sg mi st tm ik ln lg ce) (a1 : Int32) (a2 : Int32) : ∃ (r : Int32), fX0_forward rs a1 a2 = some r ∧ fX3_forward st a1 a2 = some r ∧ Rel xi rs r0 r1 rt tp kd sn sf sg mi st tm ik ln lg ce := by
  obtain ⟨b, m, ⟨hm, hP, hb, hz, hT, hS⟩, ⟨hs, hp⟩, hW⟩ := hR.1
  unfold fX0_forward fX3_forward
  rcases isMark_both hP hm hs a1 with ⟨h1, h2⟩ | ⟨p, hp2, rfl, h1, h2⟩
  · exact ⟨-1, by rw [h1]; simp only [bsm]; rw [if_pos trivial], by rw [h2]; simp only [bsm]; rw [if_pos trivial], hR⟩
  · rw [h1, h2]
    simp only [bsm]
    rw [if_neg one_nz, if_neg one_nz, nI_1]
    have hD := fb_rng a2
    obtain ⟨D, hd⟩ : ∃ D : Int, D = a2.toInt := ⟨_, rfl⟩
    have ha : a2 = iZ D := by rw [hd]; exact iZ_of a2
    rw [← hd] at hD
    rw [ha]
    clear ha hd
    obtain ⟨r, g1, g2⟩ := searchOn_spec (D := D) hb hP (by omega) hS hD hp2
    obtain ⟨r', g3, g4⟩ := forwardM_loop (D := D) hs hm hp hD (nI p) (p := p) _ (p + 1) FU rfl (by omega) (by omega) (by unfold FU; omega) (fun j j1 j2 => by omega)
    have e := First.uniq g2 g4
    subst e
    exact ⟨r, by rw [g1]; simp only [bsm], g3, hR⟩
