section
/-! Pure facts on small ints: the window number is below 8, the count at most 6, the register at most 11. -/
theorem rg_cnt : ∀ d, d < 7 → (nI d = 6 ↔ d = 6) ∧ (nI d < 6 ↔ d ≠ 6) ∧ (nI d = 0 ↔ d = 0) ∧ (0 < nI d ↔ d ≠ 0) := by decide +kernel
theorem rg_save : ∀ c, c < 8 → (nI c + 7) - (nI c + 7) / 8 * 8 = nI ((c + 7) % 8) := by decide +kernel
theorem rg_rest : ∀ c, c < 8 → (nI c + 1) - (nI c + 1) / 8 * 8 = nI ((c + 1) % 8) := by decide +kernel
/-- the class's index -/
theorem rg_x : ∀ c, c < 8 → ∀ r, r < 12 → ((8 * nI c) + nI r) - ((8 * nI c) + nI r) / 64 * 64 = nI ((8 * c + r) % 64) := by decide +kernel
/-- the reference's index: an own register (below 8), and one of the next window (from 8 on) -/
theorem rg_ylo : ∀ c, c < 8 → ∀ r, r < 8 → (nI c * 8) + nI r = nI ((8 * c + r) % 64) := by decide +kernel
theorem rg_yhi : ∀ c, c < 8 → ∀ r, r < 12 → 8 ≤ r → (((nI c + 1) - (nI c + 1) / 8 * 8) * 8) + (nI r - 8) = nI ((8 * c + r) % 64) := by decide +kernel
theorem rg_cmp : ∀ r, r < 12 → ((8 : Int32) ≤ nI r ↔ 8 ≤ r) := by decide +kernel
theorem rg_8 : ¬ (8 : Int32) = 0 := by decide
theorem rg_64 : ¬ (64 : Int32) = 0 := by decide
theorem rg_11 : (11 : Int32).toInt = ((11 : Nat) : Int) := by decide
end
section
/-- the two states are one: the same window number (below 8), the same count (at most 6), the same 64 registers -/
def i_Rel (_ : Nat) (u : SX) (v : SY) : Prop := ∃ (c d : Nat) (a : Nat → Int32), c < 8 ∧ d < 7 ∧ u = (nI c, nI d, a) ∧ v = (nI c, nI d, a)
theorem rg_mk {k c d : Nat} {a : Nat → Int32} (hc : c < 8) (hd : d < 7) : i_Rel k (nI c, nI d, a) (nI c, nI d, a) := ⟨c, d, a, hc, hd, rfl, rfl⟩
theorem i_up {k : Nat} {u : SX} {v : SY} (h : i_Rel k u v) : i_Rel (k + 3) u v := h
theorem i_vc0 : wpX_init (fun u => wpY_init (fun v => i_Rel 0 u v)) := ⟨0, 0, fun _ => 0, by decide, by decide, rfl, rfl⟩
theorem i_vc_save {k : Nat} {u : SX} {v : SY} (I : i_Rel k u v) (hk : k + 3 ≤ 1536) : wpX_save (fun r u' => wpY_save (fun r' v' => r' = r ∧ i_Rel (k + 3) u' v') v) u := by
  obtain ⟨c, d, a, hc, hd, rfl, rfl⟩ := I
  obtain ⟨e6, l6, -, -⟩ := rg_cnt d hd
  unfold wpX_save wpY_save
  dsimp only
  by_cases h : d = 6
  · exact br_t (e6.mpr h) (br_f (fun z => l6.mp z h) ⟨rfl, rg_mk hc hd⟩)
  · refine br_f (fun z => h (e6.mp z)) ⟨rg_8, nm_r (rg_save c hc) (nm_r (nI_1 d) ?_)⟩
    refine br_t (l6.mpr h) ⟨rg_8, nm_r (rg_save c hc) (nm_r (nI_1 d) ?_)⟩
    exact ⟨nI_1 d, rg_mk (by omega) (by omega)⟩
theorem i_vc_restore {k : Nat} {u : SX} {v : SY} (I : i_Rel k u v) (hk : k + 3 ≤ 1536) : wpX_restore (fun r u' => wpY_restore (fun r' v' => r' = r ∧ i_Rel (k + 3) u' v') v) u := by
  obtain ⟨c, d, a, hc, hd, rfl, rfl⟩ := I
  obtain ⟨-, -, e0, l0⟩ := rg_cnt d hd
  unfold wpX_restore wpY_restore
  dsimp only
  by_cases h : d = 0
  · exact br_t (e0.mpr h) (br_f (fun z => l0.mp z h) ⟨rfl, rg_mk hc hd⟩)
  · obtain ⟨j, rfl⟩ : ∃ j, d = j + 1 := ⟨d - 1, by omega⟩
    refine br_f (fun z => h (e0.mp z)) ⟨rg_8, nm_r (rg_rest c hc) (nm_r (nI_pred j) ?_)⟩
    refine br_t (l0.mpr h) ⟨rg_8, nm_r (rg_rest c hc) (nm_r (nI_pred j) ?_)⟩
    exact ⟨nI_pred j, rg_mk (by omega) (by omega)⟩
theorem i_vc_read {k : Nat} {u : SX} {v : SY} (I : i_Rel k u v) (hk : k + 3 ≤ 1536) (v1 : Int32) : wpX_read (fun r => wpY_read (fun r' => r' = r ∧ i_Rel (k + 3) u v) v v1) u v1 := by
  obtain ⟨c, d, a, hc, hd, rfl, rfl⟩ := I
  unfold wpX_read wpY_read
  dsimp only
  by_cases h0 : v1 < 0
  · exact br_t h0 (br_t h0 ⟨rfl, rg_mk hc hd⟩)
  · by_cases h1 : v1 ≤ 11
    · obtain ⟨j, hj, rfl⟩ := nI_of2 rg_11 h0 h1
      have hi : (8 * c + j) % 64 < 64 := by omega
      have hv : vp_in (nI ((8 * c + j) % 64)) 64 := vp_in_nI hi (by omega)
      rw [rg_x c hc j (by omega)]
      refine br_f h0 (br_t h1 ⟨rg_64, hv, br_f h0 (br_t h1 ?_)⟩)
      by_cases h8 : 8 ≤ j
      · rw [rg_yhi c hc j (by omega) h8]
        exact br_t ((rg_cmp j (by omega)).mpr h8) ⟨rg_8, hv, rfl, rg_mk hc hd⟩
      · rw [rg_ylo c hc j (by omega)]
        exact br_f (fun z => h8 ((rg_cmp j (by omega)).mp z)) ⟨hv, rfl, rg_mk hc hd⟩
    · exact br_f h0 (br_f h1 (br_f h0 (br_f h1 ⟨rfl, rg_mk hc hd⟩)))
theorem i_vc_write {k : Nat} {u : SX} {v : SY} (I : i_Rel k u v) (hk : k + 3 ≤ 1536) (v1 : Int32) (v2 : Int32) : wpX_write (fun r u' => wpY_write (fun r' v' => r' = r ∧ i_Rel (k + 3) u' v') v v1 v2) u v1 v2 := by
  obtain ⟨c, d, a, hc, hd, rfl, rfl⟩ := I
  unfold wpX_write wpY_write
  dsimp only
  by_cases h0 : v1 < 0
  · exact br_t h0 (br_t h0 ⟨rfl, rg_mk hc hd⟩)
  · by_cases h1 : v1 ≤ 11
    · obtain ⟨j, hj, rfl⟩ := nI_of2 rg_11 h0 h1
      have hi : (8 * c + j) % 64 < 64 := by omega
      have hv : vp_in (nI ((8 * c + j) % 64)) 64 := vp_in_nI hi (by omega)
      rw [rg_x c hc j (by omega)]
      refine br_f h0 (br_t h1 ⟨rg_64, hv, nm_e (br_f h0 (br_t h1 ?_))⟩)
      by_cases h8 : 8 ≤ j
      · rw [rg_yhi c hc j (by omega) h8]
        exact br_t ((rg_cmp j (by omega)).mpr h8) ⟨rg_8, hv, nm_e ⟨rfl, rg_mk hc hd⟩⟩
      · rw [rg_ylo c hc j (by omega)]
        exact br_f (fun z => h8 ((rg_cmp j (by omega)).mp z)) ⟨hv, nm_e ⟨rfl, rg_mk hc hd⟩⟩
    · exact br_f h0 (br_f h1 (br_f h0 (br_f h1 ⟨rfl, rg_mk hc hd⟩)))
end
