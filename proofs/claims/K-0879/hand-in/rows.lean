section
/-- both objects hold the same four fields, and the combo lies in 0 .. 20 -/
def i_Rel (_ : Nat) (u : SX) (v : SY) : Prop := ∃ (s : Int64) (l : Int32) (c : Nat) (b : Int32), c ≤ 20 ∧ u = (s, l, nI c, b) ∧ v = (s, l, nI c, b)
theorem i_up {k : Nat} {u : SX} {v : SY} (h : i_Rel k u v) : i_Rel (k + 2) u v := h
theorem i_vc0 : wpX_init (fun u => wpY_init (fun v => i_Rel 0 u v)) := ⟨0, 0, 0, 0, Nat.zero_le _, rfl, rfl⟩

/-- the combo behind a clear -/
def ls_nx (c : Nat) : Nat := if c < 20 then c + 1 else 20
/-- the points of a clear -/
def ls_pt (x2 : Int32) (c : Nat) (l : Int32) : Int32 := (x2 + (50 * nI c)) * ((l / 10) + 1)
theorem ls_nxl (c : Nat) : ls_nx c ≤ 20 := by
  unfold ls_nx; split <;> omega
theorem ls_20 : nI 20 = 20 := by decide +kernel
theorem ls_cast {c : Nat} (h : c ≤ 20) : (nI c + 1).toInt8.toInt32 = nI (c + 1) := by
  have H : ∀ d : Fin 21, (nI d.val + 1).toInt8.toInt32 = nI (d.val + 1) := by decide +kernel
  exact H ⟨c, by omega⟩
theorem ls_nb (z : Int32) : narrow .byte (.int z.toInt8.toInt32) = .int z.toInt8.toInt32 := congrArg Value.int (by simp)
theorem ls_fb {c : Nat} (h : c ≤ 20) : fits .byte (.int (nI (c + 1))) = true := by
  have H : ∀ d : Fin 21, fits .byte (.int (nI (d.val + 1))) = true := by decide +kernel
  exact H ⟨c, by omega⟩
theorem ls_bz {z : Int32} (h : z = 0 ∨ z = 1) : narrow .boolean (.int z) = .int z ∧ fits .boolean (.int z) = true := by
  rcases h with rfl | rfl
  · exact ⟨rfl, by decide +kernel⟩
  · exact ⟨rfl, by decide +kernel⟩
theorem ls_10 : ¬ (10 : Int32) = 0 := by decide
theorem ls_2 : ¬ (2 : Int32) = 0 := by decide

theorem ls_x112 {post : Int32 → SX → Prop} {x1 x2 : Int32} {c : Nat} {s : Int64} {l d z : Int32} (h : post (ls_pt x2 c l) (s + (ls_pt x2 c l).toInt64, l + x1, d, z)) : wX_cleared_112 post x1 x2 (nI c) s l d z := by
  refine ⟨ls_10, ?_⟩
  intro y ey m em t et
  subst ey
  subst em
  subst et
  exact h
theorem ls_y132 {post : Int32 → SY → Prop} {x1 x2 : Int32} {c : Nat} {s : Int64} {l d z : Int32} (h : post (ls_pt x2 c l) (s + (ls_pt x2 c l).toInt64, l + x1, d, z)) : wY_cleared_132 post x1 x2 (nI c) s l d z := by
  refine ⟨ls_10, ?_⟩
  intro y ey m em t et
  subst ey
  subst em
  subst et
  exact h
theorem ls_x90 {post : Int32 → SX → Prop} {x1 x2 z : Int32} {c : Nat} {s : Int64} {l b : Int32} (hc : c ≤ 20) (hz : z = 0 ∨ z = 1) (h : post (ls_pt x2 c l) (s + (ls_pt x2 c l).toInt64, l + x1, nI (ls_nx c), z)) : wX_cleared_90 post x1 x2 z s l (nI c) b := by
  obtain ⟨h1, h2⟩ := ls_bz hz
  refine ⟨h1, h2, ?_⟩
  by_cases q : c < 20
  · have hq : ¬ (20 : Int32) ≤ nI c := by rw [← ls_20]; exact nI_ge q (by decide)
    have e : ls_nx c = c + 1 := if_pos q
    rw [e] at h
    refine br_f hq ?_
    intro y ey
    have ey' : y = nI (c + 1) := ey.trans (ls_cast hc)
    refine ⟨by rw [ey]; exact ls_nb _, by rw [ey']; exact ls_fb hc, ?_⟩
    rw [ey']
    exact ls_x112 h
  · have hq : (20 : Int32) ≤ nI c := by rw [← ls_20]; exact nI_le (by omega) (by omega)
    have e : ls_nx c = c := (if_neg q).trans (by omega)
    rw [e] at h
    exact br_t hq (ls_x112 h)
theorem ls_y101 {post : Int32 → SY → Prop} {x1 x2 z : Int32} {c : Nat} {s : Int64} {l b : Int32} (hc : c ≤ 20) (hz : z = 0 ∨ z = 1) (h : post (ls_pt x2 c l) (s + (ls_pt x2 c l).toInt64, l + x1, nI (ls_nx c), z)) : wY_cleared_101 post x1 x2 z s l (nI c) b := by
  obtain ⟨h1, h2⟩ := ls_bz hz
  refine ⟨h1, h2, ?_⟩
  intro y ey
  have ey' : y = nI (c + 1) := ey.trans (ls_cast hc)
  refine ⟨by rw [ey]; exact ls_nb _, by rw [ey']; exact ls_fb hc, ?_⟩
  rw [ey']
  by_cases q : c < 20
  · have hq : nI (c + 1) ≤ (20 : Int32) := by rw [← ls_20]; exact nI_le (by omega) (by decide)
    have e : ls_nx c = c + 1 := if_pos q
    rw [e] at h
    exact br_t hq (ls_y132 h)
  · have hq : ¬ nI (c + 1) ≤ (20 : Int32) := by rw [← ls_20]; exact nI_ge (by omega) (by omega)
    have e : ls_nx c = 20 := if_neg q
    rw [e, ls_20] at h
    exact br_f hq (ls_y132 h)

/-- one outcome r, w for both sides, whatever is asked of it -/
def ls_Both (x1 x2 : Int32) (s : Int64) (l : Int32) (c : Nat) (b : Int32) : Prop := ∃ (r : Int32) (s' : Int64) (l' : Int32) (c' : Nat) (b' : Int32), c' ≤ 20 ∧ (∀ post : Int32 → SX → Prop, post r (s', l', nI c', b') → wX_cleared_61 post x1 x2 s l (nI c) b) ∧ (∀ post : Int32 → SY → Prop, post r (s', l', nI c', b') → wY_cleared_72 post x1 x2 s l (nI c) b)
theorem ls_both (x1 x2 : Int32) (s : Int64) (l : Int32) (c : Nat) (b : Int32) (hc : c ≤ 20) : ls_Both x1 x2 s l c b := by
  by_cases h4 : x1 = 4
  · by_cases hb : b = 0
    · exact ⟨ls_pt x2 c l, s + (ls_pt x2 c l).toInt64, l + x1, ls_nx c, 1, ls_nxl c,
        fun post h => br_t h4 (br_t hb (br_t h4 (ls_x90 hc (Or.inr rfl) h))),
        fun post h => br_t h4 (br_t hb (br_t h4 (ls_y101 hc (Or.inr rfl) h)))⟩
    · exact ⟨ls_pt ((x2 * 3) / 2) c l, s + (ls_pt ((x2 * 3) / 2) c l).toInt64, l + x1, ls_nx c, 1, ls_nxl c,
        fun post h => br_t h4 (br_f hb ⟨ls_2, nm_e (br_t h4 (ls_x90 hc (Or.inr rfl) h))⟩),
        fun post h => br_t h4 (br_f hb ⟨ls_2, nm_e (br_t h4 (ls_y101 hc (Or.inr rfl) h))⟩)⟩
  · exact ⟨ls_pt x2 c l, s + (ls_pt x2 c l).toInt64, l + x1, ls_nx c, 0, ls_nxl c,
      fun post h => br_f h4 (br_f h4 (ls_x90 hc (Or.inl rfl) h)),
      fun post h => br_f h4 (br_f h4 (ls_y101 hc (Or.inl rfl) h))⟩

theorem i_vc_cleared {k : Nat} {u : SX} {v : SY} (I : i_Rel k u v) (hk : k + 2 ≤ 1024) (v1 : Int32) : wpX_cleared (fun r u' => wpY_cleared (fun r' v' => r' = r ∧ i_Rel (k + 2) u' v') v v1) u v1 := by
  obtain ⟨s, l, c, b, hc, rfl, rfl⟩ := I
  by_cases h0 : v1 < 0
  · exact br_t h0 (br_t h0 ⟨rfl, s, l, c, b, hc, rfl, rfl⟩)
  · by_cases h4 : v1 ≤ 4
    · by_cases hz : v1 = 0
      · exact br_f h0 (br_t h4 (br_t hz (br_f h0 (br_t h4 (br_t hz ⟨rfl, s, l, 0, b, Nat.zero_le _, rfl, rfl⟩)))))
      · obtain ⟨j, hj, ej⟩ := nI_of2 (M := 4) (n := 4) (by decide) h0 h4
        have j0 : j ≠ 0 := fun z => hz (by rw [ej, z]; rfl)
        have hl1 : ¬ v1 < 1 := by
          rw [ej]; exact nI_nlt (a := j) (b := 1) (by omega) (by omega)
        refine br_f h0 (br_t h4 (br_f hz ?_))
        by_cases e1 : v1 = 1
        · obtain ⟨r, s', l', c', b', hc', hX, hY⟩ := ls_both v1 100 s l c b hc
          have h3 : ¬ (3 : Int32) < v1 := by rw [e1]; decide
          exact br_t e1 (hX _ (br_f h0 (br_t h4 (br_f hz (br_f hl1 (br_f h3 (br_t e1 (hY _ ⟨rfl, s', l', c', b', hc', rfl, rfl⟩))))))))
        · by_cases e2 : v1 = 2
          · obtain ⟨r, s', l', c', b', hc', hX, hY⟩ := ls_both v1 300 s l c b hc
            have h3 : ¬ (3 : Int32) < v1 := by rw [e2]; decide
            exact br_f e1 (br_t e2 (hX _ (br_f h0 (br_t h4 (br_f hz (br_f hl1 (br_f h3 (br_f e1 (br_t e2 (hY _ ⟨rfl, s', l', c', b', hc', rfl, rfl⟩))))))))))
          · by_cases e3 : v1 = 3
            · obtain ⟨r, s', l', c', b', hc', hX, hY⟩ := ls_both v1 500 s l c b hc
              have h3 : ¬ (3 : Int32) < v1 := by rw [e3]; decide
              exact br_f e1 (br_f e2 (br_t e3 (hX _ (br_f h0 (br_t h4 (br_f hz (br_f hl1 (br_f h3 (br_f e1 (br_f e2 (br_t e3 (hY _ ⟨rfl, s', l', c', b', hc', rfl, rfl⟩))))))))))))
            · obtain ⟨r, s', l', c', b', hc', hX, hY⟩ := ls_both v1 800 s l c b hc
              have j1 : j ≠ 1 := fun z => e1 (by rw [ej, z]; rfl)
              have j2 : j ≠ 2 := fun z => e2 (by rw [ej, z]; rfl)
              have j3 : j ≠ 3 := fun z => e3 (by rw [ej, z]; rfl)
              have h3 : (3 : Int32) < v1 := by
                rw [ej]; exact nI_lt (a := 3) (b := j) (by omega) (by omega)
              exact br_f e1 (br_f e2 (br_f e3 (hX _ (br_f h0 (br_t h4 (br_f hz (br_f hl1 (br_t h3 (hY _ ⟨rfl, s', l', c', b', hc', rfl, rfl⟩)))))))))
    · exact br_f h0 (br_f h4 (br_f h0 (br_f h4 ⟨rfl, s, l, c, b, hc, rfl, rfl⟩)))
theorem i_vc_level {k : Nat} {u : SX} {v : SY} (I : i_Rel k u v) (hk : k + 2 ≤ 1024) : wpX_level (fun r => wpY_level (fun r' => r' = r ∧ i_Rel (k + 2) u v) v) u := by
  obtain ⟨s, l, c, b, hc, rfl, rfl⟩ := I
  exact ⟨ls_10, ls_10, rfl, s, l, c, b, hc, rfl, rfl⟩
theorem i_vc_score {k : Nat} {u : SX} {v : SY} (I : i_Rel k u v) (hk : k + 2 ≤ 1024) : wpX_score (fun r => wpY_score (fun r' => r' = r ∧ i_Rel (k + 2) u v) v) u := by
  obtain ⟨s, l, c, b, hc, rfl, rfl⟩ := I
  exact ⟨rfl, s, l, c, b, hc, rfl, rfl⟩
end
