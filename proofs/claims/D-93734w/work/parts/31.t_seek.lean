/-! THE MODEL's SEARCH, pure: the moves gone through -/
set_option maxRecDepth 100000
theorem mz_b {F : mem} {w q : Int → Int} {m z : Int} (hW : wfF F) (hT : isT m) (h : (mvOk F w q m ∧ z = mvV F m) ∨ (¬ mvOk F w q m ∧ z = -1)) : -1 ≤ z ∧ z ≤ 312 := by
  have := mvV_b hW hT
  rcases h with ⟨-, h⟩ | ⟨-, h⟩ <;> rw [h] <;> omega
def QF (F : mem) (c : Int) (lab : Int → Int) (m : Int) : Prop := leg F c m → lab (nx c m) ≤ lab c + mvV F m
def QC (F : mem) (c : Int) (lab : Int → Int) (m : Int) : Prop := leg F c m → lab (nx c m) ≤ lab c + mvV F m ∧ (m / 10000 = 3 → lab (nxc c m) ≤ lab c + mvV F m)
theorem QF_w {F : mem} {c m : Int} {lab lab' : Int → Int} (hc : lab' c = lab c) (hl : ∀ x, lab' x ≤ lab x) (h : QF F c lab m) : QF F c lab' m := fun q => by
  rw [hc]; exact Int.le_trans (hl _) (h q)
theorem QC_w {F : mem} {c m : Int} {lab lab' : Int → Int} (hc : lab' c = lab c) (hl : ∀ x, lab' x ≤ lab x) (h : QC F c lab m) : QC F c lab' m := fun q => by
  rw [hc]; exact ⟨Int.le_trans (hl _) (h q).1, fun z => Int.le_trans (hl _) ((h q).2 z)⟩
theorem QF_all {F : mem} {c : Int} {lab : Int → Int} (hW : wfF F) (h : ∀ m, cand F m → QF F c lab m) : ∀ v d, EF F c v d → lab d ≤ lab c + v := fun v d ⟨m, h1, h2, h3⟩ => by
  rw [h2, h3]; exact h m (leg_cand hW h1) h1
theorem QC_all {F : mem} {c : Int} {lab : Int → Int} (hW : wfF F) (h : ∀ m, cand F m → QC F c lab m) : ∀ v d, EC F c v d → lab d ≤ lab c + v := fun v d ⟨m, h1, h2, h3⟩ => by
  have := h m (leg_cand hW h1) h1
  rw [h2]
  rcases h3 with h3 | ⟨q, h3⟩ <;> rw [h3]
  · exact this.1
  · exact this.2 q
theorem clo_c {c : Int} {w q : Int → Int} (m : Int) (h : alike w q (stW c) (stQ c)) : cdv (mvw (m / 1000 % 10) (m % 10) w) (ug (ug q 0 5) 1 5) = nxc c m := by
  have e : cdv (mvw (m / 1000 % 10) (m % 10) w) (ug (ug q 0 5) 1 5) = 125 * (6 * 5 + 5) + 25 * mvw (m / 1000 % 10) (m % 10) w 2 + 5 * mvw (m / 1000 % 10) (m % 10) w 1 + mvw (m / 1000 % 10) (m % 10) w 0 := rfl
  rw [e, mvw_at h.1, mvw_at h.2.1, mvw_at h.2.2.1]
  unfold nxc nxC nxW
  omega
