/-! LEAF METHODS (written by gen/leaf.py) -/
set_option maxRecDepth 100000
theorem ii_shr0 {a : Int} (h0 : 0 ≤ a) (h1 : a ≤ 2147483647) : ii a >>> (ii 0 &&& 31) = ii a := by
  have := ii_shr 0 (by decide) h0 h1
  simpa using this
theorem ii_shr1 {a : Int} (h0 : 0 ≤ a) (h1 : a ≤ 2147483647) : ii a >>> (ii 1 &&& 31) = ii (a / 2) := by
  have := ii_shr 1 (by decide) h0 h1
  simpa using this
theorem ii_shr2 {a : Int} (h0 : 0 ≤ a) (h1 : a ≤ 2147483647) : ii a >>> (ii 2 &&& 31) = ii (a / 4) := by
  have := ii_shr 2 (by decide) h0 h1
  simpa using this
def upper (a b : Int) : Int := if a < b then b else a
def absi (a : Int) : Int := if 0 ≤ a then a else -a
theorem ii_min {a b : Int} (ha : rg a) (hb : rg b) : (if ii b < ii a then ii b else ii a) = ii (lower a b) := by
  unfold lower
  by_cases h : b < a
  · rw [if_pos h, if_pos ((ii_lt hb ha).mpr h)]
  · rw [if_neg h, if_neg (fun q => h ((ii_lt hb ha).mp q))]
theorem ii_abs {a : Int} (ha : rg a) : (if 0 ≤ ii a then ii a else 0 - ii a) = ii (absi a) := by
  unfold absi
  by_cases h : 0 ≤ a
  · rw [if_pos h, if_pos (by rw [ii_0]; exact (ii_le rg0 ha).mpr h)]
  · rw [if_neg h, if_neg (fun q => h ((ii_le rg0 ha).mp (by rw [← ii_0]; exact q))), ii_0, ii_sub]
    congr 1
    omega
theorem mnOk_1 {F : mem} {w q : Int → Int} {st r fr to : Int} : mnOk F w q 1 st r fr to ↔ (okFar F fr to ∧ ¬ F 1 fr = 0 ∧ okGo F w st fr to 1 ∧ okRope F q r fr ∧ 2 * fs (F 2) fr to ≤ F 5 r) := by simp [mnOk]
theorem mnOk_2 {F : mem} {w q : Int → Int} {st r fr to : Int} : mnOk F w q 2 st r fr to ↔ (okFar F fr to ∧ ¬ F 1 fr = 0 ∧ okGo F w st fr to 1 ∧ okRope F q r fr ∧ fs (F 2) fr to ≤ F 5 r) := by simp [mnOk]
theorem mnOk_3 {F : mem} {w q : Int → Int} {st r fr to : Int} : mnOk F w q 3 st r fr to ↔ (okFar F fr to ∧ ¬ F 1 fr = 0 ∧ okGo F w st fr to 1 ∧ r = 0 ∧ okRope F q 0 fr ∧ okRope F q 1 fr ∧ fs (F 2) fr to ≤ F 5 0 ∧ fs (F 2) fr to ≤ F 5 1) := by simp [mnOk]
theorem mnOk_4 {F : mem} {w q : Int → Int} {st r fr to : Int} : mnOk F w q 4 st r fr to ↔ (okFar F fr to ∧ ones st = 1 ∧ okGo F w st fr to 0 ∧ okHelp F w st fr ∧ okRope F q r fr ∧ fs (F 2) fr to ≤ F 5 r) := by simp [mnOk]
theorem mnOk_5 {F : mem} {w q : Int → Int} {st r fr to : Int} : mnOk F w q 5 st r fr to ↔ (ones st = 1 ∧ r = 0 ∧ (fr - to = 1 ∨ to - fr = 1) ∧ okGo F w st fr to 1 ∧ okClimber F st ∧ ¬ F 3 (lower fr to) = 0 ∧ 0 ≤ fr ∧ fr < F 8 0) := by simp [mnOk]
theorem mnOk_6 {F : mem} {w q : Int → Int} {st r fr to : Int} : mnOk F w q 6 st r fr to ↔ (st = 0 ∧ okFar F fr to ∧ okHelp F w st fr ∧ okRope F q r fr) := by simp [mnOk]
theorem mnV_1 {F : mem} {st fr to : Int} : mnV F 1 st fr to = 4 + ones st * (fs (F 2) fr to / 10 + 1) := by simp [mnV]
theorem mnV_2 {F : mem} {st fr to : Int} : mnV F 2 st fr to = 2 + ones st * (fs (F 2) fr to / 10 + 1) := by simp [mnV]
theorem mnV_3 {F : mem} {st fr to : Int} : mnV F 3 st fr to = 9 + ones st * (fs (F 2) fr to / 10 + 1) := by simp [mnV]
theorem mnV_4 {F : mem} {st fr to : Int} : mnV F 4 st fr to = fs (F 2) fr to / 5 + 3 := by simp [mnV]
theorem mnV_5 {F : mem} {st fr to : Int} : mnV F 5 st fr to = F 2 (lower fr to) / 4 + 2 + (if to < fr then 3 else 0) := by simp [mnV]
theorem mnV_6 {F : mem} {st fr to : Int} : mnV F 6 st fr to = 1 := by simp [mnV]
/-- a move that may go begins at a ledge -/
theorem okGo_at {F : mem} {w : Int → Int} {st fr to hale : Int} (h : okGo F w st fr to hale) (h0 : 0 ≤ st) (h7 : st ≤ 7) (hl : (0 < F 9 0 → 0 ≤ w 0 ∧ w 0 < F 8 0) ∧ (1 < F 9 0 → 0 ≤ w 1 ∧ w 1 < F 8 0) ∧ (2 < F 9 0 → 0 ≤ w 2 ∧ w 2 < F 8 0)) : 0 ≤ fr ∧ fr < F 8 0 := by
  obtain ⟨h1, -, -, -, h5, h6, h7', -⟩ := h
  rcases (show st % 2 = 1 ∨ st / 2 % 2 = 1 ∨ st / 4 % 2 = 1 by omega) with e | e | e
  · obtain ⟨a, b, -⟩ := h5 e
    rw [← b]; exact hl.1 a
  · obtain ⟨a, b, -⟩ := h6 e
    rw [← b]; exact hl.2.1 a
  · obtain ⟨a, b, -⟩ := h7' e
    rw [← b]; exact hl.2.2 a
set_option maxHeartbeats 4000000 in
theorem m_isIn (l : Launch) (G : va_G) (ty : Nat → ClassId) (ws : va_W) (v a b : Int) (hv : rg v) (ha : rg a) (hb0 : rg b) : cR l yX1_isIn (ws_ yX1_isIn cX1_isIn 3 (some .boolean)) (rm4 0 0 0 0) G ty (ws) [.int (ii v), .int (ii a), .int (ii b)] (fun r => ∃ z : Int, r = some (.int (ii z)) ∧ ((z = 1 ∧ a ≤ v ∧ v ≤ b) ∨ (z = 0 ∧ (v < a ∨ b < v)))) := by
  refine cR.of (by decide) (Nat.le_of_ble_eq_true rfl) ?_
  intro p e s m args below meth c Q hQ hx hb hr hml hown hlk hts hK hP hD hX ls hl
  have hl : lv_has ls 3 [(0, .int (ii v)), (1, .int (ii a)), (2, .int (ii b))] := hl
  obtain ⟨hv1, hv2⟩ := hv
  obtain ⟨ha1, ha2⟩ := ha
  obtain ⟨hb1, hb2⟩ := hb0
  refine lv_iload_n hx hb dX1_isIn_0 rfl (lv_at hl 0 rfl) ?_
  refine lv_iload_n hx hb dX1_isIn_1 rfl (lv_at hl 1 rfl) ?_
  refine li_icmp_lt (tgt := 14) hx hb ⟨by omega, by omega⟩ ⟨by omega, by omega⟩ dX1_isIn_2 (by decide) (fun c2 => ?_) (fun c2 => ?_)
  · refine li_iconst hx hb dX1_isIn_14 ?_
    exact eRz hQ hx hb hr hlk dX1_isIn_15 (.inl rfl) (⟨_, rfl, by omega⟩)
  · refine lv_iload_n hx hb dX1_isIn_5 rfl (lv_at hl 0 rfl) ?_
    refine lv_iload_n hx hb dX1_isIn_6 rfl (lv_at hl 2 rfl) ?_
    refine li_icmp_gt (tgt := 14) hx hb ⟨by omega, by omega⟩ ⟨by omega, by omega⟩ dX1_isIn_7 (by decide) (fun c7 => ?_) (fun c7 => ?_)
    · refine li_iconst hx hb dX1_isIn_14 ?_
      exact eRz hQ hx hb hr hlk dX1_isIn_15 (.inl rfl) (⟨_, rfl, by omega⟩)
    · refine li_iconst hx hb dX1_isIn_10 ?_
      refine lv_goto (tgt := 15) hx hb dX1_isIn_11 (by decide) ?_
      exact eRz hQ hx hb hr hlk dX1_isIn_15 (.inr rfl) (⟨_, rfl, by omega⟩)
set_option maxHeartbeats 4000000 in
theorem m_bits (l : Launch) (G : va_G) (ty : Nat → ClassId) (ws : va_W) (v : Int) (hv : 0 ≤ v ∧ v ≤ 7) : cR l yX1_bits (ws_ yX1_bits cX1_bits 3 (some .int)) (rm4 0 0 0 0) G ty ws [.int (ii v)] (fun r => ∃ z : Int, r = some (.int (ii z)) ∧ z = ones v) := by
  rcases (show v = 0 ∨ v = 1 ∨ v = 2 ∨ v = 3 ∨ v = 4 ∨ v = 5 ∨ v = 6 ∨ v = 7 by omega) with rfl | rfl | rfl | rfl | rfl | rfl | rfl | rfl
  · refine cR.of (by decide) (Nat.le_of_ble_eq_true rfl) ?_
    intro p e s m args below meth c Q hQ hx hb hr hml hown hlk hts hK hP hD hX ls hl
    have hl : lv_has ls 3 [(0, .int (ii 0))] := hl
    refine li_iconst hx hb dX1_bits_0 ?_
    refine lv_istore_n (lv' := [(1, .int (ii 0)), (0, .int (ii 0))]) hx hb dX1_bits_1 rfl hl (by decide) rfl (fun ls hl => ?_)
    refine lv_iload_n hx hb dX1_bits_2 rfl (lv_at hl 1 rfl) ?_
    refine lv_istore_n (lv' := [(2, .int (ii 0)), (1, .int (ii 0)), (0, .int (ii 0))]) hx hb dX1_bits_3 rfl hl (by decide) rfl (fun ls hl => ?_)
    refine lv_iload_n hx hb dX1_bits_4 rfl (lv_at hl 0 rfl) ?_
    refine li_if_eq (tgt := 20) hx hb ⟨by decide, by decide⟩ dX1_bits_5 (by decide) (fun c5 => ?_) (fun c5 => ?_)
    · refine lv_iload_n hx hb dX1_bits_20 rfl (lv_at hl 1 rfl) ?_
      exact eRi hQ hx hb hr hlk dX1_bits_21 (⟨_, rfl, by decide⟩)
    · exact absurd c5 (by decide)
  · refine cR.of (by decide) (Nat.le_of_ble_eq_true rfl) ?_
    intro p e s m args below meth c Q hQ hx hb hr hml hown hlk hts hK hP hD hX ls hl
    have hl : lv_has ls 3 [(0, .int (ii 1))] := hl
    refine li_iconst hx hb dX1_bits_0 ?_
    refine lv_istore_n (lv' := [(1, .int (ii 0)), (0, .int (ii 1))]) hx hb dX1_bits_1 rfl hl (by decide) rfl (fun ls hl => ?_)
    refine lv_iload_n hx hb dX1_bits_2 rfl (lv_at hl 1 rfl) ?_
    refine lv_istore_n (lv' := [(2, .int (ii 1)), (1, .int (ii 0)), (0, .int (ii 1))]) hx hb dX1_bits_3 rfl hl (by decide) rfl (fun ls hl => ?_)
    refine lv_iload_n hx hb dX1_bits_4 rfl (lv_at hl 0 rfl) ?_
    refine li_if_eq (tgt := 20) hx hb ⟨by decide, by decide⟩ dX1_bits_5 (by decide) (fun c5 => ?_) (fun c5 => ?_)
    · exact absurd c5 (by decide)
    · refine li_iinc (a := 0) (lv' := [(1, .int (ii 1)), (2, .int (ii 1)), (0, .int (ii 1))]) hx hb dX1_bits_8 hl (k := 1) rfl (by decide) rfl (fun ls hl => ?_)
      refine lv_iload_n hx hb dX1_bits_11 rfl (lv_at hl 1 rfl) ?_
      refine lv_iload_n hx hb dX1_bits_12 rfl (lv_at hl 1 rfl) ?_
      refine li_iconst hx hb dX1_bits_13 ?_
      refine li_sub hx hb dX1_bits_14 ?_
      refine li_top (b := 0) (by decide) ?_
      refine lv_iand hx hb dX1_bits_15 ?_
      refine li_topx (z := 0) (by decide) ?_
      refine lv_istore_n (lv' := [(2, .int (ii 0)), (1, .int (ii 1)), (0, .int (ii 1))]) hx hb dX1_bits_16 rfl hl (by decide) rfl (fun ls hl => ?_)
      refine lv_goto (tgt := 4) hx hb dX1_bits_17 (by decide) ?_
      refine lv_iload_n hx hb dX1_bits_4 rfl (lv_at hl 0 rfl) ?_
      refine li_if_eq (tgt := 20) hx hb ⟨by decide, by decide⟩ dX1_bits_5 (by decide) (fun c5 => ?_) (fun c5 => ?_)
      · refine lv_iload_n hx hb dX1_bits_20 rfl (lv_at hl 1 rfl) ?_
        exact eRi hQ hx hb hr hlk dX1_bits_21 (⟨_, rfl, by decide⟩)
      · exact absurd c5 (by decide)
  · refine cR.of (by decide) (Nat.le_of_ble_eq_true rfl) ?_
    intro p e s m args below meth c Q hQ hx hb hr hml hown hlk hts hK hP hD hX ls hl
    have hl : lv_has ls 3 [(0, .int (ii 2))] := hl
    refine li_iconst hx hb dX1_bits_0 ?_
    refine lv_istore_n (lv' := [(1, .int (ii 0)), (0, .int (ii 2))]) hx hb dX1_bits_1 rfl hl (by decide) rfl (fun ls hl => ?_)
    refine lv_iload_n hx hb dX1_bits_2 rfl (lv_at hl 1 rfl) ?_
    refine lv_istore_n (lv' := [(2, .int (ii 2)), (1, .int (ii 0)), (0, .int (ii 2))]) hx hb dX1_bits_3 rfl hl (by decide) rfl (fun ls hl => ?_)
    refine lv_iload_n hx hb dX1_bits_4 rfl (lv_at hl 0 rfl) ?_
    refine li_if_eq (tgt := 20) hx hb ⟨by decide, by decide⟩ dX1_bits_5 (by decide) (fun c5 => ?_) (fun c5 => ?_)
    · exact absurd c5 (by decide)
    · refine li_iinc (a := 0) (lv' := [(1, .int (ii 1)), (2, .int (ii 2)), (0, .int (ii 2))]) hx hb dX1_bits_8 hl (k := 1) rfl (by decide) rfl (fun ls hl => ?_)
      refine lv_iload_n hx hb dX1_bits_11 rfl (lv_at hl 1 rfl) ?_
      refine lv_iload_n hx hb dX1_bits_12 rfl (lv_at hl 1 rfl) ?_
      refine li_iconst hx hb dX1_bits_13 ?_
      refine li_sub hx hb dX1_bits_14 ?_
      refine li_top (b := 1) (by decide) ?_
      refine lv_iand hx hb dX1_bits_15 ?_
      refine li_topx (z := 0) (by decide) ?_
      refine lv_istore_n (lv' := [(2, .int (ii 0)), (1, .int (ii 1)), (0, .int (ii 2))]) hx hb dX1_bits_16 rfl hl (by decide) rfl (fun ls hl => ?_)
      refine lv_goto (tgt := 4) hx hb dX1_bits_17 (by decide) ?_
      refine lv_iload_n hx hb dX1_bits_4 rfl (lv_at hl 0 rfl) ?_
      refine li_if_eq (tgt := 20) hx hb ⟨by decide, by decide⟩ dX1_bits_5 (by decide) (fun c5 => ?_) (fun c5 => ?_)
      · refine lv_iload_n hx hb dX1_bits_20 rfl (lv_at hl 1 rfl) ?_
        exact eRi hQ hx hb hr hlk dX1_bits_21 (⟨_, rfl, by decide⟩)
      · exact absurd c5 (by decide)
  · refine cR.of (by decide) (Nat.le_of_ble_eq_true rfl) ?_
    intro p e s m args below meth c Q hQ hx hb hr hml hown hlk hts hK hP hD hX ls hl
    have hl : lv_has ls 3 [(0, .int (ii 3))] := hl
    refine li_iconst hx hb dX1_bits_0 ?_
    refine lv_istore_n (lv' := [(1, .int (ii 0)), (0, .int (ii 3))]) hx hb dX1_bits_1 rfl hl (by decide) rfl (fun ls hl => ?_)
    refine lv_iload_n hx hb dX1_bits_2 rfl (lv_at hl 1 rfl) ?_
    refine lv_istore_n (lv' := [(2, .int (ii 3)), (1, .int (ii 0)), (0, .int (ii 3))]) hx hb dX1_bits_3 rfl hl (by decide) rfl (fun ls hl => ?_)
    refine lv_iload_n hx hb dX1_bits_4 rfl (lv_at hl 0 rfl) ?_
    refine li_if_eq (tgt := 20) hx hb ⟨by decide, by decide⟩ dX1_bits_5 (by decide) (fun c5 => ?_) (fun c5 => ?_)
    · exact absurd c5 (by decide)
    · refine li_iinc (a := 0) (lv' := [(1, .int (ii 1)), (2, .int (ii 3)), (0, .int (ii 3))]) hx hb dX1_bits_8 hl (k := 1) rfl (by decide) rfl (fun ls hl => ?_)
      refine lv_iload_n hx hb dX1_bits_11 rfl (lv_at hl 1 rfl) ?_
      refine lv_iload_n hx hb dX1_bits_12 rfl (lv_at hl 1 rfl) ?_
      refine li_iconst hx hb dX1_bits_13 ?_
      refine li_sub hx hb dX1_bits_14 ?_
      refine li_top (b := 2) (by decide) ?_
      refine lv_iand hx hb dX1_bits_15 ?_
      refine li_topx (z := 2) (by decide) ?_
      refine lv_istore_n (lv' := [(2, .int (ii 2)), (1, .int (ii 1)), (0, .int (ii 3))]) hx hb dX1_bits_16 rfl hl (by decide) rfl (fun ls hl => ?_)
      refine lv_goto (tgt := 4) hx hb dX1_bits_17 (by decide) ?_
      refine lv_iload_n hx hb dX1_bits_4 rfl (lv_at hl 0 rfl) ?_
      refine li_if_eq (tgt := 20) hx hb ⟨by decide, by decide⟩ dX1_bits_5 (by decide) (fun c5 => ?_) (fun c5 => ?_)
      · exact absurd c5 (by decide)
      · refine li_iinc (a := 1) (lv' := [(1, .int (ii 2)), (2, .int (ii 2)), (0, .int (ii 3))]) hx hb dX1_bits_8 hl (k := 1) rfl (by decide) rfl (fun ls hl => ?_)
        refine lv_iload_n hx hb dX1_bits_11 rfl (lv_at hl 1 rfl) ?_
        refine lv_iload_n hx hb dX1_bits_12 rfl (lv_at hl 1 rfl) ?_
        refine li_iconst hx hb dX1_bits_13 ?_
        refine li_sub hx hb dX1_bits_14 ?_
        refine li_top (b := 1) (by decide) ?_
        refine lv_iand hx hb dX1_bits_15 ?_
        refine li_topx (z := 0) (by decide) ?_
        refine lv_istore_n (lv' := [(2, .int (ii 0)), (1, .int (ii 2)), (0, .int (ii 3))]) hx hb dX1_bits_16 rfl hl (by decide) rfl (fun ls hl => ?_)
        refine lv_goto (tgt := 4) hx hb dX1_bits_17 (by decide) ?_
        refine lv_iload_n hx hb dX1_bits_4 rfl (lv_at hl 0 rfl) ?_
        refine li_if_eq (tgt := 20) hx hb ⟨by decide, by decide⟩ dX1_bits_5 (by decide) (fun c5 => ?_) (fun c5 => ?_)
        · refine lv_iload_n hx hb dX1_bits_20 rfl (lv_at hl 1 rfl) ?_
          exact eRi hQ hx hb hr hlk dX1_bits_21 (⟨_, rfl, by decide⟩)
        · exact absurd c5 (by decide)
  · refine cR.of (by decide) (Nat.le_of_ble_eq_true rfl) ?_
    intro p e s m args below meth c Q hQ hx hb hr hml hown hlk hts hK hP hD hX ls hl
    have hl : lv_has ls 3 [(0, .int (ii 4))] := hl
    refine li_iconst hx hb dX1_bits_0 ?_
    refine lv_istore_n (lv' := [(1, .int (ii 0)), (0, .int (ii 4))]) hx hb dX1_bits_1 rfl hl (by decide) rfl (fun ls hl => ?_)
    refine lv_iload_n hx hb dX1_bits_2 rfl (lv_at hl 1 rfl) ?_
    refine lv_istore_n (lv' := [(2, .int (ii 4)), (1, .int (ii 0)), (0, .int (ii 4))]) hx hb dX1_bits_3 rfl hl (by decide) rfl (fun ls hl => ?_)
    refine lv_iload_n hx hb dX1_bits_4 rfl (lv_at hl 0 rfl) ?_
    refine li_if_eq (tgt := 20) hx hb ⟨by decide, by decide⟩ dX1_bits_5 (by decide) (fun c5 => ?_) (fun c5 => ?_)
    · exact absurd c5 (by decide)
    · refine li_iinc (a := 0) (lv' := [(1, .int (ii 1)), (2, .int (ii 4)), (0, .int (ii 4))]) hx hb dX1_bits_8 hl (k := 1) rfl (by decide) rfl (fun ls hl => ?_)
      refine lv_iload_n hx hb dX1_bits_11 rfl (lv_at hl 1 rfl) ?_
      refine lv_iload_n hx hb dX1_bits_12 rfl (lv_at hl 1 rfl) ?_
      refine li_iconst hx hb dX1_bits_13 ?_
      refine li_sub hx hb dX1_bits_14 ?_
      refine li_top (b := 3) (by decide) ?_
      refine lv_iand hx hb dX1_bits_15 ?_
      refine li_topx (z := 0) (by decide) ?_
      refine lv_istore_n (lv' := [(2, .int (ii 0)), (1, .int (ii 1)), (0, .int (ii 4))]) hx hb dX1_bits_16 rfl hl (by decide) rfl (fun ls hl => ?_)
      refine lv_goto (tgt := 4) hx hb dX1_bits_17 (by decide) ?_
      refine lv_iload_n hx hb dX1_bits_4 rfl (lv_at hl 0 rfl) ?_
      refine li_if_eq (tgt := 20) hx hb ⟨by decide, by decide⟩ dX1_bits_5 (by decide) (fun c5 => ?_) (fun c5 => ?_)
      · refine lv_iload_n hx hb dX1_bits_20 rfl (lv_at hl 1 rfl) ?_
        exact eRi hQ hx hb hr hlk dX1_bits_21 (⟨_, rfl, by decide⟩)
      · exact absurd c5 (by decide)
  · refine cR.of (by decide) (Nat.le_of_ble_eq_true rfl) ?_
    intro p e s m args below meth c Q hQ hx hb hr hml hown hlk hts hK hP hD hX ls hl
    have hl : lv_has ls 3 [(0, .int (ii 5))] := hl
    refine li_iconst hx hb dX1_bits_0 ?_
    refine lv_istore_n (lv' := [(1, .int (ii 0)), (0, .int (ii 5))]) hx hb dX1_bits_1 rfl hl (by decide) rfl (fun ls hl => ?_)
    refine lv_iload_n hx hb dX1_bits_2 rfl (lv_at hl 1 rfl) ?_
    refine lv_istore_n (lv' := [(2, .int (ii 5)), (1, .int (ii 0)), (0, .int (ii 5))]) hx hb dX1_bits_3 rfl hl (by decide) rfl (fun ls hl => ?_)
    refine lv_iload_n hx hb dX1_bits_4 rfl (lv_at hl 0 rfl) ?_
    refine li_if_eq (tgt := 20) hx hb ⟨by decide, by decide⟩ dX1_bits_5 (by decide) (fun c5 => ?_) (fun c5 => ?_)
    · exact absurd c5 (by decide)
    · refine li_iinc (a := 0) (lv' := [(1, .int (ii 1)), (2, .int (ii 5)), (0, .int (ii 5))]) hx hb dX1_bits_8 hl (k := 1) rfl (by decide) rfl (fun ls hl => ?_)
      refine lv_iload_n hx hb dX1_bits_11 rfl (lv_at hl 1 rfl) ?_
      refine lv_iload_n hx hb dX1_bits_12 rfl (lv_at hl 1 rfl) ?_
      refine li_iconst hx hb dX1_bits_13 ?_
      refine li_sub hx hb dX1_bits_14 ?_
      refine li_top (b := 4) (by decide) ?_
      refine lv_iand hx hb dX1_bits_15 ?_
      refine li_topx (z := 4) (by decide) ?_
      refine lv_istore_n (lv' := [(2, .int (ii 4)), (1, .int (ii 1)), (0, .int (ii 5))]) hx hb dX1_bits_16 rfl hl (by decide) rfl (fun ls hl => ?_)
      refine lv_goto (tgt := 4) hx hb dX1_bits_17 (by decide) ?_
      refine lv_iload_n hx hb dX1_bits_4 rfl (lv_at hl 0 rfl) ?_
      refine li_if_eq (tgt := 20) hx hb ⟨by decide, by decide⟩ dX1_bits_5 (by decide) (fun c5 => ?_) (fun c5 => ?_)
      · exact absurd c5 (by decide)
      · refine li_iinc (a := 1) (lv' := [(1, .int (ii 2)), (2, .int (ii 4)), (0, .int (ii 5))]) hx hb dX1_bits_8 hl (k := 1) rfl (by decide) rfl (fun ls hl => ?_)
        refine lv_iload_n hx hb dX1_bits_11 rfl (lv_at hl 1 rfl) ?_
        refine lv_iload_n hx hb dX1_bits_12 rfl (lv_at hl 1 rfl) ?_
        refine li_iconst hx hb dX1_bits_13 ?_
        refine li_sub hx hb dX1_bits_14 ?_
        refine li_top (b := 3) (by decide) ?_
        refine lv_iand hx hb dX1_bits_15 ?_
        refine li_topx (z := 0) (by decide) ?_
        refine lv_istore_n (lv' := [(2, .int (ii 0)), (1, .int (ii 2)), (0, .int (ii 5))]) hx hb dX1_bits_16 rfl hl (by decide) rfl (fun ls hl => ?_)
        refine lv_goto (tgt := 4) hx hb dX1_bits_17 (by decide) ?_
        refine lv_iload_n hx hb dX1_bits_4 rfl (lv_at hl 0 rfl) ?_
        refine li_if_eq (tgt := 20) hx hb ⟨by decide, by decide⟩ dX1_bits_5 (by decide) (fun c5 => ?_) (fun c5 => ?_)
        · refine lv_iload_n hx hb dX1_bits_20 rfl (lv_at hl 1 rfl) ?_
          exact eRi hQ hx hb hr hlk dX1_bits_21 (⟨_, rfl, by decide⟩)
        · exact absurd c5 (by decide)
  · refine cR.of (by decide) (Nat.le_of_ble_eq_true rfl) ?_
    intro p e s m args below meth c Q hQ hx hb hr hml hown hlk hts hK hP hD hX ls hl
    have hl : lv_has ls 3 [(0, .int (ii 6))] := hl
    refine li_iconst hx hb dX1_bits_0 ?_
    refine lv_istore_n (lv' := [(1, .int (ii 0)), (0, .int (ii 6))]) hx hb dX1_bits_1 rfl hl (by decide) rfl (fun ls hl => ?_)
    refine lv_iload_n hx hb dX1_bits_2 rfl (lv_at hl 1 rfl) ?_
    refine lv_istore_n (lv' := [(2, .int (ii 6)), (1, .int (ii 0)), (0, .int (ii 6))]) hx hb dX1_bits_3 rfl hl (by decide) rfl (fun ls hl => ?_)
    refine lv_iload_n hx hb dX1_bits_4 rfl (lv_at hl 0 rfl) ?_
    refine li_if_eq (tgt := 20) hx hb ⟨by decide, by decide⟩ dX1_bits_5 (by decide) (fun c5 => ?_) (fun c5 => ?_)
    · exact absurd c5 (by decide)
    · refine li_iinc (a := 0) (lv' := [(1, .int (ii 1)), (2, .int (ii 6)), (0, .int (ii 6))]) hx hb dX1_bits_8 hl (k := 1) rfl (by decide) rfl (fun ls hl => ?_)
      refine lv_iload_n hx hb dX1_bits_11 rfl (lv_at hl 1 rfl) ?_
      refine lv_iload_n hx hb dX1_bits_12 rfl (lv_at hl 1 rfl) ?_
      refine li_iconst hx hb dX1_bits_13 ?_
      refine li_sub hx hb dX1_bits_14 ?_
      refine li_top (b := 5) (by decide) ?_
      refine lv_iand hx hb dX1_bits_15 ?_
      refine li_topx (z := 4) (by decide) ?_
      refine lv_istore_n (lv' := [(2, .int (ii 4)), (1, .int (ii 1)), (0, .int (ii 6))]) hx hb dX1_bits_16 rfl hl (by decide) rfl (fun ls hl => ?_)
      refine lv_goto (tgt := 4) hx hb dX1_bits_17 (by decide) ?_
      refine lv_iload_n hx hb dX1_bits_4 rfl (lv_at hl 0 rfl) ?_
      refine li_if_eq (tgt := 20) hx hb ⟨by decide, by decide⟩ dX1_bits_5 (by decide) (fun c5 => ?_) (fun c5 => ?_)
      · exact absurd c5 (by decide)
      · refine li_iinc (a := 1) (lv' := [(1, .int (ii 2)), (2, .int (ii 4)), (0, .int (ii 6))]) hx hb dX1_bits_8 hl (k := 1) rfl (by decide) rfl (fun ls hl => ?_)
        refine lv_iload_n hx hb dX1_bits_11 rfl (lv_at hl 1 rfl) ?_
        refine lv_iload_n hx hb dX1_bits_12 rfl (lv_at hl 1 rfl) ?_
        refine li_iconst hx hb dX1_bits_13 ?_
        refine li_sub hx hb dX1_bits_14 ?_
        refine li_top (b := 3) (by decide) ?_
        refine lv_iand hx hb dX1_bits_15 ?_
        refine li_topx (z := 0) (by decide) ?_
        refine lv_istore_n (lv' := [(2, .int (ii 0)), (1, .int (ii 2)), (0, .int (ii 6))]) hx hb dX1_bits_16 rfl hl (by decide) rfl (fun ls hl => ?_)
        refine lv_goto (tgt := 4) hx hb dX1_bits_17 (by decide) ?_
        refine lv_iload_n hx hb dX1_bits_4 rfl (lv_at hl 0 rfl) ?_
        refine li_if_eq (tgt := 20) hx hb ⟨by decide, by decide⟩ dX1_bits_5 (by decide) (fun c5 => ?_) (fun c5 => ?_)
        · refine lv_iload_n hx hb dX1_bits_20 rfl (lv_at hl 1 rfl) ?_
          exact eRi hQ hx hb hr hlk dX1_bits_21 (⟨_, rfl, by decide⟩)
        · exact absurd c5 (by decide)
  · refine cR.of (by decide) (Nat.le_of_ble_eq_true rfl) ?_
    intro p e s m args below meth c Q hQ hx hb hr hml hown hlk hts hK hP hD hX ls hl
    have hl : lv_has ls 3 [(0, .int (ii 7))] := hl
    refine li_iconst hx hb dX1_bits_0 ?_
    refine lv_istore_n (lv' := [(1, .int (ii 0)), (0, .int (ii 7))]) hx hb dX1_bits_1 rfl hl (by decide) rfl (fun ls hl => ?_)
    refine lv_iload_n hx hb dX1_bits_2 rfl (lv_at hl 1 rfl) ?_
    refine lv_istore_n (lv' := [(2, .int (ii 7)), (1, .int (ii 0)), (0, .int (ii 7))]) hx hb dX1_bits_3 rfl hl (by decide) rfl (fun ls hl => ?_)
    refine lv_iload_n hx hb dX1_bits_4 rfl (lv_at hl 0 rfl) ?_
    refine li_if_eq (tgt := 20) hx hb ⟨by decide, by decide⟩ dX1_bits_5 (by decide) (fun c5 => ?_) (fun c5 => ?_)
    · exact absurd c5 (by decide)
    · refine li_iinc (a := 0) (lv' := [(1, .int (ii 1)), (2, .int (ii 7)), (0, .int (ii 7))]) hx hb dX1_bits_8 hl (k := 1) rfl (by decide) rfl (fun ls hl => ?_)
      refine lv_iload_n hx hb dX1_bits_11 rfl (lv_at hl 1 rfl) ?_
      refine lv_iload_n hx hb dX1_bits_12 rfl (lv_at hl 1 rfl) ?_
      refine li_iconst hx hb dX1_bits_13 ?_
      refine li_sub hx hb dX1_bits_14 ?_
      refine li_top (b := 6) (by decide) ?_
      refine lv_iand hx hb dX1_bits_15 ?_
      refine li_topx (z := 6) (by decide) ?_
      refine lv_istore_n (lv' := [(2, .int (ii 6)), (1, .int (ii 1)), (0, .int (ii 7))]) hx hb dX1_bits_16 rfl hl (by decide) rfl (fun ls hl => ?_)
      refine lv_goto (tgt := 4) hx hb dX1_bits_17 (by decide) ?_
      refine lv_iload_n hx hb dX1_bits_4 rfl (lv_at hl 0 rfl) ?_
      refine li_if_eq (tgt := 20) hx hb ⟨by decide, by decide⟩ dX1_bits_5 (by decide) (fun c5 => ?_) (fun c5 => ?_)
      · exact absurd c5 (by decide)
      · refine li_iinc (a := 1) (lv' := [(1, .int (ii 2)), (2, .int (ii 6)), (0, .int (ii 7))]) hx hb dX1_bits_8 hl (k := 1) rfl (by decide) rfl (fun ls hl => ?_)
        refine lv_iload_n hx hb dX1_bits_11 rfl (lv_at hl 1 rfl) ?_
        refine lv_iload_n hx hb dX1_bits_12 rfl (lv_at hl 1 rfl) ?_
        refine li_iconst hx hb dX1_bits_13 ?_
        refine li_sub hx hb dX1_bits_14 ?_
        refine li_top (b := 5) (by decide) ?_
        refine lv_iand hx hb dX1_bits_15 ?_
        refine li_topx (z := 4) (by decide) ?_
        refine lv_istore_n (lv' := [(2, .int (ii 4)), (1, .int (ii 2)), (0, .int (ii 7))]) hx hb dX1_bits_16 rfl hl (by decide) rfl (fun ls hl => ?_)
        refine lv_goto (tgt := 4) hx hb dX1_bits_17 (by decide) ?_
        refine lv_iload_n hx hb dX1_bits_4 rfl (lv_at hl 0 rfl) ?_
        refine li_if_eq (tgt := 20) hx hb ⟨by decide, by decide⟩ dX1_bits_5 (by decide) (fun c5 => ?_) (fun c5 => ?_)
        · exact absurd c5 (by decide)
        · refine li_iinc (a := 2) (lv' := [(1, .int (ii 3)), (2, .int (ii 4)), (0, .int (ii 7))]) hx hb dX1_bits_8 hl (k := 1) rfl (by decide) rfl (fun ls hl => ?_)
          refine lv_iload_n hx hb dX1_bits_11 rfl (lv_at hl 1 rfl) ?_
          refine lv_iload_n hx hb dX1_bits_12 rfl (lv_at hl 1 rfl) ?_
          refine li_iconst hx hb dX1_bits_13 ?_
          refine li_sub hx hb dX1_bits_14 ?_
          refine li_top (b := 3) (by decide) ?_
          refine lv_iand hx hb dX1_bits_15 ?_
          refine li_topx (z := 0) (by decide) ?_
          refine lv_istore_n (lv' := [(2, .int (ii 0)), (1, .int (ii 3)), (0, .int (ii 7))]) hx hb dX1_bits_16 rfl hl (by decide) rfl (fun ls hl => ?_)
          refine lv_goto (tgt := 4) hx hb dX1_bits_17 (by decide) ?_
          refine lv_iload_n hx hb dX1_bits_4 rfl (lv_at hl 0 rfl) ?_
          refine li_if_eq (tgt := 20) hx hb ⟨by decide, by decide⟩ dX1_bits_5 (by decide) (fun c5 => ?_) (fun c5 => ?_)
          · refine lv_iload_n hx hb dX1_bits_20 rfl (lv_at hl 1 rfl) ?_
            exact eRi hQ hx hb hr hlk dX1_bits_21 (⟨_, rfl, by decide⟩)
          · exact absurd c5 (by decide)
set_option maxHeartbeats 4000000 in
theorem m_ground (l : Launch) (G : va_G) (ty : Nat → ClassId) (ws : va_W) (fi fd : Nat → Nat) (F : mem)  (hF : faceAt ty ws fi fd F) (hW : wfF F) : cR l yX2_ground (ws_ yX2_ground cX2_ground 1 (some .int)) (rm4 0 0 0 0) G ty (ws) [.ref (fd 0)] (fun r => ∃ z : Int, r = some (.int (ii z)) ∧ z = F 8 0 - 1) := by
  refine cR.of (by decide) (Nat.le_of_ble_eq_true rfl) ?_
  intro p e s m args below meth c Q hQ hx hb hr hml hown hlk hts hK hP hD hX ls hl
  have hl : lv_has ls 1 [(0, .ref (fd 0))] := hl
  obtain ⟨hw0, hw1, hw2, hw3, hw4, hw5, h8a, h8b, h9a, h9b, h10a, h10b⟩ := id hW
  refine lv_aload_n hx hb dX2_ground_0 rfl (lv_at hl 0 rfl) ?_
  refine va_get (D := G) (fs := [.ref (fd 1), .ref (fd 2), .ref (fd 3), .ref (fd 4), .int (ii (F 8 0)), .ref (fd 5), .int (ii (F 9 0)), .ref (fd 6), .int (ii (F 10 0)), .int (ii (F 11 0)), .int (ii (F 12 0)), .int (ii (F 13 0)), .ref (fd 7)]) (ci := 1) (v := .int (ii (F 8 0))) (C := RX2) (T := TX2) (N := 13) hx hb hts in_X2 hown hK hP (fi 0) hF.1 rfl 4 (by decide) (hts _ q784) (fun _ h9 => h9) rfl dX2_ground_1 ?_
  refine li_iconst hx hb dX2_ground_4 ?_
  refine li_sub hx hb dX2_ground_5 ?_
  exact eRi hQ hx hb hr hlk dX2_ground_6 (⟨_, rfl, by omega⟩)
set_option maxHeartbeats 4000000 in
theorem m_isLedge (l : Launch) (G : va_G) (ty : Nat → ClassId) (ws : va_W) (fi fd : Nat → Nat) (F : mem) (k : Int) (hF : faceAt ty ws fi fd F) (hW : wfF F) (hk : rg k) : cR l yX2_isLedge (ws_ yX2_isLedge cX2_isLedge 2 (some .boolean)) (rm4 0 0 0 0) G ty (ws) [.ref (fd 0), .int (ii k)] (fun r => ∃ z : Int, r = some (.int (ii z)) ∧ ((z = 1 ∧ 0 ≤ k ∧ k < F 8 0) ∨ (z = 0 ∧ (k < 0 ∨ F 8 0 ≤ k)))) := by
  refine cR.of (by decide) (Nat.le_of_ble_eq_true rfl) ?_
  intro p e s m args below meth c Q hQ hx hb hr hml hown hlk hts hK hP hD hX ls hl
  have hl : lv_has ls 2 [(0, .ref (fd 0)), (1, .int (ii k))] := hl
  obtain ⟨hw0, hw1, hw2, hw3, hw4, hw5, h8a, h8b, h9a, h9b, h10a, h10b⟩ := id hW
  obtain ⟨hk1, hk2⟩ := hk
  refine lv_iload_n hx hb dX2_isLedge_0 rfl (lv_at hl 1 rfl) ?_
  refine li_if_lt (tgt := 16) hx hb ⟨by omega, by omega⟩ dX2_isLedge_1 (by decide) (fun c1 => ?_) (fun c1 => ?_)
  · refine li_iconst hx hb dX2_isLedge_16 ?_
    exact eRz hQ hx hb hr hlk dX2_isLedge_17 (.inl rfl) (⟨_, rfl, by omega⟩)
  · refine lv_iload_n hx hb dX2_isLedge_4 rfl (lv_at hl 1 rfl) ?_
    refine lv_aload_n hx hb dX2_isLedge_5 rfl (lv_at hl 0 rfl) ?_
    refine va_get (D := G) (fs := [.ref (fd 1), .ref (fd 2), .ref (fd 3), .ref (fd 4), .int (ii (F 8 0)), .ref (fd 5), .int (ii (F 9 0)), .ref (fd 6), .int (ii (F 10 0)), .int (ii (F 11 0)), .int (ii (F 12 0)), .int (ii (F 13 0)), .ref (fd 7)]) (ci := 1) (v := .int (ii (F 8 0))) (C := RX2) (T := TX2) (N := 13) hx hb hts in_X2 hown hK hP (fi 0) hF.1 rfl 4 (by decide) (hts _ q784) (fun _ h9 => h9) rfl dX2_isLedge_6 ?_
    refine li_icmp_ge (tgt := 16) hx hb ⟨by omega, by omega⟩ (rgi h8a h8b) dX2_isLedge_9 (by decide) (fun c9 => ?_) (fun c9 => ?_)
    · refine li_iconst hx hb dX2_isLedge_16 ?_
      exact eRz hQ hx hb hr hlk dX2_isLedge_17 (.inl rfl) (⟨_, rfl, by omega⟩)
    · refine li_iconst hx hb dX2_isLedge_12 ?_
      refine lv_goto (tgt := 17) hx hb dX2_isLedge_13 (by decide) ?_
      exact eRz hQ hx hb hr hlk dX2_isLedge_17 (.inr rfl) (⟨_, rfl, by omega⟩)
set_option maxHeartbeats 4000000 in
theorem m_farF (l : Launch) (G : va_G) (ty : Nat → ClassId) (ws : va_W) (fi fd : Nat → Nat) (F : mem) (a b : Int) (hF : faceAt ty ws fi fd F) (hW : wfF F) (ha : rg a) (hb0 : rg b) : cR l yX2_far (ws_ yX2_far cX2_far 5 (some .int)) (rm4 1 0 0 21) G ty (ws) [.ref (fd 0), .int (ii a), .int (ii b)] (fun r => ∃ z : Int, r = some (.int (ii z)) ∧ ((okFar F a b ∧ z = fs (F 2) a b) ∨ (¬ okFar F a b ∧ z = -4))) := by
  refine cR.of (by decide) (Nat.le_of_ble_eq_true rfl) ?_
  intro p e s m args below meth c Q hQ hx hb hr hml hown hlk hts hK hP hD hX ls hl
  have hl : lv_has ls 5 [(0, .ref (fd 0)), (1, .int (ii a)), (2, .int (ii b))] := hl
  obtain ⟨hw0, hw1, hw2, hw3, hw4, hw5, h8a, h8b, h9a, h9b, h10a, h10b⟩ := id hW
  obtain ⟨ha1, ha2⟩ := id ha
  obtain ⟨hb1, hb2⟩ := id hb0
  refine lv_aload_n hx hb dX2_far_0 rfl (lv_at hl 0 rfl) ?_
  refine lv_iload_n hx hb dX2_far_1 rfl (lv_at hl 1 rfl) ?_
  refine kR (va_runV (As := [.int (ii a)]) (rest := []) ⟨hx, hb, hml, hown, hts⟩ (m_isLedge l G ty ws fi fd F a hF hW ⟨by omega, by omega⟩) (cwV 1 hts (lw_V q369 q309 q310 q77 q311) rfl rfl rfl (by decide +kernel) ⟨Nat.le_of_ble_eq_true rfl, Nat.le_of_ble_eq_true rfl⟩) (pvR (r := (RX2, TX2, 13)) hK hP hD hX (fi 0) hF.1 rfl) rfl rfl hl.1 rfl (lv_room (Nat.le_of_ble_eq_true rfl)) dX2_far_2 ⟨Nat.le_of_ble_eq_true rfl, Nat.le_of_ble_eq_true rfl⟩) (fun v hv => ?_)
  obtain ⟨z2, rfl, ⟨rfl, h2⟩ | ⟨rfl, h2⟩⟩ := hv
  · refine li_if_eq (tgt := 21) hx hb ⟨by decide, by decide⟩ dX2_far_5 (by decide) (fun c5 => ?_) (fun c5 => ?_)
    · exact absurd c5 (by decide)
    · refine lv_aload_n hx hb dX2_far_8 rfl (lv_at hl 0 rfl) ?_
      refine lv_iload_n hx hb dX2_far_9 rfl (lv_at hl 2 rfl) ?_
      refine kR (va_runV (As := [.int (ii b)]) (rest := []) ⟨hx, hb, hml, hown, hts⟩ (m_isLedge l G ty ws fi fd F b hF hW ⟨by omega, by omega⟩) (cwV 1 hts (lw_V q369 q309 q310 q77 q311) rfl rfl rfl (by decide +kernel) ⟨Nat.le_of_ble_eq_true rfl, Nat.le_of_ble_eq_true rfl⟩) (pvR (r := (RX2, TX2, 13)) hK hP hD hX (fi 0) hF.1 rfl) rfl rfl hl.1 rfl (lv_room (Nat.le_of_ble_eq_true rfl)) dX2_far_10 ⟨Nat.le_of_ble_eq_true rfl, Nat.le_of_ble_eq_true rfl⟩) (fun v hv => ?_)
      obtain ⟨z10, rfl, ⟨rfl, h10⟩ | ⟨rfl, h10⟩⟩ := hv
      · refine li_if_eq (tgt := 21) hx hb ⟨by decide, by decide⟩ dX2_far_13 (by decide) (fun c13 => ?_) (fun c13 => ?_)
        · exact absurd c13 (by decide)
        · refine lv_iload_n hx hb dX2_far_16 rfl (lv_at hl 2 rfl) ?_
          refine lv_iload_n hx hb dX2_far_17 rfl (lv_at hl 1 rfl) ?_
          refine li_icmp_gt (tgt := 24) hx hb ⟨by omega, by omega⟩ ⟨by omega, by omega⟩ dX2_far_18 (by decide) (fun c18 => ?_) (fun c18 => ?_)
          · refine li_iconst hx hb dX2_far_24 ?_
            refine lv_istore_n (lv' := [(3, .int (ii 0)), (0, .ref (fd 0)), (1, .int (ii a)), (2, .int (ii b))]) hx hb dX2_far_25 rfl hl (by decide) rfl (fun ls hl => ?_)
            refine lv_iload_n hx hb dX2_far_26 rfl (lv_at hl 2 rfl) ?_
            refine lv_istore (lv' := [(4, .int (ii a)), (3, .int (ii 0)), (0, .ref (fd 0)), (1, .int (ii a)), (2, .int (ii b))]) hx hb dX2_far_27 hl (by decide) rfl (fun ls hl => ?_)
            have L29 : ∀ (n : Nat) (k : Int) (sm : Int) (_ : a ≤ k) (_ : k ≤ b) (_ : sm = fs (F 2) a k) (_ : (b - k).toNat < n) (ls : Array Slot), lv_has ls 5 [(4, .int (ii k)), (3, .int (ii sm)), (0, .ref (fd 0)), (1, .int (ii a)), (2, .int (ii b))] → W p l e (rm4 1 0 0 21) s m args below meth c s.heap [] 0 0 Q (F0 m 29 ls []) := by
              intro n
              induction n with
              | zero =>
                intro k sm hk1 hk2 hk3 hm
                exact absurd hm (Nat.not_lt_zero _)
              | succ n ih =>
                intro k sm hk1 hk2 hk3 hm ls hl
                have hb5 := fs_le (F 2) (a := a) (b := k) hw2 (by omega) (by omega)
                refine lv_iload hx hb dX2_far_29 (lv_at hl 0 rfl) ?_
                refine lv_iload_n hx hb dX2_far_31 rfl (lv_at hl 4 rfl) ?_
                refine li_icmp_ge (tgt := 51) hx hb ⟨by omega, by omega⟩ ⟨by omega, by omega⟩ dX2_far_32 (by decide) (fun c32 => ?_) (fun c32 => ?_)
                · refine lv_iload_n hx hb dX2_far_51 rfl (lv_at hl 1 rfl) ?_
                  exact eRi hQ hx hb hr hlk dX2_far_52 (⟨_, rfl, .inl ⟨⟨h2.1, h2.2, h10.1, h10.2, c18⟩, by rw [hk3, show k = b by omega]⟩⟩)
                · refine lv_iload_n hx hb dX2_far_35 rfl (lv_at hl 1 rfl) ?_
                  refine lv_aload_n hx hb dX2_far_36 rfl (lv_at hl 2 rfl) ?_
                  refine va_get (D := G) (fs := [.ref (fd 1), .ref (fd 2), .ref (fd 3), .ref (fd 4), .int (ii (F 8 0)), .ref (fd 5), .int (ii (F 9 0)), .ref (fd 6), .int (ii (F 10 0)), .int (ii (F 11 0)), .int (ii (F 12 0)), .int (ii (F 13 0)), .ref (fd 7)]) (ci := 1) (v := .ref (fd 3)) (C := RX2) (T := TX2) (N := 13) hx hb hts in_X2 hown hK hP (fi 0) hF.1 rfl 2 (by decide) (hts _ q778) (fun _ h9 => h9) rfl dX2_far_37 ?_
                  refine lv_iload hx hb dX2_far_40 (lv_at hl 0 rfl) ?_
                  refine li_iald (g := F 2) hx hb hK hP (fi 3) 0 hF.2.2.2.1 rfl (by omega) (by omega) (by decide) dX2_far_42 ?_
                  have r43 := hw2 k
                  refine li_add hx hb dX2_far_43 ?_
                  refine lv_istore_n (lv' := [(3, .int (ii (sm + ((F 2) k)))), (4, .int (ii k)), (0, .ref (fd 0)), (1, .int (ii a)), (2, .int (ii b))]) hx hb dX2_far_44 rfl hl (by decide) rfl (fun ls hl => ?_)
                  refine li_iinc (a := k) (lv' := [(4, .int (ii (k + 1))), (3, .int (ii (sm + ((F 2) k)))), (0, .ref (fd 0)), (1, .int (ii a)), (2, .int (ii b))]) hx hb dX2_far_45 hl (k := 1) rfl (by decide) rfl (fun ls hl => ?_)
                  refine lv_goto (tgt := 29) hx hb dX2_far_48 (by decide) ?_
                  exact ih (k + 1) (sm + ((F 2) k)) (by omega) (by omega) (by rw [hk3]; exact (fs_s _ hk1).symm) (by omega) ls (lv_sub hl [0, 1, 2, 3, 4] rfl)
            exact L29 _ a 0 (by omega) (by omega) ((fs_0 _ _).symm) (Nat.lt_succ_self _) ls (lv_sub hl [0, 1, 2, 3, 4] rfl)
          · refine li_bipush hx hb dX2_far_21 (by decide) ?_
            exact eRi hQ hx hb hr hlk dX2_far_23 (⟨_, rfl, .inr ⟨fun h => by obtain ⟨q1, q2, q3, q4, q5⟩ := h; omega, rfl⟩⟩)
      · refine li_if_eq (tgt := 21) hx hb ⟨by decide, by decide⟩ dX2_far_13 (by decide) (fun c13 => ?_) (fun c13 => ?_)
        · refine li_bipush hx hb dX2_far_21 (by decide) ?_
          exact eRi hQ hx hb hr hlk dX2_far_23 (⟨_, rfl, .inr ⟨fun h => by obtain ⟨q1, q2, q3, q4, q5⟩ := h; omega, rfl⟩⟩)
        · exact absurd c13 (by decide)
  · refine li_if_eq (tgt := 21) hx hb ⟨by decide, by decide⟩ dX2_far_5 (by decide) (fun c5 => ?_) (fun c5 => ?_)
    · refine li_bipush hx hb dX2_far_21 (by decide) ?_
      exact eRi hQ hx hb hr hlk dX2_far_23 (⟨_, rfl, .inr ⟨fun h => by obtain ⟨q1, q2, q3, q4, q5⟩ := h; omega, rfl⟩⟩)
    · exact absurd c5 (by decide)
set_option maxHeartbeats 4000000 in
theorem m_isDownF (l : Launch) (G : va_G) (ty : Nat → ClassId) (ws : va_W) (fi fd : Nat → Nat) (F : mem) (si sd : Nat → Nat) (w q : Int → Int)  (hF : faceAt ty ws fi fd F) (hW : wfF F) (hSp : spotAt ty ws si sd w q) (hWS : wfS w q) : cR l yX2_isDown (ws_ yX2_isDown cX2_isDown 3 (some .boolean)) (rm4 1 0 0 20) G ty (ws) [.ref (fd 0), .ref (sd 0)] (fun r => ∃ z : Int, r = some (.int (ii z)) ∧ ((z = 1 ∧ (0 < F 9 0 → w 0 = F 8 0 - 1) ∧ (1 < F 9 0 → w 1 = F 8 0 - 1) ∧ (2 < F 9 0 → w 2 = F 8 0 - 1)) ∨ (z = 0 ∧ ¬ ((0 < F 9 0 → w 0 = F 8 0 - 1) ∧ (1 < F 9 0 → w 1 = F 8 0 - 1) ∧ (2 < F 9 0 → w 2 = F 8 0 - 1))))) := by
  refine cR.of (by decide) (Nat.le_of_ble_eq_true rfl) ?_
  intro p e s m args below meth c Q hQ hx hb hr hml hown hlk hts hK hP hD hX ls hl
  have hl : lv_has ls 3 [(0, .ref (fd 0)), (1, .ref (sd 0))] := hl
  obtain ⟨hw0, hw1, hw2, hw3, hw4, hw5, h8a, h8b, h9a, h9b, h10a, h10b⟩ := id hW
  obtain ⟨hs0, hs1⟩ := id hWS
  refine li_iconst hx hb dX2_isDown_0 ?_
  refine lv_istore_n (lv' := [(2, .int (ii 0)), (0, .ref (fd 0)), (1, .ref (sd 0))]) hx hb dX2_isDown_1 rfl hl (by decide) rfl (fun ls hl => ?_)
  refine lv_iload_n hx hb dX2_isDown_2 rfl (lv_at hl 0 rfl) ?_
  refine lv_aload_n hx hb dX2_isDown_3 rfl (lv_at hl 1 rfl) ?_
  refine va_get (D := G) (fs := [.ref (fd 1), .ref (fd 2), .ref (fd 3), .ref (fd 4), .int (ii (F 8 0)), .ref (fd 5), .int (ii (F 9 0)), .ref (fd 6), .int (ii (F 10 0)), .int (ii (F 11 0)), .int (ii (F 12 0)), .int (ii (F 13 0)), .ref (fd 7)]) (ci := 1) (v := .int (ii (F 9 0))) (C := RX2) (T := TX2) (N := 13) hx hb hts in_X2 hown hK hP (fi 0) hF.1 rfl 6 (by decide) (hts _ q791) (fun _ h9 => h9) rfl dX2_isDown_4 ?_
  refine li_icmp_ge (tgt := 31) hx hb ⟨by decide, by decide⟩ (rgi h9a h9b) dX2_isDown_7 (by decide) (fun c7 => ?_) (fun c7 => ?_)
  · refine li_iconst hx hb dX2_isDown_31 ?_
    exact eRz hQ hx hb hr hlk dX2_isDown_32 (.inr rfl) (⟨_, rfl, by omega⟩)
  · refine lv_aload_n hx hb dX2_isDown_10 rfl (lv_at hl 2 rfl) ?_
    refine va_get (D := G) (fs := [.ref (sd 1), .ref (sd 2)]) (ci := 2) (v := .ref (sd 1)) (C := RX3) (T := TX3) (N := 2) hx hb hts in_X3 hown hK hP (si 0) hSp.1 rfl 0 (by decide) (hts _ q656) (fun _ h9 => h9) rfl dX2_isDown_11 ?_
    refine lv_iload_n hx hb dX2_isDown_14 rfl (lv_at hl 0 rfl) ?_
    refine li_iald (g := w) hx hb hK hP (si 1) 0 hSp.2.1 rfl (by decide) (by decide) (by decide) dX2_isDown_15 ?_
    have r16 := hs0 0
    refine lv_aload_n hx hb dX2_isDown_16 rfl (lv_at hl 1 rfl) ?_
    refine kR (va_runV (As := []) (rest := [.int (ii (w 0))]) ⟨hx, hb, hml, hown, hts⟩ (m_ground l G ty ws fi fd F  hF hW) (cwV 0 hts (lw_V q599 q330 q331 q77 q332) rfl rfl rfl (by decide +kernel) ⟨Nat.le_of_ble_eq_true rfl, Nat.le_of_ble_eq_true rfl⟩) (pvR (r := (RX2, TX2, 13)) hK hP hD hX (fi 0) hF.1 rfl) rfl rfl hl.1 rfl (lv_room (Nat.le_of_ble_eq_true rfl)) dX2_isDown_17 ⟨Nat.le_of_ble_eq_true rfl, Nat.le_of_ble_eq_true rfl⟩) (fun v hv => ?_)
    obtain ⟨z17, rfl, h17⟩ := hv
    refine li_icmp_eq (tgt := 25) hx hb (rgi r16.1 r16.2) ⟨by omega, by omega⟩ dX2_isDown_20 (by decide) (fun c20 => ?_) (fun c20 => ?_)
    · refine li_iinc (a := 0) (lv' := [(2, .int (ii 1)), (0, .ref (fd 0)), (1, .ref (sd 0))]) hx hb dX2_isDown_25 hl (k := 0) rfl (by decide) rfl (fun ls hl => ?_)
      refine lv_goto (tgt := 2) hx hb dX2_isDown_28 (by decide) ?_
      refine lv_iload_n hx hb dX2_isDown_2 rfl (lv_at hl 0 rfl) ?_
      refine lv_aload_n hx hb dX2_isDown_3 rfl (lv_at hl 1 rfl) ?_
      refine va_get (D := G) (fs := [.ref (fd 1), .ref (fd 2), .ref (fd 3), .ref (fd 4), .int (ii (F 8 0)), .ref (fd 5), .int (ii (F 9 0)), .ref (fd 6), .int (ii (F 10 0)), .int (ii (F 11 0)), .int (ii (F 12 0)), .int (ii (F 13 0)), .ref (fd 7)]) (ci := 1) (v := .int (ii (F 9 0))) (C := RX2) (T := TX2) (N := 13) hx hb hts in_X2 hown hK hP (fi 0) hF.1 rfl 6 (by decide) (hts _ q791) (fun _ h9 => h9) rfl dX2_isDown_4 ?_
      refine li_icmp_ge (tgt := 31) hx hb ⟨by decide, by decide⟩ (rgi h9a h9b) dX2_isDown_7 (by decide) (fun c7 => ?_) (fun c7 => ?_)
      · refine li_iconst hx hb dX2_isDown_31 ?_
        exact eRz hQ hx hb hr hlk dX2_isDown_32 (.inr rfl) (⟨_, rfl, by omega⟩)
      · refine lv_aload_n hx hb dX2_isDown_10 rfl (lv_at hl 2 rfl) ?_
        refine va_get (D := G) (fs := [.ref (sd 1), .ref (sd 2)]) (ci := 2) (v := .ref (sd 1)) (C := RX3) (T := TX3) (N := 2) hx hb hts in_X3 hown hK hP (si 0) hSp.1 rfl 0 (by decide) (hts _ q656) (fun _ h9 => h9) rfl dX2_isDown_11 ?_
        refine lv_iload_n hx hb dX2_isDown_14 rfl (lv_at hl 0 rfl) ?_
        refine li_iald (g := w) hx hb hK hP (si 1) 0 hSp.2.1 rfl (by decide) (by decide) (by decide) dX2_isDown_15 ?_
        have r16_1 := hs0 1
        refine lv_aload_n hx hb dX2_isDown_16 rfl (lv_at hl 1 rfl) ?_
        refine kR (va_runV (As := []) (rest := [.int (ii (w 1))]) ⟨hx, hb, hml, hown, hts⟩ (m_ground l G ty ws fi fd F  hF hW) (cwV 0 hts (lw_V q599 q330 q331 q77 q332) rfl rfl rfl (by decide +kernel) ⟨Nat.le_of_ble_eq_true rfl, Nat.le_of_ble_eq_true rfl⟩) (pvR (r := (RX2, TX2, 13)) hK hP hD hX (fi 0) hF.1 rfl) rfl rfl hl.1 rfl (lv_room (Nat.le_of_ble_eq_true rfl)) dX2_isDown_17 ⟨Nat.le_of_ble_eq_true rfl, Nat.le_of_ble_eq_true rfl⟩) (fun v hv => ?_)
        obtain ⟨z17_1, rfl, h17_1⟩ := hv
        refine li_icmp_eq (tgt := 25) hx hb (rgi r16_1.1 r16_1.2) ⟨by omega, by omega⟩ dX2_isDown_20 (by decide) (fun c20 => ?_) (fun c20 => ?_)
        · refine li_iinc (a := 1) (lv' := [(2, .int (ii 2)), (0, .ref (fd 0)), (1, .ref (sd 0))]) hx hb dX2_isDown_25 hl (k := 0) rfl (by decide) rfl (fun ls hl => ?_)
          refine lv_goto (tgt := 2) hx hb dX2_isDown_28 (by decide) ?_
          refine lv_iload_n hx hb dX2_isDown_2 rfl (lv_at hl 0 rfl) ?_
          refine lv_aload_n hx hb dX2_isDown_3 rfl (lv_at hl 1 rfl) ?_
          refine va_get (D := G) (fs := [.ref (fd 1), .ref (fd 2), .ref (fd 3), .ref (fd 4), .int (ii (F 8 0)), .ref (fd 5), .int (ii (F 9 0)), .ref (fd 6), .int (ii (F 10 0)), .int (ii (F 11 0)), .int (ii (F 12 0)), .int (ii (F 13 0)), .ref (fd 7)]) (ci := 1) (v := .int (ii (F 9 0))) (C := RX2) (T := TX2) (N := 13) hx hb hts in_X2 hown hK hP (fi 0) hF.1 rfl 6 (by decide) (hts _ q791) (fun _ h9 => h9) rfl dX2_isDown_4 ?_
          refine li_icmp_ge (tgt := 31) hx hb ⟨by decide, by decide⟩ (rgi h9a h9b) dX2_isDown_7 (by decide) (fun c7 => ?_) (fun c7 => ?_)
          · refine li_iconst hx hb dX2_isDown_31 ?_
            exact eRz hQ hx hb hr hlk dX2_isDown_32 (.inr rfl) (⟨_, rfl, by omega⟩)
          · refine lv_aload_n hx hb dX2_isDown_10 rfl (lv_at hl 2 rfl) ?_
            refine va_get (D := G) (fs := [.ref (sd 1), .ref (sd 2)]) (ci := 2) (v := .ref (sd 1)) (C := RX3) (T := TX3) (N := 2) hx hb hts in_X3 hown hK hP (si 0) hSp.1 rfl 0 (by decide) (hts _ q656) (fun _ h9 => h9) rfl dX2_isDown_11 ?_
            refine lv_iload_n hx hb dX2_isDown_14 rfl (lv_at hl 0 rfl) ?_
            refine li_iald (g := w) hx hb hK hP (si 1) 0 hSp.2.1 rfl (by decide) (by decide) (by decide) dX2_isDown_15 ?_
            have r16_2 := hs0 2
            refine lv_aload_n hx hb dX2_isDown_16 rfl (lv_at hl 1 rfl) ?_
            refine kR (va_runV (As := []) (rest := [.int (ii (w 2))]) ⟨hx, hb, hml, hown, hts⟩ (m_ground l G ty ws fi fd F  hF hW) (cwV 0 hts (lw_V q599 q330 q331 q77 q332) rfl rfl rfl (by decide +kernel) ⟨Nat.le_of_ble_eq_true rfl, Nat.le_of_ble_eq_true rfl⟩) (pvR (r := (RX2, TX2, 13)) hK hP hD hX (fi 0) hF.1 rfl) rfl rfl hl.1 rfl (lv_room (Nat.le_of_ble_eq_true rfl)) dX2_isDown_17 ⟨Nat.le_of_ble_eq_true rfl, Nat.le_of_ble_eq_true rfl⟩) (fun v hv => ?_)
            obtain ⟨z17_2, rfl, h17_2⟩ := hv
            refine li_icmp_eq (tgt := 25) hx hb (rgi r16_2.1 r16_2.2) ⟨by omega, by omega⟩ dX2_isDown_20 (by decide) (fun c20 => ?_) (fun c20 => ?_)
            · refine li_iinc (a := 2) (lv' := [(2, .int (ii 3)), (0, .ref (fd 0)), (1, .ref (sd 0))]) hx hb dX2_isDown_25 hl (k := 0) rfl (by decide) rfl (fun ls hl => ?_)
              refine lv_goto (tgt := 2) hx hb dX2_isDown_28 (by decide) ?_
              refine lv_iload_n hx hb dX2_isDown_2 rfl (lv_at hl 0 rfl) ?_
              refine lv_aload_n hx hb dX2_isDown_3 rfl (lv_at hl 1 rfl) ?_
              refine va_get (D := G) (fs := [.ref (fd 1), .ref (fd 2), .ref (fd 3), .ref (fd 4), .int (ii (F 8 0)), .ref (fd 5), .int (ii (F 9 0)), .ref (fd 6), .int (ii (F 10 0)), .int (ii (F 11 0)), .int (ii (F 12 0)), .int (ii (F 13 0)), .ref (fd 7)]) (ci := 1) (v := .int (ii (F 9 0))) (C := RX2) (T := TX2) (N := 13) hx hb hts in_X2 hown hK hP (fi 0) hF.1 rfl 6 (by decide) (hts _ q791) (fun _ h9 => h9) rfl dX2_isDown_4 ?_
              refine li_icmp_ge (tgt := 31) hx hb ⟨by decide, by decide⟩ (rgi h9a h9b) dX2_isDown_7 (by decide) (fun c7 => ?_) (fun c7 => ?_)
              · refine li_iconst hx hb dX2_isDown_31 ?_
                exact eRz hQ hx hb hr hlk dX2_isDown_32 (.inr rfl) (⟨_, rfl, by omega⟩)
              · exfalso
                omega
            · refine li_iconst hx hb dX2_isDown_23 ?_
              exact eRz hQ hx hb hr hlk dX2_isDown_24 (.inl rfl) (⟨_, rfl, by omega⟩)
        · refine li_iconst hx hb dX2_isDown_23 ?_
          exact eRz hQ hx hb hr hlk dX2_isDown_24 (.inl rfl) (⟨_, rfl, by omega⟩)
    · refine li_iconst hx hb dX2_isDown_23 ?_
      exact eRz hQ hx hb hr hlk dX2_isDown_24 (.inl rfl) (⟨_, rfl, by omega⟩)
set_option maxHeartbeats 4000000 in
theorem m_code (l : Launch) (G : va_G) (ty : Nat → ClassId) (ws : va_W) (si sd : Nat → Nat) (w q : Int → Int)  (hSp : spotAt ty ws si sd w q) : cR l yX3_code (ws_ yX3_code cX3_code 3 (some .int)) (rm4 0 0 0 0) G ty (ws) [.ref (sd 0)] (fun r => ∃ z : Int, r = some (.int (ii z)) ∧ z = cdv w q) := by
  refine cR.of (by decide) (Nat.le_of_ble_eq_true rfl) ?_
  intro p e s m args below meth c Q hQ hx hb hr hml hown hlk hts hK hP hD hX ls hl
  have hl : lv_has ls 3 [(0, .ref (sd 0))] := hl
  refine li_iconst hx hb dX3_code_0 ?_
  refine lv_istore_n (lv' := [(1, .int (ii 0)), (0, .ref (sd 0))]) hx hb dX3_code_1 rfl hl (by decide) rfl (fun ls hl => ?_)
  refine li_iconst hx hb dX3_code_2 ?_
  refine lv_istore_n (lv' := [(2, .int (ii 1)), (1, .int (ii 0)), (0, .ref (sd 0))]) hx hb dX3_code_3 rfl hl (by decide) rfl (fun ls hl => ?_)
  refine lv_iload_n hx hb dX3_code_4 rfl (lv_at hl 0 rfl) ?_
  refine li_if_lt (tgt := 26) hx hb ⟨by decide, by decide⟩ dX3_code_5 (by decide) (fun c5 => ?_) (fun c5 => ?_)
  · exact absurd c5 (by decide)
  · refine li_bipush hx hb dX3_code_8 (by decide) ?_
    refine lv_iload_n hx hb dX3_code_10 rfl (lv_at hl 1 rfl) ?_
    refine li_mul hx hb dX3_code_11 ?_
    refine li_top (b := 0) (by decide) ?_
    refine lv_aload_n hx hb dX3_code_12 rfl (lv_at hl 2 rfl) ?_
    refine va_get (D := G) (fs := [.ref (sd 1), .ref (sd 2)]) (ci := 2) (v := .ref (sd 2)) (C := RX3) (T := TX3) (N := 2) hx hb hts in_X3 hown hK hP (si 0) hSp.1 rfl 1 (by decide) (hts _ q658) (fun _ h9 => h9) rfl dX3_code_13 ?_
    refine lv_iload_n hx hb dX3_code_16 rfl (lv_at hl 0 rfl) ?_
    refine li_iald (g := q) hx hb hK hP (si 2) 0 hSp.2.2 rfl (by decide) (by decide) (by decide) dX3_code_17 ?_
    refine li_add hx hb dX3_code_18 ?_
    refine lv_istore_n (lv' := [(1, .int (ii (0 + (q 1)))), (2, .int (ii 1)), (0, .ref (sd 0))]) hx hb dX3_code_19 rfl hl (by decide) rfl (fun ls hl => ?_)
    refine li_iinc (a := 1) (lv' := [(2, .int (ii 0)), (1, .int (ii (0 + (q 1)))), (0, .ref (sd 0))]) hx hb dX3_code_20 hl (k := 1) rfl (by decide) rfl (fun ls hl => ?_)
    refine lv_goto (tgt := 4) hx hb dX3_code_23 (by decide) ?_
    refine lv_iload_n hx hb dX3_code_4 rfl (lv_at hl 0 rfl) ?_
    refine li_if_lt (tgt := 26) hx hb ⟨by decide, by decide⟩ dX3_code_5 (by decide) (fun c5 => ?_) (fun c5 => ?_)
    · exact absurd c5 (by decide)
    · refine li_bipush hx hb dX3_code_8 (by decide) ?_
      refine lv_iload_n hx hb dX3_code_10 rfl (lv_at hl 1 rfl) ?_
      refine li_mul hx hb dX3_code_11 ?_
      refine lv_aload_n hx hb dX3_code_12 rfl (lv_at hl 2 rfl) ?_
      refine va_get (D := G) (fs := [.ref (sd 1), .ref (sd 2)]) (ci := 2) (v := .ref (sd 2)) (C := RX3) (T := TX3) (N := 2) hx hb hts in_X3 hown hK hP (si 0) hSp.1 rfl 1 (by decide) (hts _ q658) (fun _ h9 => h9) rfl dX3_code_13 ?_
      refine lv_iload_n hx hb dX3_code_16 rfl (lv_at hl 0 rfl) ?_
      refine li_iald (g := q) hx hb hK hP (si 2) 0 hSp.2.2 rfl (by decide) (by decide) (by decide) dX3_code_17 ?_
      refine li_add hx hb dX3_code_18 ?_
      refine lv_istore_n (lv' := [(1, .int (ii (6 * (0 + (q 1)) + (q 0)))), (2, .int (ii 0)), (0, .ref (sd 0))]) hx hb dX3_code_19 rfl hl (by decide) rfl (fun ls hl => ?_)
      refine li_iinc (a := 0) (lv' := [(2, .int (ii (-1))), (1, .int (ii (6 * (0 + (q 1)) + (q 0)))), (0, .ref (sd 0))]) hx hb dX3_code_20 hl (k := 1) rfl (by decide) rfl (fun ls hl => ?_)
      refine lv_goto (tgt := 4) hx hb dX3_code_23 (by decide) ?_
      refine lv_iload_n hx hb dX3_code_4 rfl (lv_at hl 0 rfl) ?_
      refine li_if_lt (tgt := 26) hx hb ⟨by decide, by decide⟩ dX3_code_5 (by decide) (fun c5 => ?_) (fun c5 => ?_)
      · refine li_iconst hx hb dX3_code_26 ?_
        refine lv_istore_n (lv' := [(2, .int (ii 2)), (1, .int (ii (6 * (0 + (q 1)) + (q 0)))), (0, .ref (sd 0))]) hx hb dX3_code_27 rfl hl (by decide) rfl (fun ls hl => ?_)
        refine lv_iload_n hx hb dX3_code_28 rfl (lv_at hl 0 rfl) ?_
        refine li_if_lt (tgt := 49) hx hb ⟨by decide, by decide⟩ dX3_code_29 (by decide) (fun c29 => ?_) (fun c29 => ?_)
        · exact absurd c29 (by decide)
        · refine li_iconst hx hb dX3_code_32 ?_
          refine lv_iload_n hx hb dX3_code_33 rfl (lv_at hl 1 rfl) ?_
          refine li_mul hx hb dX3_code_34 ?_
          refine lv_aload_n hx hb dX3_code_35 rfl (lv_at hl 2 rfl) ?_
          refine va_get (D := G) (fs := [.ref (sd 1), .ref (sd 2)]) (ci := 2) (v := .ref (sd 1)) (C := RX3) (T := TX3) (N := 2) hx hb hts in_X3 hown hK hP (si 0) hSp.1 rfl 0 (by decide) (hts _ q654) (fun _ h9 => h9) rfl dX3_code_36 ?_
          refine lv_iload_n hx hb dX3_code_39 rfl (lv_at hl 0 rfl) ?_
          refine li_iald (g := w) hx hb hK hP (si 1) 0 hSp.2.1 rfl (by decide) (by decide) (by decide) dX3_code_40 ?_
          refine li_add hx hb dX3_code_41 ?_
          refine lv_istore_n (lv' := [(1, .int (ii (5 * (6 * (0 + (q 1)) + (q 0)) + (w 2)))), (2, .int (ii 2)), (0, .ref (sd 0))]) hx hb dX3_code_42 rfl hl (by decide) rfl (fun ls hl => ?_)
          refine li_iinc (a := 2) (lv' := [(2, .int (ii 1)), (1, .int (ii (5 * (6 * (0 + (q 1)) + (q 0)) + (w 2)))), (0, .ref (sd 0))]) hx hb dX3_code_43 hl (k := 1) rfl (by decide) rfl (fun ls hl => ?_)
          refine lv_goto (tgt := 28) hx hb dX3_code_46 (by decide) ?_
          refine lv_iload_n hx hb dX3_code_28 rfl (lv_at hl 0 rfl) ?_
          refine li_if_lt (tgt := 49) hx hb ⟨by decide, by decide⟩ dX3_code_29 (by decide) (fun c29 => ?_) (fun c29 => ?_)
          · exact absurd c29 (by decide)
          · refine li_iconst hx hb dX3_code_32 ?_
            refine lv_iload_n hx hb dX3_code_33 rfl (lv_at hl 1 rfl) ?_
            refine li_mul hx hb dX3_code_34 ?_
            refine lv_aload_n hx hb dX3_code_35 rfl (lv_at hl 2 rfl) ?_
            refine va_get (D := G) (fs := [.ref (sd 1), .ref (sd 2)]) (ci := 2) (v := .ref (sd 1)) (C := RX3) (T := TX3) (N := 2) hx hb hts in_X3 hown hK hP (si 0) hSp.1 rfl 0 (by decide) (hts _ q654) (fun _ h9 => h9) rfl dX3_code_36 ?_
            refine lv_iload_n hx hb dX3_code_39 rfl (lv_at hl 0 rfl) ?_
            refine li_iald (g := w) hx hb hK hP (si 1) 0 hSp.2.1 rfl (by decide) (by decide) (by decide) dX3_code_40 ?_
            refine li_add hx hb dX3_code_41 ?_
            refine lv_istore_n (lv' := [(1, .int (ii (5 * (5 * (6 * (0 + (q 1)) + (q 0)) + (w 2)) + (w 1)))), (2, .int (ii 1)), (0, .ref (sd 0))]) hx hb dX3_code_42 rfl hl (by decide) rfl (fun ls hl => ?_)
            refine li_iinc (a := 1) (lv' := [(2, .int (ii 0)), (1, .int (ii (5 * (5 * (6 * (0 + (q 1)) + (q 0)) + (w 2)) + (w 1)))), (0, .ref (sd 0))]) hx hb dX3_code_43 hl (k := 1) rfl (by decide) rfl (fun ls hl => ?_)
            refine lv_goto (tgt := 28) hx hb dX3_code_46 (by decide) ?_
            refine lv_iload_n hx hb dX3_code_28 rfl (lv_at hl 0 rfl) ?_
            refine li_if_lt (tgt := 49) hx hb ⟨by decide, by decide⟩ dX3_code_29 (by decide) (fun c29 => ?_) (fun c29 => ?_)
            · exact absurd c29 (by decide)
            · refine li_iconst hx hb dX3_code_32 ?_
              refine lv_iload_n hx hb dX3_code_33 rfl (lv_at hl 1 rfl) ?_
              refine li_mul hx hb dX3_code_34 ?_
              refine lv_aload_n hx hb dX3_code_35 rfl (lv_at hl 2 rfl) ?_
              refine va_get (D := G) (fs := [.ref (sd 1), .ref (sd 2)]) (ci := 2) (v := .ref (sd 1)) (C := RX3) (T := TX3) (N := 2) hx hb hts in_X3 hown hK hP (si 0) hSp.1 rfl 0 (by decide) (hts _ q654) (fun _ h9 => h9) rfl dX3_code_36 ?_
              refine lv_iload_n hx hb dX3_code_39 rfl (lv_at hl 0 rfl) ?_
              refine li_iald (g := w) hx hb hK hP (si 1) 0 hSp.2.1 rfl (by decide) (by decide) (by decide) dX3_code_40 ?_
              refine li_add hx hb dX3_code_41 ?_
              refine lv_istore_n (lv' := [(1, .int (ii (5 * (5 * (5 * (6 * (0 + (q 1)) + (q 0)) + (w 2)) + (w 1)) + (w 0)))), (2, .int (ii 0)), (0, .ref (sd 0))]) hx hb dX3_code_42 rfl hl (by decide) rfl (fun ls hl => ?_)
              refine li_iinc (a := 0) (lv' := [(2, .int (ii (-1))), (1, .int (ii (5 * (5 * (5 * (6 * (0 + (q 1)) + (q 0)) + (w 2)) + (w 1)) + (w 0)))), (0, .ref (sd 0))]) hx hb dX3_code_43 hl (k := 1) rfl (by decide) rfl (fun ls hl => ?_)
              refine lv_goto (tgt := 28) hx hb dX3_code_46 (by decide) ?_
              refine lv_iload_n hx hb dX3_code_28 rfl (lv_at hl 0 rfl) ?_
              refine li_if_lt (tgt := 49) hx hb ⟨by decide, by decide⟩ dX3_code_29 (by decide) (fun c29 => ?_) (fun c29 => ?_)
              · refine lv_iload_n hx hb dX3_code_49 rfl (lv_at hl 1 rfl) ?_
                exact eRi hQ hx hb hr hlk dX3_code_50 (⟨_, rfl, by unfold cdv; omega⟩)
              · exact absurd c29 (by decide)
      · exact absurd c5 (by decide)
set_option maxHeartbeats 4000000 in
theorem m_canGo_6 (l : Launch) (G : va_G) (ty : Nat → ClassId) (ws : va_W) (fi fd : Nat → Nat) (F : mem) (si sd : Nat → Nat) (w q : Int → Int) (mi md : Nat) (st rp fr to : Int) (hl0 : Int) (hF : faceAt ty ws fi fd F) (hW : wfF F) (hSp : spotAt ty ws si sd w q) (hWS : wfS w q) (hM : moveAt ws 5 mi md st rp fr to) (hm : 0 ≤ st ∧ st ≤ 7 ∧ 0 ≤ rp ∧ rp ≤ 1 ∧ 0 ≤ fr ∧ fr ≤ 4 ∧ 0 ≤ to ∧ to ≤ 4) (hh : hl0 = 0 ∨ hl0 = 1) : cR l yX5_canGo (ws_ yX5_canGo cX5_canGo 7 (some .boolean)) (rm4 1 0 0 21) G ty (ws) [.ref md, .ref (fd 0), .ref (sd 0), .int (ii hl0)] (fun r => ∃ z : Int, r = some (.int (ii z)) ∧ ((z = 1 ∧ okGo F w st fr to hl0) ∨ (z = 0 ∧ ¬ okGo F w st fr to hl0))) := by
  refine cR.of (by decide) (Nat.le_of_ble_eq_true rfl) ?_
  intro p e s m args below meth c Q hQ hx hb hr hml hown hlk hts hK hP hD hX ls hl
  have hl : lv_has ls 7 [(0, .ref md), (1, .ref (fd 0)), (2, .ref (sd 0)), (3, .int (ii hl0))] := hl
  obtain ⟨hw0, hw1, hw2, hw3, hw4, hw5, h8a, h8b, h9a, h9b, h10a, h10b⟩ := id hW
  obtain ⟨hs0, hs1⟩ := id hWS
  obtain ⟨hm0, hm1, hm2, hm3, hm4, hm5, hm6, hm7⟩ := id hm
  refine lv_aload_n hx hb dX5_canGo_0 rfl (lv_at hl 0 rfl) ?_
  refine va_get (D := G) (fs := [.int (ii st), .int (ii rp), .int (ii fr), .int (ii to)]) (ci := 5) (v := .int (ii st)) (C := RX6) (T := TX6) (N := 4) hx hb hts in_X6 hown hK hP mi hM rfl 0 (by decide) (hts _ q861) (fun _ h9 => h9) rfl dX5_canGo_1 ?_
  refine li_if_eq (tgt := 29) hx hb (rgi hm0 hm1) dX5_canGo_4 (by decide) (fun c4 => ?_) (fun c4 => ?_)
  · refine li_iconst hx hb dX5_canGo_29 ?_
    exact eRz hQ hx hb hr hlk dX5_canGo_30 (.inl rfl) (⟨_, rfl, .inr ⟨rfl, fun h => by obtain ⟨q1, q2, q3, q4, q5, q6, q7, q8⟩ := h; omega⟩⟩)
  · refine lv_aload_n hx hb dX5_canGo_7 rfl (lv_at hl 1 rfl) ?_
    refine lv_aload_n hx hb dX5_canGo_8 rfl (lv_at hl 0 rfl) ?_
    refine va_get (D := G) (fs := [.int (ii st), .int (ii rp), .int (ii fr), .int (ii to)]) (ci := 5) (v := .int (ii to)) (C := RX6) (T := TX6) (N := 4) hx hb hts in_X6 hown hK hP mi hM rfl 3 (by decide) (hts _ q900) (fun _ h9 => h9) rfl dX5_canGo_9 ?_
    refine kR (va_runV (As := [.int (ii to)]) (rest := []) ⟨hx, hb, hml, hown, hts⟩ (m_isLedge l G ty ws fi fd F to hF hW (rgi hm6 hm7)) (cwV 1 hts (lw_V q415 q309 q310 q77 q311) rfl rfl rfl (by decide +kernel) ⟨Nat.le_of_ble_eq_true rfl, Nat.le_of_ble_eq_true rfl⟩) (pvR (r := (RX2, TX2, 13)) hK hP hD hX (fi 0) hF.1 rfl) rfl rfl hl.1 rfl (lv_room (Nat.le_of_ble_eq_true rfl)) dX5_canGo_12 ⟨Nat.le_of_ble_eq_true rfl, Nat.le_of_ble_eq_true rfl⟩) (fun v hv => ?_)
    obtain ⟨z12, rfl, ⟨rfl, h12⟩ | ⟨rfl, h12⟩⟩ := hv
    · refine li_if_eq (tgt := 29) hx hb ⟨by decide, by decide⟩ dX5_canGo_15 (by decide) (fun c15 => ?_) (fun c15 => ?_)
      · exact absurd c15 (by decide)
      · refine lv_aload_n hx hb dX5_canGo_18 rfl (lv_at hl 0 rfl) ?_
        refine va_get (D := G) (fs := [.int (ii st), .int (ii rp), .int (ii fr), .int (ii to)]) (ci := 5) (v := .int (ii to)) (C := RX6) (T := TX6) (N := 4) hx hb hts in_X6 hown hK hP mi hM rfl 3 (by decide) (hts _ q900) (fun _ h9 => h9) rfl dX5_canGo_19 ?_
        refine lv_aload_n hx hb dX5_canGo_22 rfl (lv_at hl 0 rfl) ?_
        refine va_get (D := G) (fs := [.int (ii st), .int (ii rp), .int (ii fr), .int (ii to)]) (ci := 5) (v := .int (ii fr)) (C := RX6) (T := TX6) (N := 4) hx hb hts in_X6 hown hK hP mi hM rfl 2 (by decide) (hts _ q889) (fun _ h9 => h9) rfl dX5_canGo_23 ?_
        refine li_icmp_ne (tgt := 31) hx hb (rgi hm6 hm7) (rgi hm4 hm5) dX5_canGo_26 (by decide) (fun c26 => ?_) (fun c26 => ?_)
        · refine li_iconst hx hb dX5_canGo_31 ?_
          refine lv_istore (lv' := [(4, .int (ii 0)), (0, .ref md), (1, .ref (fd 0)), (2, .ref (sd 0)), (3, .int (ii hl0))]) hx hb dX5_canGo_32 hl (by decide) rfl (fun ls hl => ?_)
          refine li_iconst hx hb dX5_canGo_34 ?_
          refine lv_istore (lv' := [(5, .int (ii 0)), (4, .int (ii 0)), (0, .ref md), (1, .ref (fd 0)), (2, .ref (sd 0)), (3, .int (ii hl0))]) hx hb dX5_canGo_35 hl (by decide) rfl (fun ls hl => ?_)
          refine lv_iload hx hb dX5_canGo_37 (lv_at hl 0 rfl) ?_
          refine li_iconst hx hb dX5_canGo_39 ?_
          refine li_icmp_ge (tgt := 152) hx hb ⟨by decide, by decide⟩ ⟨by decide, by decide⟩ dX5_canGo_40 (by decide) (fun c40 => ?_) (fun c40 => ?_)
          · exact absurd c40 (by decide)
          · refine lv_aload_n hx hb dX5_canGo_43 rfl (lv_at hl 2 rfl) ?_
            refine va_get (D := G) (fs := [.int (ii st), .int (ii rp), .int (ii fr), .int (ii to)]) (ci := 5) (v := .int (ii st)) (C := RX6) (T := TX6) (N := 4) hx hb hts in_X6 hown hK hP mi hM rfl 0 (by decide) (hts _ q861) (fun _ h9 => h9) rfl dX5_canGo_44 ?_
            refine lv_iload hx hb dX5_canGo_47 (lv_at hl 0 rfl) ?_
            refine lv_ishr hx hb dX5_canGo_49 ?_
            refine li_topx (z := st) (ii_shr0 (by omega) (by omega)) ?_
            refine li_iconst hx hb dX5_canGo_50 ?_
            refine lv_iand hx hb dX5_canGo_51 ?_
            refine li_topx (z := st % 2) (ii_and1 (by omega) (by omega)) ?_
            refine li_iconst hx hb dX5_canGo_52 ?_
            have J53 : ∀ (y53_0 : Int) (_ : y53_0 = st % 2) (ls : Array Slot), lv_has ls 7 [(5, .int (ii 0)), (4, .int (ii 0)), (0, .ref md), (1, .ref (fd 0)), (2, .ref (sd 0)), (3, .int (ii hl0))] → W p l e (rm4 1 0 0 21) s m args below meth c s.heap [] 0 0 Q (F0 m 61 ls [.int (ii y53_0)]) := by
              intro y53_0 hj53 ls hl
              refine lv_istore (lv' := [(6, .int (ii y53_0)), (5, .int (ii 0)), (4, .int (ii 0)), (0, .ref md), (1, .ref (fd 0)), (2, .ref (sd 0)), (3, .int (ii hl0))]) hx hb dX5_canGo_61 hl (by decide) rfl (fun ls hl => ?_)
              refine lv_iload hx hb dX5_canGo_63 (lv_at hl 0 rfl) ?_
              have J65 : ∀ (_ : goP F w (st % 2) fr hl0 0) (ls : Array Slot), lv_has ls 7 [(6, .int (ii y53_0)), (5, .int (ii 0)), (4, .int (ii 0)), (0, .ref md), (1, .ref (fd 0)), (2, .ref (sd 0)), (3, .int (ii hl0))] → W p l e (rm4 1 0 0 21) s m args below meth c s.heap [] 0 0 Q (F0 m 108 ls []) := by
                intro hj65 ls hl
                refine lv_iload hx hb dX5_canGo_108 (lv_at hl 2 rfl) ?_
                refine lv_iload hx hb dX5_canGo_110 (lv_at hl 0 rfl) ?_
                have J112 : ∀ (y112_0 : Int) (_ : y112_0 = tpV F w (st % 2) to 0 ∧ 0 ≤ y112_0 ∧ y112_0 ≤ 1) (ls : Array Slot), lv_has ls 7 [(6, .int (ii y53_0)), (5, .int (ii 0)), (4, .int (ii 0)), (0, .ref md), (1, .ref (fd 0)), (2, .ref (sd 0)), (3, .int (ii hl0))] → W p l e (rm4 1 0 0 21) s m args below meth c s.heap [] 0 0 Q (F0 m 143 ls [.int (ii y112_0), .int (ii 0)]) := by
                  intro y112_0 hj112 ls hl
                  refine li_add hx hb dX5_canGo_143 ?_
                  refine lv_istore (lv' := [(4, .int (ii (0 + y112_0))), (6, .int (ii y53_0)), (5, .int (ii 0)), (0, .ref md), (1, .ref (fd 0)), (2, .ref (sd 0)), (3, .int (ii hl0))]) hx hb dX5_canGo_144 hl (by decide) rfl (fun ls hl => ?_)
                  refine li_iinc (a := 0) (lv' := [(5, .int (ii 1)), (4, .int (ii (0 + y112_0))), (6, .int (ii y53_0)), (0, .ref md), (1, .ref (fd 0)), (2, .ref (sd 0)), (3, .int (ii hl0))]) hx hb dX5_canGo_146 hl (k := 2) rfl (by decide) rfl (fun ls hl => ?_)
                  refine lv_goto (tgt := 37) hx hb dX5_canGo_149 (by decide) ?_
                  refine lv_iload hx hb dX5_canGo_37 (lv_at hl 0 rfl) ?_
                  refine li_iconst hx hb dX5_canGo_39 ?_
                  refine li_icmp_ge (tgt := 152) hx hb ⟨by decide, by decide⟩ ⟨by decide, by decide⟩ dX5_canGo_40 (by decide) (fun c40 => ?_) (fun c40 => ?_)
                  · exact absurd c40 (by decide)
                  · refine lv_aload_n hx hb dX5_canGo_43 rfl (lv_at hl 3 rfl) ?_
                    refine va_get (D := G) (fs := [.int (ii st), .int (ii rp), .int (ii fr), .int (ii to)]) (ci := 5) (v := .int (ii st)) (C := RX6) (T := TX6) (N := 4) hx hb hts in_X6 hown hK hP mi hM rfl 0 (by decide) (hts _ q861) (fun _ h9 => h9) rfl dX5_canGo_44 ?_
                    refine lv_iload hx hb dX5_canGo_47 (lv_at hl 0 rfl) ?_
                    refine lv_ishr hx hb dX5_canGo_49 ?_
                    refine li_topx (z := st / 2) (ii_shr1 (by omega) (by omega)) ?_
                    refine li_iconst hx hb dX5_canGo_50 ?_
                    refine lv_iand hx hb dX5_canGo_51 ?_
                    refine li_topx (z := (st / 2) % 2) (ii_and1 (by omega) (by omega)) ?_
                    refine li_iconst hx hb dX5_canGo_52 ?_
                    have J53_1 : ∀ (y53_1_0 : Int) (_ : y53_1_0 = (st / 2) % 2) (ls : Array Slot), lv_has ls 7 [(5, .int (ii 1)), (4, .int (ii (0 + y112_0))), (6, .int (ii y53_0)), (0, .ref md), (1, .ref (fd 0)), (2, .ref (sd 0)), (3, .int (ii hl0))] → W p l e (rm4 1 0 0 21) s m args below meth c s.heap [] 0 0 Q (F0 m 61 ls [.int (ii y53_1_0)]) := by
                      intro y53_1_0 hj53_1 ls hl
                      refine lv_istore (lv' := [(6, .int (ii y53_1_0)), (5, .int (ii 1)), (4, .int (ii (0 + y112_0))), (0, .ref md), (1, .ref (fd 0)), (2, .ref (sd 0)), (3, .int (ii hl0))]) hx hb dX5_canGo_61 hl (by decide) rfl (fun ls hl => ?_)
                      refine lv_iload hx hb dX5_canGo_63 (lv_at hl 0 rfl) ?_
                      have J65_1 : ∀ (_ : goP F w (st / 2 % 2) fr hl0 1) (ls : Array Slot), lv_has ls 7 [(6, .int (ii y53_1_0)), (5, .int (ii 1)), (4, .int (ii (0 + y112_0))), (0, .ref md), (1, .ref (fd 0)), (2, .ref (sd 0)), (3, .int (ii hl0))] → W p l e (rm4 1 0 0 21) s m args below meth c s.heap [] 0 0 Q (F0 m 108 ls []) := by
                        intro hj65_1 ls hl
                        refine lv_iload hx hb dX5_canGo_108 (lv_at hl 2 rfl) ?_
                        refine lv_iload hx hb dX5_canGo_110 (lv_at hl 0 rfl) ?_
                        have J112_1 : ∀ (y112_1_0 : Int) (_ : y112_1_0 = tpV F w (st / 2 % 2) to 1 ∧ 0 ≤ y112_1_0 ∧ y112_1_0 ≤ 1) (ls : Array Slot), lv_has ls 7 [(6, .int (ii y53_1_0)), (5, .int (ii 1)), (4, .int (ii (0 + y112_0))), (0, .ref md), (1, .ref (fd 0)), (2, .ref (sd 0)), (3, .int (ii hl0))] → W p l e (rm4 1 0 0 21) s m args below meth c s.heap [] 0 0 Q (F0 m 143 ls [.int (ii y112_1_0), .int (ii (0 + y112_0))]) := by
                          intro y112_1_0 hj112_1 ls hl
                          refine li_add hx hb dX5_canGo_143 ?_
                          refine lv_istore (lv' := [(4, .int (ii (0 + y112_0 + y112_1_0))), (6, .int (ii y53_1_0)), (5, .int (ii 1)), (0, .ref md), (1, .ref (fd 0)), (2, .ref (sd 0)), (3, .int (ii hl0))]) hx hb dX5_canGo_144 hl (by decide) rfl (fun ls hl => ?_)
                          refine li_iinc (a := 1) (lv' := [(5, .int (ii 2)), (4, .int (ii (0 + y112_0 + y112_1_0))), (6, .int (ii y53_1_0)), (0, .ref md), (1, .ref (fd 0)), (2, .ref (sd 0)), (3, .int (ii hl0))]) hx hb dX5_canGo_146 hl (k := 2) rfl (by decide) rfl (fun ls hl => ?_)
                          refine lv_goto (tgt := 37) hx hb dX5_canGo_149 (by decide) ?_
                          refine lv_iload hx hb dX5_canGo_37 (lv_at hl 0 rfl) ?_
                          refine li_iconst hx hb dX5_canGo_39 ?_
                          refine li_icmp_ge (tgt := 152) hx hb ⟨by decide, by decide⟩ ⟨by decide, by decide⟩ dX5_canGo_40 (by decide) (fun c40 => ?_) (fun c40 => ?_)
                          · exact absurd c40 (by decide)
                          · refine lv_aload_n hx hb dX5_canGo_43 rfl (lv_at hl 3 rfl) ?_
                            refine va_get (D := G) (fs := [.int (ii st), .int (ii rp), .int (ii fr), .int (ii to)]) (ci := 5) (v := .int (ii st)) (C := RX6) (T := TX6) (N := 4) hx hb hts in_X6 hown hK hP mi hM rfl 0 (by decide) (hts _ q861) (fun _ h9 => h9) rfl dX5_canGo_44 ?_
                            refine lv_iload hx hb dX5_canGo_47 (lv_at hl 0 rfl) ?_
                            refine lv_ishr hx hb dX5_canGo_49 ?_
                            refine li_topx (z := st / 4) (ii_shr2 (by omega) (by omega)) ?_
                            refine li_iconst hx hb dX5_canGo_50 ?_
                            refine lv_iand hx hb dX5_canGo_51 ?_
                            refine li_topx (z := (st / 4) % 2) (ii_and1 (by omega) (by omega)) ?_
                            refine li_iconst hx hb dX5_canGo_52 ?_
                            have J53_2 : ∀ (y53_2_0 : Int) (_ : y53_2_0 = (st / 4) % 2) (ls : Array Slot), lv_has ls 7 [(5, .int (ii 2)), (4, .int (ii (0 + y112_0 + y112_1_0))), (6, .int (ii y53_1_0)), (0, .ref md), (1, .ref (fd 0)), (2, .ref (sd 0)), (3, .int (ii hl0))] → W p l e (rm4 1 0 0 21) s m args below meth c s.heap [] 0 0 Q (F0 m 61 ls [.int (ii y53_2_0)]) := by
                              intro y53_2_0 hj53_2 ls hl
                              refine lv_istore (lv' := [(6, .int (ii y53_2_0)), (5, .int (ii 2)), (4, .int (ii (0 + y112_0 + y112_1_0))), (0, .ref md), (1, .ref (fd 0)), (2, .ref (sd 0)), (3, .int (ii hl0))]) hx hb dX5_canGo_61 hl (by decide) rfl (fun ls hl => ?_)
                              refine lv_iload hx hb dX5_canGo_63 (lv_at hl 0 rfl) ?_
                              have J65_2 : ∀ (_ : goP F w (st / 4 % 2) fr hl0 2) (ls : Array Slot), lv_has ls 7 [(6, .int (ii y53_2_0)), (5, .int (ii 2)), (4, .int (ii (0 + y112_0 + y112_1_0))), (0, .ref md), (1, .ref (fd 0)), (2, .ref (sd 0)), (3, .int (ii hl0))] → W p l e (rm4 1 0 0 21) s m args below meth c s.heap [] 0 0 Q (F0 m 108 ls []) := by
                                intro hj65_2 ls hl
                                refine lv_iload hx hb dX5_canGo_108 (lv_at hl 2 rfl) ?_
                                refine lv_iload hx hb dX5_canGo_110 (lv_at hl 0 rfl) ?_
                                have J112_2 : ∀ (y112_2_0 : Int) (_ : y112_2_0 = tpV F w (st / 4 % 2) to 2 ∧ 0 ≤ y112_2_0 ∧ y112_2_0 ≤ 1) (ls : Array Slot), lv_has ls 7 [(6, .int (ii y53_2_0)), (5, .int (ii 2)), (4, .int (ii (0 + y112_0 + y112_1_0))), (0, .ref md), (1, .ref (fd 0)), (2, .ref (sd 0)), (3, .int (ii hl0))] → W p l e (rm4 1 0 0 21) s m args below meth c s.heap [] 0 0 Q (F0 m 143 ls [.int (ii y112_2_0), .int (ii (0 + y112_0 + y112_1_0))]) := by
                                  intro y112_2_0 hj112_2 ls hl
                                  refine li_add hx hb dX5_canGo_143 ?_
                                  refine lv_istore (lv' := [(4, .int (ii (0 + y112_0 + y112_1_0 + y112_2_0))), (6, .int (ii y53_2_0)), (5, .int (ii 2)), (0, .ref md), (1, .ref (fd 0)), (2, .ref (sd 0)), (3, .int (ii hl0))]) hx hb dX5_canGo_144 hl (by decide) rfl (fun ls hl => ?_)
                                  refine li_iinc (a := 2) (lv' := [(5, .int (ii 3)), (4, .int (ii (0 + y112_0 + y112_1_0 + y112_2_0))), (6, .int (ii y53_2_0)), (0, .ref md), (1, .ref (fd 0)), (2, .ref (sd 0)), (3, .int (ii hl0))]) hx hb dX5_canGo_146 hl (k := 2) rfl (by decide) rfl (fun ls hl => ?_)
                                  refine lv_goto (tgt := 37) hx hb dX5_canGo_149 (by decide) ?_
                                  refine lv_iload hx hb dX5_canGo_37 (lv_at hl 0 rfl) ?_
                                  refine li_iconst hx hb dX5_canGo_39 ?_
                                  refine li_icmp_ge (tgt := 152) hx hb ⟨by decide, by decide⟩ ⟨by decide, by decide⟩ dX5_canGo_40 (by decide) (fun c40 => ?_) (fun c40 => ?_)
                                  · refine lv_aload_n hx hb dX5_canGo_152 rfl (lv_at hl 3 rfl) ?_
                                    refine va_get (D := G) (fs := [.int (ii st), .int (ii rp), .int (ii fr), .int (ii to)]) (ci := 5) (v := .int (ii to)) (C := RX6) (T := TX6) (N := 4) hx hb hts in_X6 hown hK hP mi hM rfl 3 (by decide) (hts _ q900) (fun _ h9 => h9) rfl dX5_canGo_153 ?_
                                    refine lv_aload_n hx hb dX5_canGo_156 rfl (lv_at hl 4 rfl) ?_
                                    refine kR (va_runV (As := []) (rest := [.int (ii to)]) ⟨hx, hb, hml, hown, hts⟩ (m_ground l G ty ws fi fd F  hF hW) (cwV 0 hts (lw_V q416 q330 q331 q77 q332) rfl rfl rfl (by decide +kernel) ⟨Nat.le_of_ble_eq_true rfl, Nat.le_of_ble_eq_true rfl⟩) (pvR (r := (RX2, TX2, 13)) hK hP hD hX (fi 0) hF.1 rfl) rfl rfl hl.1 rfl (lv_room (Nat.le_of_ble_eq_true rfl)) dX5_canGo_157 ⟨Nat.le_of_ble_eq_true rfl, Nat.le_of_ble_eq_true rfl⟩) (fun v hv => ?_)
                                    obtain ⟨z157, rfl, h157⟩ := hv
                                    refine li_icmp_eq (tgt := 177) hx hb (rgi hm6 hm7) ⟨by omega, by omega⟩ dX5_canGo_160 (by decide) (fun c160 => ?_) (fun c160 => ?_)
                                    · refine li_iconst hx hb dX5_canGo_177 ?_
                                      refine lv_goto (tgt := 182) hx hb dX5_canGo_178 (by decide) ?_
                                      exact eRz hQ hx hb hr hlk dX5_canGo_182 (.inr rfl) (⟨_, rfl, .inl ⟨rfl, c4, h12.1, h12.2, c26, hj65, hj65_1, hj65_2, by omega⟩⟩)
                                    · refine lv_iload hx hb dX5_canGo_163 (lv_at hl 1 rfl) ?_
                                      refine lv_aload_n hx hb dX5_canGo_165 rfl (lv_at hl 4 rfl) ?_
                                      refine va_get (D := G) (fs := [.ref (fd 1), .ref (fd 2), .ref (fd 3), .ref (fd 4), .int (ii (F 8 0)), .ref (fd 5), .int (ii (F 9 0)), .ref (fd 6), .int (ii (F 10 0)), .int (ii (F 11 0)), .int (ii (F 12 0)), .int (ii (F 13 0)), .ref (fd 7)]) (ci := 1) (v := .ref (fd 1)) (C := RX2) (T := TX2) (N := 13) hx hb hts in_X2 hown hK hP (fi 0) hF.1 rfl 0 (by decide) (hts _ q772) (fun _ h9 => h9) rfl dX5_canGo_166 ?_
                                      refine lv_aload_n hx hb dX5_canGo_169 rfl (lv_at hl 3 rfl) ?_
                                      refine va_get (D := G) (fs := [.int (ii st), .int (ii rp), .int (ii fr), .int (ii to)]) (ci := 5) (v := .int (ii to)) (C := RX6) (T := TX6) (N := 4) hx hb hts in_X6 hown hK hP mi hM rfl 3 (by decide) (hts _ q900) (fun _ h9 => h9) rfl dX5_canGo_170 ?_
                                      refine li_iald (g := F 0) hx hb hK hP (fi 1) 0 hF.2.1 rfl (by omega) (by omega) (by decide) dX5_canGo_173 ?_
                                      have r174 := hw0 to
                                      refine li_icmp_gt (tgt := 181) hx hb ⟨by omega, by omega⟩ (rgi r174.1 r174.2) dX5_canGo_174 (by decide) (fun c174 => ?_) (fun c174 => ?_)
                                      · refine li_iconst hx hb dX5_canGo_181 ?_
                                        exact eRz hQ hx hb hr hlk dX5_canGo_182 (.inl rfl) (⟨_, rfl, .inr ⟨rfl, fun h => by have q8 := h.2.2.2.2.2.2.2; omega⟩⟩)
                                      · refine li_iconst hx hb dX5_canGo_177 ?_
                                        refine lv_goto (tgt := 182) hx hb dX5_canGo_178 (by decide) ?_
                                        exact eRz hQ hx hb hr hlk dX5_canGo_182 (.inr rfl) (⟨_, rfl, .inl ⟨rfl, c4, h12.1, h12.2, c26, hj65, hj65_1, hj65_2, by omega⟩⟩)
                                  · exact absurd c40 (by decide)
                                refine li_if_ne (tgt := 138) hx hb ⟨by omega, by omega⟩ dX5_canGo_112 (by decide) (fun c112 => ?_) (fun c112 => ?_)
                                · refine li_iconst hx hb dX5_canGo_138 ?_
                                  refine lv_goto (tgt := 143) hx hb dX5_canGo_139 (by decide) ?_
                                  exact J112_2 _ (⟨tpV_1 (by omega), by decide, by decide⟩) ls (lv_sub hl [0, 1, 2, 3, 4, 5, 6] rfl)
                                · refine lv_iload hx hb dX5_canGo_115 (lv_at hl 1 rfl) ?_
                                  refine lv_aload_n hx hb dX5_canGo_117 rfl (lv_at hl 4 rfl) ?_
                                  refine va_get (D := G) (fs := [.ref (fd 1), .ref (fd 2), .ref (fd 3), .ref (fd 4), .int (ii (F 8 0)), .ref (fd 5), .int (ii (F 9 0)), .ref (fd 6), .int (ii (F 10 0)), .int (ii (F 11 0)), .int (ii (F 12 0)), .int (ii (F 13 0)), .ref (fd 7)]) (ci := 1) (v := .int (ii (F 9 0))) (C := RX2) (T := TX2) (N := 13) hx hb hts in_X2 hown hK hP (fi 0) hF.1 rfl 6 (by decide) (hts _ q793) (fun _ h9 => h9) rfl dX5_canGo_118 ?_
                                  refine li_icmp_ge (tgt := 142) hx hb ⟨by decide, by decide⟩ (rgi h9a h9b) dX5_canGo_121 (by decide) (fun c121 => ?_) (fun c121 => ?_)
                                  · refine li_iconst hx hb dX5_canGo_142 ?_
                                    exact J112_2 _ (⟨tpV_0 (by omega), by decide, by decide⟩) ls (lv_sub hl [0, 1, 2, 3, 4, 5, 6] rfl)
                                  · refine lv_aload_n hx hb dX5_canGo_124 rfl (lv_at hl 5 rfl) ?_
                                    refine va_get (D := G) (fs := [.ref (sd 1), .ref (sd 2)]) (ci := 2) (v := .ref (sd 1)) (C := RX3) (T := TX3) (N := 2) hx hb hts in_X3 hown hK hP (si 0) hSp.1 rfl 0 (by decide) (hts _ q655) (fun _ h9 => h9) rfl dX5_canGo_125 ?_
                                    refine lv_iload hx hb dX5_canGo_128 (lv_at hl 1 rfl) ?_
                                    refine li_iald (g := w) hx hb hK hP (si 1) 0 hSp.2.1 rfl (by decide) (by decide) (by decide) dX5_canGo_130 ?_
                                    have r131 := hs0 2
                                    refine lv_aload_n hx hb dX5_canGo_131 rfl (lv_at hl 3 rfl) ?_
                                    refine va_get (D := G) (fs := [.int (ii st), .int (ii rp), .int (ii fr), .int (ii to)]) (ci := 5) (v := .int (ii to)) (C := RX6) (T := TX6) (N := 4) hx hb hts in_X6 hown hK hP mi hM rfl 3 (by decide) (hts _ q900) (fun _ h9 => h9) rfl dX5_canGo_132 ?_
                                    refine li_icmp_ne (tgt := 142) hx hb (rgi r131.1 r131.2) (rgi hm6 hm7) dX5_canGo_135 (by decide) (fun c135 => ?_) (fun c135 => ?_)
                                    · refine li_iconst hx hb dX5_canGo_142 ?_
                                      exact J112_2 _ (⟨tpV_0 (by omega), by decide, by decide⟩) ls (lv_sub hl [0, 1, 2, 3, 4, 5, 6] rfl)
                                    · refine li_iconst hx hb dX5_canGo_138 ?_
                                      refine lv_goto (tgt := 143) hx hb dX5_canGo_139 (by decide) ?_
                                      exact J112_2 _ (⟨tpV_1 (by omega), by decide, by decide⟩) ls (lv_sub hl [0, 1, 2, 3, 4, 5, 6] rfl)
                              refine li_if_eq (tgt := 108) hx hb ⟨by omega, by omega⟩ dX5_canGo_65 (by decide) (fun c65 => ?_) (fun c65 => ?_)
                              · exact J65_2 (fun q => absurd q (by omega)) ls (lv_sub hl [0, 1, 2, 3, 4, 5, 6] rfl)
                              · refine lv_iload hx hb dX5_canGo_68 (lv_at hl 1 rfl) ?_
                                refine lv_aload_n hx hb dX5_canGo_70 rfl (lv_at hl 4 rfl) ?_
                                refine va_get (D := G) (fs := [.ref (fd 1), .ref (fd 2), .ref (fd 3), .ref (fd 4), .int (ii (F 8 0)), .ref (fd 5), .int (ii (F 9 0)), .ref (fd 6), .int (ii (F 10 0)), .int (ii (F 11 0)), .int (ii (F 12 0)), .int (ii (F 13 0)), .ref (fd 7)]) (ci := 1) (v := .int (ii (F 9 0))) (C := RX2) (T := TX2) (N := 13) hx hb hts in_X2 hown hK hP (fi 0) hF.1 rfl 6 (by decide) (hts _ q793) (fun _ h9 => h9) rfl dX5_canGo_71 ?_
                                refine li_icmp_ge (tgt := 106) hx hb ⟨by decide, by decide⟩ (rgi h9a h9b) dX5_canGo_74 (by decide) (fun c74 => ?_) (fun c74 => ?_)
                                · refine li_iconst hx hb dX5_canGo_106 ?_
                                  exact eRz hQ hx hb hr hlk dX5_canGo_107 (.inl rfl) (⟨_, rfl, .inr ⟨rfl, fun h => by obtain ⟨a, b, c⟩ := h.2.2.2.2.2.2.1 (by omega); omega⟩⟩)
                                · refine lv_aload_n hx hb dX5_canGo_77 rfl (lv_at hl 5 rfl) ?_
                                  refine va_get (D := G) (fs := [.ref (sd 1), .ref (sd 2)]) (ci := 2) (v := .ref (sd 1)) (C := RX3) (T := TX3) (N := 2) hx hb hts in_X3 hown hK hP (si 0) hSp.1 rfl 0 (by decide) (hts _ q655) (fun _ h9 => h9) rfl dX5_canGo_78 ?_
                                  refine lv_iload hx hb dX5_canGo_81 (lv_at hl 1 rfl) ?_
                                  refine li_iald (g := w) hx hb hK hP (si 1) 0 hSp.2.1 rfl (by decide) (by decide) (by decide) dX5_canGo_83 ?_
                                  have r84 := hs0 2
                                  refine lv_aload_n hx hb dX5_canGo_84 rfl (lv_at hl 3 rfl) ?_
                                  refine va_get (D := G) (fs := [.int (ii st), .int (ii rp), .int (ii fr), .int (ii to)]) (ci := 5) (v := .int (ii fr)) (C := RX6) (T := TX6) (N := 4) hx hb hts in_X6 hown hK hP mi hM rfl 2 (by decide) (hts _ q889) (fun _ h9 => h9) rfl dX5_canGo_85 ?_
                                  refine li_icmp_ne (tgt := 106) hx hb (rgi r84.1 r84.2) (rgi hm4 hm5) dX5_canGo_88 (by decide) (fun c88 => ?_) (fun c88 => ?_)
                                  · refine li_iconst hx hb dX5_canGo_106 ?_
                                    exact eRz hQ hx hb hr hlk dX5_canGo_107 (.inl rfl) (⟨_, rfl, .inr ⟨rfl, fun h => by obtain ⟨a, b, c⟩ := h.2.2.2.2.2.2.1 (by omega); omega⟩⟩)
                                  · refine lv_iload_n hx hb dX5_canGo_91 rfl (lv_at hl 6 rfl) ?_
                                    refine li_if_eq (tgt := 108) hx hb ⟨by omega, by omega⟩ dX5_canGo_92 (by decide) (fun c92 => ?_) (fun c92 => ?_)
                                    · exact J65_2 (fun q => ⟨by omega, by omega, by omega⟩) ls (lv_sub hl [0, 1, 2, 3, 4, 5, 6] rfl)
                                    · refine lv_aload_n hx hb dX5_canGo_95 rfl (lv_at hl 4 rfl) ?_
                                      refine va_get (D := G) (fs := [.ref (fd 1), .ref (fd 2), .ref (fd 3), .ref (fd 4), .int (ii (F 8 0)), .ref (fd 5), .int (ii (F 9 0)), .ref (fd 6), .int (ii (F 10 0)), .int (ii (F 11 0)), .int (ii (F 12 0)), .int (ii (F 13 0)), .ref (fd 7)]) (ci := 1) (v := .ref (fd 5)) (C := RX2) (T := TX2) (N := 13) hx hb hts in_X2 hown hK hP (fi 0) hF.1 rfl 5 (by decide) (hts _ q788) (fun _ h9 => h9) rfl dX5_canGo_96 ?_
                                      refine lv_iload hx hb dX5_canGo_99 (lv_at hl 1 rfl) ?_
                                      refine li_iald (g := F 4) hx hb hK hP (fi 5) 0 hF.2.2.2.2.2.1 rfl (by decide) (by decide) (by decide) dX5_canGo_101 ?_
                                      have r102 := hw4 2
                                      refine li_iconst hx hb dX5_canGo_102 ?_
                                      refine li_icmp_ne (tgt := 108) hx hb (rgi r102.1 r102.2) ⟨by decide, by decide⟩ dX5_canGo_103 (by decide) (fun c103 => ?_) (fun c103 => ?_)
                                      · exact J65_2 (fun q => ⟨by omega, by omega, by omega⟩) ls (lv_sub hl [0, 1, 2, 3, 4, 5, 6] rfl)
                                      · refine li_iconst hx hb dX5_canGo_106 ?_
                                        exact eRz hQ hx hb hr hlk dX5_canGo_107 (.inl rfl) (⟨_, rfl, .inr ⟨rfl, fun h => by obtain ⟨a, b, c⟩ := h.2.2.2.2.2.2.1 (by omega); omega⟩⟩)
                            refine li_icmp_ne (tgt := 60) hx hb ⟨by omega, by omega⟩ ⟨by decide, by decide⟩ dX5_canGo_53 (by decide) (fun c53 => ?_) (fun c53 => ?_)
                            · refine li_iconst hx hb dX5_canGo_60 ?_
                              exact J53_2 _ (by omega) ls (lv_sub hl [0, 1, 2, 3, 4, 5, 6] rfl)
                            · refine li_iconst hx hb dX5_canGo_56 ?_
                              refine lv_goto (tgt := 61) hx hb dX5_canGo_57 (by decide) ?_
                              exact J53_2 _ (by omega) ls (lv_sub hl [0, 1, 2, 3, 4, 5, 6] rfl)
                        refine li_if_ne (tgt := 138) hx hb ⟨by omega, by omega⟩ dX5_canGo_112 (by decide) (fun c112 => ?_) (fun c112 => ?_)
                        · refine li_iconst hx hb dX5_canGo_138 ?_
                          refine lv_goto (tgt := 143) hx hb dX5_canGo_139 (by decide) ?_
                          exact J112_1 _ (⟨tpV_1 (by omega), by decide, by decide⟩) ls (lv_sub hl [0, 1, 2, 3, 4, 5, 6] rfl)
                        · refine lv_iload hx hb dX5_canGo_115 (lv_at hl 1 rfl) ?_
                          refine lv_aload_n hx hb dX5_canGo_117 rfl (lv_at hl 4 rfl) ?_
                          refine va_get (D := G) (fs := [.ref (fd 1), .ref (fd 2), .ref (fd 3), .ref (fd 4), .int (ii (F 8 0)), .ref (fd 5), .int (ii (F 9 0)), .ref (fd 6), .int (ii (F 10 0)), .int (ii (F 11 0)), .int (ii (F 12 0)), .int (ii (F 13 0)), .ref (fd 7)]) (ci := 1) (v := .int (ii (F 9 0))) (C := RX2) (T := TX2) (N := 13) hx hb hts in_X2 hown hK hP (fi 0) hF.1 rfl 6 (by decide) (hts _ q793) (fun _ h9 => h9) rfl dX5_canGo_118 ?_
                          refine li_icmp_ge (tgt := 142) hx hb ⟨by decide, by decide⟩ (rgi h9a h9b) dX5_canGo_121 (by decide) (fun c121 => ?_) (fun c121 => ?_)
                          · refine li_iconst hx hb dX5_canGo_142 ?_
                            exact J112_1 _ (⟨tpV_0 (by omega), by decide, by decide⟩) ls (lv_sub hl [0, 1, 2, 3, 4, 5, 6] rfl)
                          · refine lv_aload_n hx hb dX5_canGo_124 rfl (lv_at hl 5 rfl) ?_
                            refine va_get (D := G) (fs := [.ref (sd 1), .ref (sd 2)]) (ci := 2) (v := .ref (sd 1)) (C := RX3) (T := TX3) (N := 2) hx hb hts in_X3 hown hK hP (si 0) hSp.1 rfl 0 (by decide) (hts _ q655) (fun _ h9 => h9) rfl dX5_canGo_125 ?_
                            refine lv_iload hx hb dX5_canGo_128 (lv_at hl 1 rfl) ?_
                            refine li_iald (g := w) hx hb hK hP (si 1) 0 hSp.2.1 rfl (by decide) (by decide) (by decide) dX5_canGo_130 ?_
                            have r131 := hs0 1
                            refine lv_aload_n hx hb dX5_canGo_131 rfl (lv_at hl 3 rfl) ?_
                            refine va_get (D := G) (fs := [.int (ii st), .int (ii rp), .int (ii fr), .int (ii to)]) (ci := 5) (v := .int (ii to)) (C := RX6) (T := TX6) (N := 4) hx hb hts in_X6 hown hK hP mi hM rfl 3 (by decide) (hts _ q900) (fun _ h9 => h9) rfl dX5_canGo_132 ?_
                            refine li_icmp_ne (tgt := 142) hx hb (rgi r131.1 r131.2) (rgi hm6 hm7) dX5_canGo_135 (by decide) (fun c135 => ?_) (fun c135 => ?_)
                            · refine li_iconst hx hb dX5_canGo_142 ?_
                              exact J112_1 _ (⟨tpV_0 (by omega), by decide, by decide⟩) ls (lv_sub hl [0, 1, 2, 3, 4, 5, 6] rfl)
                            · refine li_iconst hx hb dX5_canGo_138 ?_
                              refine lv_goto (tgt := 143) hx hb dX5_canGo_139 (by decide) ?_
                              exact J112_1 _ (⟨tpV_1 (by omega), by decide, by decide⟩) ls (lv_sub hl [0, 1, 2, 3, 4, 5, 6] rfl)
                      refine li_if_eq (tgt := 108) hx hb ⟨by omega, by omega⟩ dX5_canGo_65 (by decide) (fun c65 => ?_) (fun c65 => ?_)
                      · exact J65_1 (fun q => absurd q (by omega)) ls (lv_sub hl [0, 1, 2, 3, 4, 5, 6] rfl)
                      · refine lv_iload hx hb dX5_canGo_68 (lv_at hl 1 rfl) ?_
                        refine lv_aload_n hx hb dX5_canGo_70 rfl (lv_at hl 4 rfl) ?_
                        refine va_get (D := G) (fs := [.ref (fd 1), .ref (fd 2), .ref (fd 3), .ref (fd 4), .int (ii (F 8 0)), .ref (fd 5), .int (ii (F 9 0)), .ref (fd 6), .int (ii (F 10 0)), .int (ii (F 11 0)), .int (ii (F 12 0)), .int (ii (F 13 0)), .ref (fd 7)]) (ci := 1) (v := .int (ii (F 9 0))) (C := RX2) (T := TX2) (N := 13) hx hb hts in_X2 hown hK hP (fi 0) hF.1 rfl 6 (by decide) (hts _ q793) (fun _ h9 => h9) rfl dX5_canGo_71 ?_
                        refine li_icmp_ge (tgt := 106) hx hb ⟨by decide, by decide⟩ (rgi h9a h9b) dX5_canGo_74 (by decide) (fun c74 => ?_) (fun c74 => ?_)
                        · refine li_iconst hx hb dX5_canGo_106 ?_
                          exact eRz hQ hx hb hr hlk dX5_canGo_107 (.inl rfl) (⟨_, rfl, .inr ⟨rfl, fun h => by obtain ⟨a, b, c⟩ := h.2.2.2.2.2.1 (by omega); omega⟩⟩)
                        · refine lv_aload_n hx hb dX5_canGo_77 rfl (lv_at hl 5 rfl) ?_
                          refine va_get (D := G) (fs := [.ref (sd 1), .ref (sd 2)]) (ci := 2) (v := .ref (sd 1)) (C := RX3) (T := TX3) (N := 2) hx hb hts in_X3 hown hK hP (si 0) hSp.1 rfl 0 (by decide) (hts _ q655) (fun _ h9 => h9) rfl dX5_canGo_78 ?_
                          refine lv_iload hx hb dX5_canGo_81 (lv_at hl 1 rfl) ?_
                          refine li_iald (g := w) hx hb hK hP (si 1) 0 hSp.2.1 rfl (by decide) (by decide) (by decide) dX5_canGo_83 ?_
                          have r84 := hs0 1
                          refine lv_aload_n hx hb dX5_canGo_84 rfl (lv_at hl 3 rfl) ?_
                          refine va_get (D := G) (fs := [.int (ii st), .int (ii rp), .int (ii fr), .int (ii to)]) (ci := 5) (v := .int (ii fr)) (C := RX6) (T := TX6) (N := 4) hx hb hts in_X6 hown hK hP mi hM rfl 2 (by decide) (hts _ q889) (fun _ h9 => h9) rfl dX5_canGo_85 ?_
                          refine li_icmp_ne (tgt := 106) hx hb (rgi r84.1 r84.2) (rgi hm4 hm5) dX5_canGo_88 (by decide) (fun c88 => ?_) (fun c88 => ?_)
                          · refine li_iconst hx hb dX5_canGo_106 ?_
                            exact eRz hQ hx hb hr hlk dX5_canGo_107 (.inl rfl) (⟨_, rfl, .inr ⟨rfl, fun h => by obtain ⟨a, b, c⟩ := h.2.2.2.2.2.1 (by omega); omega⟩⟩)
                          · refine lv_iload_n hx hb dX5_canGo_91 rfl (lv_at hl 6 rfl) ?_
                            refine li_if_eq (tgt := 108) hx hb ⟨by omega, by omega⟩ dX5_canGo_92 (by decide) (fun c92 => ?_) (fun c92 => ?_)
                            · exact J65_1 (fun q => ⟨by omega, by omega, by omega⟩) ls (lv_sub hl [0, 1, 2, 3, 4, 5, 6] rfl)
                            · refine lv_aload_n hx hb dX5_canGo_95 rfl (lv_at hl 4 rfl) ?_
                              refine va_get (D := G) (fs := [.ref (fd 1), .ref (fd 2), .ref (fd 3), .ref (fd 4), .int (ii (F 8 0)), .ref (fd 5), .int (ii (F 9 0)), .ref (fd 6), .int (ii (F 10 0)), .int (ii (F 11 0)), .int (ii (F 12 0)), .int (ii (F 13 0)), .ref (fd 7)]) (ci := 1) (v := .ref (fd 5)) (C := RX2) (T := TX2) (N := 13) hx hb hts in_X2 hown hK hP (fi 0) hF.1 rfl 5 (by decide) (hts _ q788) (fun _ h9 => h9) rfl dX5_canGo_96 ?_
                              refine lv_iload hx hb dX5_canGo_99 (lv_at hl 1 rfl) ?_
                              refine li_iald (g := F 4) hx hb hK hP (fi 5) 0 hF.2.2.2.2.2.1 rfl (by decide) (by decide) (by decide) dX5_canGo_101 ?_
                              have r102 := hw4 1
                              refine li_iconst hx hb dX5_canGo_102 ?_
                              refine li_icmp_ne (tgt := 108) hx hb (rgi r102.1 r102.2) ⟨by decide, by decide⟩ dX5_canGo_103 (by decide) (fun c103 => ?_) (fun c103 => ?_)
                              · exact J65_1 (fun q => ⟨by omega, by omega, by omega⟩) ls (lv_sub hl [0, 1, 2, 3, 4, 5, 6] rfl)
                              · refine li_iconst hx hb dX5_canGo_106 ?_
                                exact eRz hQ hx hb hr hlk dX5_canGo_107 (.inl rfl) (⟨_, rfl, .inr ⟨rfl, fun h => by obtain ⟨a, b, c⟩ := h.2.2.2.2.2.1 (by omega); omega⟩⟩)
                    refine li_icmp_ne (tgt := 60) hx hb ⟨by omega, by omega⟩ ⟨by decide, by decide⟩ dX5_canGo_53 (by decide) (fun c53 => ?_) (fun c53 => ?_)
                    · refine li_iconst hx hb dX5_canGo_60 ?_
                      exact J53_1 _ (by omega) ls (lv_sub hl [0, 1, 2, 3, 4, 5, 6] rfl)
                    · refine li_iconst hx hb dX5_canGo_56 ?_
                      refine lv_goto (tgt := 61) hx hb dX5_canGo_57 (by decide) ?_
                      exact J53_1 _ (by omega) ls (lv_sub hl [0, 1, 2, 3, 4, 5, 6] rfl)
                refine li_if_ne (tgt := 138) hx hb ⟨by omega, by omega⟩ dX5_canGo_112 (by decide) (fun c112 => ?_) (fun c112 => ?_)
                · refine li_iconst hx hb dX5_canGo_138 ?_
                  refine lv_goto (tgt := 143) hx hb dX5_canGo_139 (by decide) ?_
                  exact J112 _ (⟨tpV_1 (by omega), by decide, by decide⟩) ls (lv_sub hl [0, 1, 2, 3, 4, 5, 6] rfl)
                · refine lv_iload hx hb dX5_canGo_115 (lv_at hl 1 rfl) ?_
                  refine lv_aload_n hx hb dX5_canGo_117 rfl (lv_at hl 4 rfl) ?_
                  refine va_get (D := G) (fs := [.ref (fd 1), .ref (fd 2), .ref (fd 3), .ref (fd 4), .int (ii (F 8 0)), .ref (fd 5), .int (ii (F 9 0)), .ref (fd 6), .int (ii (F 10 0)), .int (ii (F 11 0)), .int (ii (F 12 0)), .int (ii (F 13 0)), .ref (fd 7)]) (ci := 1) (v := .int (ii (F 9 0))) (C := RX2) (T := TX2) (N := 13) hx hb hts in_X2 hown hK hP (fi 0) hF.1 rfl 6 (by decide) (hts _ q793) (fun _ h9 => h9) rfl dX5_canGo_118 ?_
                  refine li_icmp_ge (tgt := 142) hx hb ⟨by decide, by decide⟩ (rgi h9a h9b) dX5_canGo_121 (by decide) (fun c121 => ?_) (fun c121 => ?_)
                  · refine li_iconst hx hb dX5_canGo_142 ?_
                    exact J112 _ (⟨tpV_0 (by omega), by decide, by decide⟩) ls (lv_sub hl [0, 1, 2, 3, 4, 5, 6] rfl)
                  · refine lv_aload_n hx hb dX5_canGo_124 rfl (lv_at hl 5 rfl) ?_
                    refine va_get (D := G) (fs := [.ref (sd 1), .ref (sd 2)]) (ci := 2) (v := .ref (sd 1)) (C := RX3) (T := TX3) (N := 2) hx hb hts in_X3 hown hK hP (si 0) hSp.1 rfl 0 (by decide) (hts _ q655) (fun _ h9 => h9) rfl dX5_canGo_125 ?_
                    refine lv_iload hx hb dX5_canGo_128 (lv_at hl 1 rfl) ?_
                    refine li_iald (g := w) hx hb hK hP (si 1) 0 hSp.2.1 rfl (by decide) (by decide) (by decide) dX5_canGo_130 ?_
                    have r131 := hs0 0
                    refine lv_aload_n hx hb dX5_canGo_131 rfl (lv_at hl 3 rfl) ?_
                    refine va_get (D := G) (fs := [.int (ii st), .int (ii rp), .int (ii fr), .int (ii to)]) (ci := 5) (v := .int (ii to)) (C := RX6) (T := TX6) (N := 4) hx hb hts in_X6 hown hK hP mi hM rfl 3 (by decide) (hts _ q900) (fun _ h9 => h9) rfl dX5_canGo_132 ?_
                    refine li_icmp_ne (tgt := 142) hx hb (rgi r131.1 r131.2) (rgi hm6 hm7) dX5_canGo_135 (by decide) (fun c135 => ?_) (fun c135 => ?_)
                    · refine li_iconst hx hb dX5_canGo_142 ?_
                      exact J112 _ (⟨tpV_0 (by omega), by decide, by decide⟩) ls (lv_sub hl [0, 1, 2, 3, 4, 5, 6] rfl)
                    · refine li_iconst hx hb dX5_canGo_138 ?_
                      refine lv_goto (tgt := 143) hx hb dX5_canGo_139 (by decide) ?_
                      exact J112 _ (⟨tpV_1 (by omega), by decide, by decide⟩) ls (lv_sub hl [0, 1, 2, 3, 4, 5, 6] rfl)
              refine li_if_eq (tgt := 108) hx hb ⟨by omega, by omega⟩ dX5_canGo_65 (by decide) (fun c65 => ?_) (fun c65 => ?_)
              · exact J65 (fun q => absurd q (by omega)) ls (lv_sub hl [0, 1, 2, 3, 4, 5, 6] rfl)
              · refine lv_iload hx hb dX5_canGo_68 (lv_at hl 1 rfl) ?_
                refine lv_aload_n hx hb dX5_canGo_70 rfl (lv_at hl 4 rfl) ?_
                refine va_get (D := G) (fs := [.ref (fd 1), .ref (fd 2), .ref (fd 3), .ref (fd 4), .int (ii (F 8 0)), .ref (fd 5), .int (ii (F 9 0)), .ref (fd 6), .int (ii (F 10 0)), .int (ii (F 11 0)), .int (ii (F 12 0)), .int (ii (F 13 0)), .ref (fd 7)]) (ci := 1) (v := .int (ii (F 9 0))) (C := RX2) (T := TX2) (N := 13) hx hb hts in_X2 hown hK hP (fi 0) hF.1 rfl 6 (by decide) (hts _ q793) (fun _ h9 => h9) rfl dX5_canGo_71 ?_
                refine li_icmp_ge (tgt := 106) hx hb ⟨by decide, by decide⟩ (rgi h9a h9b) dX5_canGo_74 (by decide) (fun c74 => ?_) (fun c74 => ?_)
                · refine li_iconst hx hb dX5_canGo_106 ?_
                  exact eRz hQ hx hb hr hlk dX5_canGo_107 (.inl rfl) (⟨_, rfl, .inr ⟨rfl, fun h => by obtain ⟨a, b, c⟩ := h.2.2.2.2.1 (by omega); omega⟩⟩)
                · refine lv_aload_n hx hb dX5_canGo_77 rfl (lv_at hl 5 rfl) ?_
                  refine va_get (D := G) (fs := [.ref (sd 1), .ref (sd 2)]) (ci := 2) (v := .ref (sd 1)) (C := RX3) (T := TX3) (N := 2) hx hb hts in_X3 hown hK hP (si 0) hSp.1 rfl 0 (by decide) (hts _ q655) (fun _ h9 => h9) rfl dX5_canGo_78 ?_
                  refine lv_iload hx hb dX5_canGo_81 (lv_at hl 1 rfl) ?_
                  refine li_iald (g := w) hx hb hK hP (si 1) 0 hSp.2.1 rfl (by decide) (by decide) (by decide) dX5_canGo_83 ?_
                  have r84 := hs0 0
                  refine lv_aload_n hx hb dX5_canGo_84 rfl (lv_at hl 3 rfl) ?_
                  refine va_get (D := G) (fs := [.int (ii st), .int (ii rp), .int (ii fr), .int (ii to)]) (ci := 5) (v := .int (ii fr)) (C := RX6) (T := TX6) (N := 4) hx hb hts in_X6 hown hK hP mi hM rfl 2 (by decide) (hts _ q889) (fun _ h9 => h9) rfl dX5_canGo_85 ?_
                  refine li_icmp_ne (tgt := 106) hx hb (rgi r84.1 r84.2) (rgi hm4 hm5) dX5_canGo_88 (by decide) (fun c88 => ?_) (fun c88 => ?_)
                  · refine li_iconst hx hb dX5_canGo_106 ?_
                    exact eRz hQ hx hb hr hlk dX5_canGo_107 (.inl rfl) (⟨_, rfl, .inr ⟨rfl, fun h => by obtain ⟨a, b, c⟩ := h.2.2.2.2.1 (by omega); omega⟩⟩)
                  · refine lv_iload_n hx hb dX5_canGo_91 rfl (lv_at hl 6 rfl) ?_
                    refine li_if_eq (tgt := 108) hx hb ⟨by omega, by omega⟩ dX5_canGo_92 (by decide) (fun c92 => ?_) (fun c92 => ?_)
                    · exact J65 (fun q => ⟨by omega, by omega, by omega⟩) ls (lv_sub hl [0, 1, 2, 3, 4, 5, 6] rfl)
                    · refine lv_aload_n hx hb dX5_canGo_95 rfl (lv_at hl 4 rfl) ?_
                      refine va_get (D := G) (fs := [.ref (fd 1), .ref (fd 2), .ref (fd 3), .ref (fd 4), .int (ii (F 8 0)), .ref (fd 5), .int (ii (F 9 0)), .ref (fd 6), .int (ii (F 10 0)), .int (ii (F 11 0)), .int (ii (F 12 0)), .int (ii (F 13 0)), .ref (fd 7)]) (ci := 1) (v := .ref (fd 5)) (C := RX2) (T := TX2) (N := 13) hx hb hts in_X2 hown hK hP (fi 0) hF.1 rfl 5 (by decide) (hts _ q788) (fun _ h9 => h9) rfl dX5_canGo_96 ?_
                      refine lv_iload hx hb dX5_canGo_99 (lv_at hl 1 rfl) ?_
                      refine li_iald (g := F 4) hx hb hK hP (fi 5) 0 hF.2.2.2.2.2.1 rfl (by decide) (by decide) (by decide) dX5_canGo_101 ?_
                      have r102 := hw4 0
                      refine li_iconst hx hb dX5_canGo_102 ?_
                      refine li_icmp_ne (tgt := 108) hx hb (rgi r102.1 r102.2) ⟨by decide, by decide⟩ dX5_canGo_103 (by decide) (fun c103 => ?_) (fun c103 => ?_)
                      · exact J65 (fun q => ⟨by omega, by omega, by omega⟩) ls (lv_sub hl [0, 1, 2, 3, 4, 5, 6] rfl)
                      · refine li_iconst hx hb dX5_canGo_106 ?_
                        exact eRz hQ hx hb hr hlk dX5_canGo_107 (.inl rfl) (⟨_, rfl, .inr ⟨rfl, fun h => by obtain ⟨a, b, c⟩ := h.2.2.2.2.1 (by omega); omega⟩⟩)
            refine li_icmp_ne (tgt := 60) hx hb ⟨by omega, by omega⟩ ⟨by decide, by decide⟩ dX5_canGo_53 (by decide) (fun c53 => ?_) (fun c53 => ?_)
            · refine li_iconst hx hb dX5_canGo_60 ?_
              exact J53 _ (by omega) ls (lv_sub hl [0, 1, 2, 3, 4, 5] rfl)
            · refine li_iconst hx hb dX5_canGo_56 ?_
              refine lv_goto (tgt := 61) hx hb dX5_canGo_57 (by decide) ?_
              exact J53 _ (by omega) ls (lv_sub hl [0, 1, 2, 3, 4, 5] rfl)
        · refine li_iconst hx hb dX5_canGo_29 ?_
          exact eRz hQ hx hb hr hlk dX5_canGo_30 (.inl rfl) (⟨_, rfl, .inr ⟨rfl, fun h => by obtain ⟨q1, q2, q3, q4, q5, q6, q7, q8⟩ := h; omega⟩⟩)
    · refine li_if_eq (tgt := 29) hx hb ⟨by decide, by decide⟩ dX5_canGo_15 (by decide) (fun c15 => ?_) (fun c15 => ?_)
      · refine li_iconst hx hb dX5_canGo_29 ?_
        exact eRz hQ hx hb hr hlk dX5_canGo_30 (.inl rfl) (⟨_, rfl, .inr ⟨rfl, fun h => by obtain ⟨q1, q2, q3, q4, q5, q6, q7, q8⟩ := h; omega⟩⟩)
      · exact absurd c15 (by decide)
set_option maxHeartbeats 4000000 in
theorem m_canGo_7 (l : Launch) (G : va_G) (ty : Nat → ClassId) (ws : va_W) (fi fd : Nat → Nat) (F : mem) (si sd : Nat → Nat) (w q : Int → Int) (mi md : Nat) (st rp fr to : Int) (hl0 : Int) (hF : faceAt ty ws fi fd F) (hW : wfF F) (hSp : spotAt ty ws si sd w q) (hWS : wfS w q) (hM : moveAt ws 6 mi md st rp fr to) (hm : 0 ≤ st ∧ st ≤ 7 ∧ 0 ≤ rp ∧ rp ≤ 1 ∧ 0 ≤ fr ∧ fr ≤ 4 ∧ 0 ≤ to ∧ to ≤ 4) (hh : hl0 = 0 ∨ hl0 = 1) : cR l yX5_canGo (ws_ yX5_canGo cX5_canGo 7 (some .boolean)) (rm4 1 0 0 21) G ty (ws) [.ref md, .ref (fd 0), .ref (sd 0), .int (ii hl0)] (fun r => ∃ z : Int, r = some (.int (ii z)) ∧ ((z = 1 ∧ okGo F w st fr to hl0) ∨ (z = 0 ∧ ¬ okGo F w st fr to hl0))) := by
  refine cR.of (by decide) (Nat.le_of_ble_eq_true rfl) ?_
  intro p e s m args below meth c Q hQ hx hb hr hml hown hlk hts hK hP hD hX ls hl
  have hl : lv_has ls 7 [(0, .ref md), (1, .ref (fd 0)), (2, .ref (sd 0)), (3, .int (ii hl0))] := hl
  obtain ⟨hw0, hw1, hw2, hw3, hw4, hw5, h8a, h8b, h9a, h9b, h10a, h10b⟩ := id hW
  obtain ⟨hs0, hs1⟩ := id hWS
  obtain ⟨hm0, hm1, hm2, hm3, hm4, hm5, hm6, hm7⟩ := id hm
  refine lv_aload_n hx hb dX5_canGo_0 rfl (lv_at hl 0 rfl) ?_
  refine va_get (D := G) (fs := [.int (ii st), .int (ii rp), .int (ii fr), .int (ii to)]) (ci := 6) (v := .int (ii st)) (C := RX7) (T := TX7) (N := 4) hx hb hts in_X7 hown hK hP mi hM rfl 0 (by decide) (hts _ q861) (fun _ h9 => h9) rfl dX5_canGo_1 ?_
  refine li_if_eq (tgt := 29) hx hb (rgi hm0 hm1) dX5_canGo_4 (by decide) (fun c4 => ?_) (fun c4 => ?_)
  · refine li_iconst hx hb dX5_canGo_29 ?_
    exact eRz hQ hx hb hr hlk dX5_canGo_30 (.inl rfl) (⟨_, rfl, .inr ⟨rfl, fun h => by obtain ⟨q1, q2, q3, q4, q5, q6, q7, q8⟩ := h; omega⟩⟩)
  · refine lv_aload_n hx hb dX5_canGo_7 rfl (lv_at hl 1 rfl) ?_
    refine lv_aload_n hx hb dX5_canGo_8 rfl (lv_at hl 0 rfl) ?_
    refine va_get (D := G) (fs := [.int (ii st), .int (ii rp), .int (ii fr), .int (ii to)]) (ci := 6) (v := .int (ii to)) (C := RX7) (T := TX7) (N := 4) hx hb hts in_X7 hown hK hP mi hM rfl 3 (by decide) (hts _ q900) (fun _ h9 => h9) rfl dX5_canGo_9 ?_
    refine kR (va_runV (As := [.int (ii to)]) (rest := []) ⟨hx, hb, hml, hown, hts⟩ (m_isLedge l G ty ws fi fd F to hF hW (rgi hm6 hm7)) (cwV 1 hts (lw_V q415 q309 q310 q77 q311) rfl rfl rfl (by decide +kernel) ⟨Nat.le_of_ble_eq_true rfl, Nat.le_of_ble_eq_true rfl⟩) (pvR (r := (RX2, TX2, 13)) hK hP hD hX (fi 0) hF.1 rfl) rfl rfl hl.1 rfl (lv_room (Nat.le_of_ble_eq_true rfl)) dX5_canGo_12 ⟨Nat.le_of_ble_eq_true rfl, Nat.le_of_ble_eq_true rfl⟩) (fun v hv => ?_)
    obtain ⟨z12, rfl, ⟨rfl, h12⟩ | ⟨rfl, h12⟩⟩ := hv
    · refine li_if_eq (tgt := 29) hx hb ⟨by decide, by decide⟩ dX5_canGo_15 (by decide) (fun c15 => ?_) (fun c15 => ?_)
      · exact absurd c15 (by decide)
      · refine lv_aload_n hx hb dX5_canGo_18 rfl (lv_at hl 0 rfl) ?_
        refine va_get (D := G) (fs := [.int (ii st), .int (ii rp), .int (ii fr), .int (ii to)]) (ci := 6) (v := .int (ii to)) (C := RX7) (T := TX7) (N := 4) hx hb hts in_X7 hown hK hP mi hM rfl 3 (by decide) (hts _ q900) (fun _ h9 => h9) rfl dX5_canGo_19 ?_
        refine lv_aload_n hx hb dX5_canGo_22 rfl (lv_at hl 0 rfl) ?_
        refine va_get (D := G) (fs := [.int (ii st), .int (ii rp), .int (ii fr), .int (ii to)]) (ci := 6) (v := .int (ii fr)) (C := RX7) (T := TX7) (N := 4) hx hb hts in_X7 hown hK hP mi hM rfl 2 (by decide) (hts _ q889) (fun _ h9 => h9) rfl dX5_canGo_23 ?_
        refine li_icmp_ne (tgt := 31) hx hb (rgi hm6 hm7) (rgi hm4 hm5) dX5_canGo_26 (by decide) (fun c26 => ?_) (fun c26 => ?_)
        · refine li_iconst hx hb dX5_canGo_31 ?_
          refine lv_istore (lv' := [(4, .int (ii 0)), (0, .ref md), (1, .ref (fd 0)), (2, .ref (sd 0)), (3, .int (ii hl0))]) hx hb dX5_canGo_32 hl (by decide) rfl (fun ls hl => ?_)
          refine li_iconst hx hb dX5_canGo_34 ?_
          refine lv_istore (lv' := [(5, .int (ii 0)), (4, .int (ii 0)), (0, .ref md), (1, .ref (fd 0)), (2, .ref (sd 0)), (3, .int (ii hl0))]) hx hb dX5_canGo_35 hl (by decide) rfl (fun ls hl => ?_)
          refine lv_iload hx hb dX5_canGo_37 (lv_at hl 0 rfl) ?_
          refine li_iconst hx hb dX5_canGo_39 ?_
          refine li_icmp_ge (tgt := 152) hx hb ⟨by decide, by decide⟩ ⟨by decide, by decide⟩ dX5_canGo_40 (by decide) (fun c40 => ?_) (fun c40 => ?_)
          · exact absurd c40 (by decide)
          · refine lv_aload_n hx hb dX5_canGo_43 rfl (lv_at hl 2 rfl) ?_
            refine va_get (D := G) (fs := [.int (ii st), .int (ii rp), .int (ii fr), .int (ii to)]) (ci := 6) (v := .int (ii st)) (C := RX7) (T := TX7) (N := 4) hx hb hts in_X7 hown hK hP mi hM rfl 0 (by decide) (hts _ q861) (fun _ h9 => h9) rfl dX5_canGo_44 ?_
            refine lv_iload hx hb dX5_canGo_47 (lv_at hl 0 rfl) ?_
            refine lv_ishr hx hb dX5_canGo_49 ?_
            refine li_topx (z := st) (ii_shr0 (by omega) (by omega)) ?_
            refine li_iconst hx hb dX5_canGo_50 ?_
            refine lv_iand hx hb dX5_canGo_51 ?_
            refine li_topx (z := st % 2) (ii_and1 (by omega) (by omega)) ?_
            refine li_iconst hx hb dX5_canGo_52 ?_
            have J53 : ∀ (y53_0 : Int) (_ : y53_0 = st % 2) (ls : Array Slot), lv_has ls 7 [(5, .int (ii 0)), (4, .int (ii 0)), (0, .ref md), (1, .ref (fd 0)), (2, .ref (sd 0)), (3, .int (ii hl0))] → W p l e (rm4 1 0 0 21) s m args below meth c s.heap [] 0 0 Q (F0 m 61 ls [.int (ii y53_0)]) := by
              intro y53_0 hj53 ls hl
              refine lv_istore (lv' := [(6, .int (ii y53_0)), (5, .int (ii 0)), (4, .int (ii 0)), (0, .ref md), (1, .ref (fd 0)), (2, .ref (sd 0)), (3, .int (ii hl0))]) hx hb dX5_canGo_61 hl (by decide) rfl (fun ls hl => ?_)
              refine lv_iload hx hb dX5_canGo_63 (lv_at hl 0 rfl) ?_
              have J65 : ∀ (_ : goP F w (st % 2) fr hl0 0) (ls : Array Slot), lv_has ls 7 [(6, .int (ii y53_0)), (5, .int (ii 0)), (4, .int (ii 0)), (0, .ref md), (1, .ref (fd 0)), (2, .ref (sd 0)), (3, .int (ii hl0))] → W p l e (rm4 1 0 0 21) s m args below meth c s.heap [] 0 0 Q (F0 m 108 ls []) := by
                intro hj65 ls hl
                refine lv_iload hx hb dX5_canGo_108 (lv_at hl 2 rfl) ?_
                refine lv_iload hx hb dX5_canGo_110 (lv_at hl 0 rfl) ?_
                have J112 : ∀ (y112_0 : Int) (_ : y112_0 = tpV F w (st % 2) to 0 ∧ 0 ≤ y112_0 ∧ y112_0 ≤ 1) (ls : Array Slot), lv_has ls 7 [(6, .int (ii y53_0)), (5, .int (ii 0)), (4, .int (ii 0)), (0, .ref md), (1, .ref (fd 0)), (2, .ref (sd 0)), (3, .int (ii hl0))] → W p l e (rm4 1 0 0 21) s m args below meth c s.heap [] 0 0 Q (F0 m 143 ls [.int (ii y112_0), .int (ii 0)]) := by
                  intro y112_0 hj112 ls hl
                  refine li_add hx hb dX5_canGo_143 ?_
                  refine lv_istore (lv' := [(4, .int (ii (0 + y112_0))), (6, .int (ii y53_0)), (5, .int (ii 0)), (0, .ref md), (1, .ref (fd 0)), (2, .ref (sd 0)), (3, .int (ii hl0))]) hx hb dX5_canGo_144 hl (by decide) rfl (fun ls hl => ?_)
                  refine li_iinc (a := 0) (lv' := [(5, .int (ii 1)), (4, .int (ii (0 + y112_0))), (6, .int (ii y53_0)), (0, .ref md), (1, .ref (fd 0)), (2, .ref (sd 0)), (3, .int (ii hl0))]) hx hb dX5_canGo_146 hl (k := 2) rfl (by decide) rfl (fun ls hl => ?_)
                  refine lv_goto (tgt := 37) hx hb dX5_canGo_149 (by decide) ?_
                  refine lv_iload hx hb dX5_canGo_37 (lv_at hl 0 rfl) ?_
                  refine li_iconst hx hb dX5_canGo_39 ?_
                  refine li_icmp_ge (tgt := 152) hx hb ⟨by decide, by decide⟩ ⟨by decide, by decide⟩ dX5_canGo_40 (by decide) (fun c40 => ?_) (fun c40 => ?_)
                  · exact absurd c40 (by decide)
                  · refine lv_aload_n hx hb dX5_canGo_43 rfl (lv_at hl 3 rfl) ?_
                    refine va_get (D := G) (fs := [.int (ii st), .int (ii rp), .int (ii fr), .int (ii to)]) (ci := 6) (v := .int (ii st)) (C := RX7) (T := TX7) (N := 4) hx hb hts in_X7 hown hK hP mi hM rfl 0 (by decide) (hts _ q861) (fun _ h9 => h9) rfl dX5_canGo_44 ?_
                    refine lv_iload hx hb dX5_canGo_47 (lv_at hl 0 rfl) ?_
                    refine lv_ishr hx hb dX5_canGo_49 ?_
                    refine li_topx (z := st / 2) (ii_shr1 (by omega) (by omega)) ?_
                    refine li_iconst hx hb dX5_canGo_50 ?_
                    refine lv_iand hx hb dX5_canGo_51 ?_
                    refine li_topx (z := (st / 2) % 2) (ii_and1 (by omega) (by omega)) ?_
                    refine li_iconst hx hb dX5_canGo_52 ?_
                    have J53_1 : ∀ (y53_1_0 : Int) (_ : y53_1_0 = (st / 2) % 2) (ls : Array Slot), lv_has ls 7 [(5, .int (ii 1)), (4, .int (ii (0 + y112_0))), (6, .int (ii y53_0)), (0, .ref md), (1, .ref (fd 0)), (2, .ref (sd 0)), (3, .int (ii hl0))] → W p l e (rm4 1 0 0 21) s m args below meth c s.heap [] 0 0 Q (F0 m 61 ls [.int (ii y53_1_0)]) := by
                      intro y53_1_0 hj53_1 ls hl
                      refine lv_istore (lv' := [(6, .int (ii y53_1_0)), (5, .int (ii 1)), (4, .int (ii (0 + y112_0))), (0, .ref md), (1, .ref (fd 0)), (2, .ref (sd 0)), (3, .int (ii hl0))]) hx hb dX5_canGo_61 hl (by decide) rfl (fun ls hl => ?_)
                      refine lv_iload hx hb dX5_canGo_63 (lv_at hl 0 rfl) ?_
                      have J65_1 : ∀ (_ : goP F w (st / 2 % 2) fr hl0 1) (ls : Array Slot), lv_has ls 7 [(6, .int (ii y53_1_0)), (5, .int (ii 1)), (4, .int (ii (0 + y112_0))), (0, .ref md), (1, .ref (fd 0)), (2, .ref (sd 0)), (3, .int (ii hl0))] → W p l e (rm4 1 0 0 21) s m args below meth c s.heap [] 0 0 Q (F0 m 108 ls []) := by
                        intro hj65_1 ls hl
                        refine lv_iload hx hb dX5_canGo_108 (lv_at hl 2 rfl) ?_
                        refine lv_iload hx hb dX5_canGo_110 (lv_at hl 0 rfl) ?_
                        have J112_1 : ∀ (y112_1_0 : Int) (_ : y112_1_0 = tpV F w (st / 2 % 2) to 1 ∧ 0 ≤ y112_1_0 ∧ y112_1_0 ≤ 1) (ls : Array Slot), lv_has ls 7 [(6, .int (ii y53_1_0)), (5, .int (ii 1)), (4, .int (ii (0 + y112_0))), (0, .ref md), (1, .ref (fd 0)), (2, .ref (sd 0)), (3, .int (ii hl0))] → W p l e (rm4 1 0 0 21) s m args below meth c s.heap [] 0 0 Q (F0 m 143 ls [.int (ii y112_1_0), .int (ii (0 + y112_0))]) := by
                          intro y112_1_0 hj112_1 ls hl
                          refine li_add hx hb dX5_canGo_143 ?_
                          refine lv_istore (lv' := [(4, .int (ii (0 + y112_0 + y112_1_0))), (6, .int (ii y53_1_0)), (5, .int (ii 1)), (0, .ref md), (1, .ref (fd 0)), (2, .ref (sd 0)), (3, .int (ii hl0))]) hx hb dX5_canGo_144 hl (by decide) rfl (fun ls hl => ?_)
                          refine li_iinc (a := 1) (lv' := [(5, .int (ii 2)), (4, .int (ii (0 + y112_0 + y112_1_0))), (6, .int (ii y53_1_0)), (0, .ref md), (1, .ref (fd 0)), (2, .ref (sd 0)), (3, .int (ii hl0))]) hx hb dX5_canGo_146 hl (k := 2) rfl (by decide) rfl (fun ls hl => ?_)
                          refine lv_goto (tgt := 37) hx hb dX5_canGo_149 (by decide) ?_
                          refine lv_iload hx hb dX5_canGo_37 (lv_at hl 0 rfl) ?_
                          refine li_iconst hx hb dX5_canGo_39 ?_
                          refine li_icmp_ge (tgt := 152) hx hb ⟨by decide, by decide⟩ ⟨by decide, by decide⟩ dX5_canGo_40 (by decide) (fun c40 => ?_) (fun c40 => ?_)
                          · exact absurd c40 (by decide)
                          · refine lv_aload_n hx hb dX5_canGo_43 rfl (lv_at hl 3 rfl) ?_
                            refine va_get (D := G) (fs := [.int (ii st), .int (ii rp), .int (ii fr), .int (ii to)]) (ci := 6) (v := .int (ii st)) (C := RX7) (T := TX7) (N := 4) hx hb hts in_X7 hown hK hP mi hM rfl 0 (by decide) (hts _ q861) (fun _ h9 => h9) rfl dX5_canGo_44 ?_
                            refine lv_iload hx hb dX5_canGo_47 (lv_at hl 0 rfl) ?_
                            refine lv_ishr hx hb dX5_canGo_49 ?_
                            refine li_topx (z := st / 4) (ii_shr2 (by omega) (by omega)) ?_
                            refine li_iconst hx hb dX5_canGo_50 ?_
                            refine lv_iand hx hb dX5_canGo_51 ?_
                            refine li_topx (z := (st / 4) % 2) (ii_and1 (by omega) (by omega)) ?_
                            refine li_iconst hx hb dX5_canGo_52 ?_
                            have J53_2 : ∀ (y53_2_0 : Int) (_ : y53_2_0 = (st / 4) % 2) (ls : Array Slot), lv_has ls 7 [(5, .int (ii 2)), (4, .int (ii (0 + y112_0 + y112_1_0))), (6, .int (ii y53_1_0)), (0, .ref md), (1, .ref (fd 0)), (2, .ref (sd 0)), (3, .int (ii hl0))] → W p l e (rm4 1 0 0 21) s m args below meth c s.heap [] 0 0 Q (F0 m 61 ls [.int (ii y53_2_0)]) := by
                              intro y53_2_0 hj53_2 ls hl
                              refine lv_istore (lv' := [(6, .int (ii y53_2_0)), (5, .int (ii 2)), (4, .int (ii (0 + y112_0 + y112_1_0))), (0, .ref md), (1, .ref (fd 0)), (2, .ref (sd 0)), (3, .int (ii hl0))]) hx hb dX5_canGo_61 hl (by decide) rfl (fun ls hl => ?_)
                              refine lv_iload hx hb dX5_canGo_63 (lv_at hl 0 rfl) ?_
                              have J65_2 : ∀ (_ : goP F w (st / 4 % 2) fr hl0 2) (ls : Array Slot), lv_has ls 7 [(6, .int (ii y53_2_0)), (5, .int (ii 2)), (4, .int (ii (0 + y112_0 + y112_1_0))), (0, .ref md), (1, .ref (fd 0)), (2, .ref (sd 0)), (3, .int (ii hl0))] → W p l e (rm4 1 0 0 21) s m args below meth c s.heap [] 0 0 Q (F0 m 108 ls []) := by
                                intro hj65_2 ls hl
                                refine lv_iload hx hb dX5_canGo_108 (lv_at hl 2 rfl) ?_
                                refine lv_iload hx hb dX5_canGo_110 (lv_at hl 0 rfl) ?_
                                have J112_2 : ∀ (y112_2_0 : Int) (_ : y112_2_0 = tpV F w (st / 4 % 2) to 2 ∧ 0 ≤ y112_2_0 ∧ y112_2_0 ≤ 1) (ls : Array Slot), lv_has ls 7 [(6, .int (ii y53_2_0)), (5, .int (ii 2)), (4, .int (ii (0 + y112_0 + y112_1_0))), (0, .ref md), (1, .ref (fd 0)), (2, .ref (sd 0)), (3, .int (ii hl0))] → W p l e (rm4 1 0 0 21) s m args below meth c s.heap [] 0 0 Q (F0 m 143 ls [.int (ii y112_2_0), .int (ii (0 + y112_0 + y112_1_0))]) := by
                                  intro y112_2_0 hj112_2 ls hl
                                  refine li_add hx hb dX5_canGo_143 ?_
                                  refine lv_istore (lv' := [(4, .int (ii (0 + y112_0 + y112_1_0 + y112_2_0))), (6, .int (ii y53_2_0)), (5, .int (ii 2)), (0, .ref md), (1, .ref (fd 0)), (2, .ref (sd 0)), (3, .int (ii hl0))]) hx hb dX5_canGo_144 hl (by decide) rfl (fun ls hl => ?_)
                                  refine li_iinc (a := 2) (lv' := [(5, .int (ii 3)), (4, .int (ii (0 + y112_0 + y112_1_0 + y112_2_0))), (6, .int (ii y53_2_0)), (0, .ref md), (1, .ref (fd 0)), (2, .ref (sd 0)), (3, .int (ii hl0))]) hx hb dX5_canGo_146 hl (k := 2) rfl (by decide) rfl (fun ls hl => ?_)
                                  refine lv_goto (tgt := 37) hx hb dX5_canGo_149 (by decide) ?_
                                  refine lv_iload hx hb dX5_canGo_37 (lv_at hl 0 rfl) ?_
                                  refine li_iconst hx hb dX5_canGo_39 ?_
                                  refine li_icmp_ge (tgt := 152) hx hb ⟨by decide, by decide⟩ ⟨by decide, by decide⟩ dX5_canGo_40 (by decide) (fun c40 => ?_) (fun c40 => ?_)
                                  · refine lv_aload_n hx hb dX5_canGo_152 rfl (lv_at hl 3 rfl) ?_
                                    refine va_get (D := G) (fs := [.int (ii st), .int (ii rp), .int (ii fr), .int (ii to)]) (ci := 6) (v := .int (ii to)) (C := RX7) (T := TX7) (N := 4) hx hb hts in_X7 hown hK hP mi hM rfl 3 (by decide) (hts _ q900) (fun _ h9 => h9) rfl dX5_canGo_153 ?_
                                    refine lv_aload_n hx hb dX5_canGo_156 rfl (lv_at hl 4 rfl) ?_
                                    refine kR (va_runV (As := []) (rest := [.int (ii to)]) ⟨hx, hb, hml, hown, hts⟩ (m_ground l G ty ws fi fd F  hF hW) (cwV 0 hts (lw_V q416 q330 q331 q77 q332) rfl rfl rfl (by decide +kernel) ⟨Nat.le_of_ble_eq_true rfl, Nat.le_of_ble_eq_true rfl⟩) (pvR (r := (RX2, TX2, 13)) hK hP hD hX (fi 0) hF.1 rfl) rfl rfl hl.1 rfl (lv_room (Nat.le_of_ble_eq_true rfl)) dX5_canGo_157 ⟨Nat.le_of_ble_eq_true rfl, Nat.le_of_ble_eq_true rfl⟩) (fun v hv => ?_)
                                    obtain ⟨z157, rfl, h157⟩ := hv
                                    refine li_icmp_eq (tgt := 177) hx hb (rgi hm6 hm7) ⟨by omega, by omega⟩ dX5_canGo_160 (by decide) (fun c160 => ?_) (fun c160 => ?_)
                                    · refine li_iconst hx hb dX5_canGo_177 ?_
                                      refine lv_goto (tgt := 182) hx hb dX5_canGo_178 (by decide) ?_
                                      exact eRz hQ hx hb hr hlk dX5_canGo_182 (.inr rfl) (⟨_, rfl, .inl ⟨rfl, c4, h12.1, h12.2, c26, hj65, hj65_1, hj65_2, by omega⟩⟩)
                                    · refine lv_iload hx hb dX5_canGo_163 (lv_at hl 1 rfl) ?_
                                      refine lv_aload_n hx hb dX5_canGo_165 rfl (lv_at hl 4 rfl) ?_
                                      refine va_get (D := G) (fs := [.ref (fd 1), .ref (fd 2), .ref (fd 3), .ref (fd 4), .int (ii (F 8 0)), .ref (fd 5), .int (ii (F 9 0)), .ref (fd 6), .int (ii (F 10 0)), .int (ii (F 11 0)), .int (ii (F 12 0)), .int (ii (F 13 0)), .ref (fd 7)]) (ci := 1) (v := .ref (fd 1)) (C := RX2) (T := TX2) (N := 13) hx hb hts in_X2 hown hK hP (fi 0) hF.1 rfl 0 (by decide) (hts _ q772) (fun _ h9 => h9) rfl dX5_canGo_166 ?_
                                      refine lv_aload_n hx hb dX5_canGo_169 rfl (lv_at hl 3 rfl) ?_
                                      refine va_get (D := G) (fs := [.int (ii st), .int (ii rp), .int (ii fr), .int (ii to)]) (ci := 6) (v := .int (ii to)) (C := RX7) (T := TX7) (N := 4) hx hb hts in_X7 hown hK hP mi hM rfl 3 (by decide) (hts _ q900) (fun _ h9 => h9) rfl dX5_canGo_170 ?_
                                      refine li_iald (g := F 0) hx hb hK hP (fi 1) 0 hF.2.1 rfl (by omega) (by omega) (by decide) dX5_canGo_173 ?_
                                      have r174 := hw0 to
                                      refine li_icmp_gt (tgt := 181) hx hb ⟨by omega, by omega⟩ (rgi r174.1 r174.2) dX5_canGo_174 (by decide) (fun c174 => ?_) (fun c174 => ?_)
                                      · refine li_iconst hx hb dX5_canGo_181 ?_
                                        exact eRz hQ hx hb hr hlk dX5_canGo_182 (.inl rfl) (⟨_, rfl, .inr ⟨rfl, fun h => by have q8 := h.2.2.2.2.2.2.2; omega⟩⟩)
                                      · refine li_iconst hx hb dX5_canGo_177 ?_
                                        refine lv_goto (tgt := 182) hx hb dX5_canGo_178 (by decide) ?_
                                        exact eRz hQ hx hb hr hlk dX5_canGo_182 (.inr rfl) (⟨_, rfl, .inl ⟨rfl, c4, h12.1, h12.2, c26, hj65, hj65_1, hj65_2, by omega⟩⟩)
                                  · exact absurd c40 (by decide)
                                refine li_if_ne (tgt := 138) hx hb ⟨by omega, by omega⟩ dX5_canGo_112 (by decide) (fun c112 => ?_) (fun c112 => ?_)
                                · refine li_iconst hx hb dX5_canGo_138 ?_
                                  refine lv_goto (tgt := 143) hx hb dX5_canGo_139 (by decide) ?_
                                  exact J112_2 _ (⟨tpV_1 (by omega), by decide, by decide⟩) ls (lv_sub hl [0, 1, 2, 3, 4, 5, 6] rfl)
                                · refine lv_iload hx hb dX5_canGo_115 (lv_at hl 1 rfl) ?_
                                  refine lv_aload_n hx hb dX5_canGo_117 rfl (lv_at hl 4 rfl) ?_
                                  refine va_get (D := G) (fs := [.ref (fd 1), .ref (fd 2), .ref (fd 3), .ref (fd 4), .int (ii (F 8 0)), .ref (fd 5), .int (ii (F 9 0)), .ref (fd 6), .int (ii (F 10 0)), .int (ii (F 11 0)), .int (ii (F 12 0)), .int (ii (F 13 0)), .ref (fd 7)]) (ci := 1) (v := .int (ii (F 9 0))) (C := RX2) (T := TX2) (N := 13) hx hb hts in_X2 hown hK hP (fi 0) hF.1 rfl 6 (by decide) (hts _ q793) (fun _ h9 => h9) rfl dX5_canGo_118 ?_
                                  refine li_icmp_ge (tgt := 142) hx hb ⟨by decide, by decide⟩ (rgi h9a h9b) dX5_canGo_121 (by decide) (fun c121 => ?_) (fun c121 => ?_)
                                  · refine li_iconst hx hb dX5_canGo_142 ?_
                                    exact J112_2 _ (⟨tpV_0 (by omega), by decide, by decide⟩) ls (lv_sub hl [0, 1, 2, 3, 4, 5, 6] rfl)
                                  · refine lv_aload_n hx hb dX5_canGo_124 rfl (lv_at hl 5 rfl) ?_
                                    refine va_get (D := G) (fs := [.ref (sd 1), .ref (sd 2)]) (ci := 2) (v := .ref (sd 1)) (C := RX3) (T := TX3) (N := 2) hx hb hts in_X3 hown hK hP (si 0) hSp.1 rfl 0 (by decide) (hts _ q655) (fun _ h9 => h9) rfl dX5_canGo_125 ?_
                                    refine lv_iload hx hb dX5_canGo_128 (lv_at hl 1 rfl) ?_
                                    refine li_iald (g := w) hx hb hK hP (si 1) 0 hSp.2.1 rfl (by decide) (by decide) (by decide) dX5_canGo_130 ?_
                                    have r131 := hs0 2
                                    refine lv_aload_n hx hb dX5_canGo_131 rfl (lv_at hl 3 rfl) ?_
                                    refine va_get (D := G) (fs := [.int (ii st), .int (ii rp), .int (ii fr), .int (ii to)]) (ci := 6) (v := .int (ii to)) (C := RX7) (T := TX7) (N := 4) hx hb hts in_X7 hown hK hP mi hM rfl 3 (by decide) (hts _ q900) (fun _ h9 => h9) rfl dX5_canGo_132 ?_
                                    refine li_icmp_ne (tgt := 142) hx hb (rgi r131.1 r131.2) (rgi hm6 hm7) dX5_canGo_135 (by decide) (fun c135 => ?_) (fun c135 => ?_)
                                    · refine li_iconst hx hb dX5_canGo_142 ?_
                                      exact J112_2 _ (⟨tpV_0 (by omega), by decide, by decide⟩) ls (lv_sub hl [0, 1, 2, 3, 4, 5, 6] rfl)
                                    · refine li_iconst hx hb dX5_canGo_138 ?_
                                      refine lv_goto (tgt := 143) hx hb dX5_canGo_139 (by decide) ?_
                                      exact J112_2 _ (⟨tpV_1 (by omega), by decide, by decide⟩) ls (lv_sub hl [0, 1, 2, 3, 4, 5, 6] rfl)
                              refine li_if_eq (tgt := 108) hx hb ⟨by omega, by omega⟩ dX5_canGo_65 (by decide) (fun c65 => ?_) (fun c65 => ?_)
                              · exact J65_2 (fun q => absurd q (by omega)) ls (lv_sub hl [0, 1, 2, 3, 4, 5, 6] rfl)
                              · refine lv_iload hx hb dX5_canGo_68 (lv_at hl 1 rfl) ?_
                                refine lv_aload_n hx hb dX5_canGo_70 rfl (lv_at hl 4 rfl) ?_
                                refine va_get (D := G) (fs := [.ref (fd 1), .ref (fd 2), .ref (fd 3), .ref (fd 4), .int (ii (F 8 0)), .ref (fd 5), .int (ii (F 9 0)), .ref (fd 6), .int (ii (F 10 0)), .int (ii (F 11 0)), .int (ii (F 12 0)), .int (ii (F 13 0)), .ref (fd 7)]) (ci := 1) (v := .int (ii (F 9 0))) (C := RX2) (T := TX2) (N := 13) hx hb hts in_X2 hown hK hP (fi 0) hF.1 rfl 6 (by decide) (hts _ q793) (fun _ h9 => h9) rfl dX5_canGo_71 ?_
                                refine li_icmp_ge (tgt := 106) hx hb ⟨by decide, by decide⟩ (rgi h9a h9b) dX5_canGo_74 (by decide) (fun c74 => ?_) (fun c74 => ?_)
                                · refine li_iconst hx hb dX5_canGo_106 ?_
                                  exact eRz hQ hx hb hr hlk dX5_canGo_107 (.inl rfl) (⟨_, rfl, .inr ⟨rfl, fun h => by obtain ⟨a, b, c⟩ := h.2.2.2.2.2.2.1 (by omega); omega⟩⟩)
                                · refine lv_aload_n hx hb dX5_canGo_77 rfl (lv_at hl 5 rfl) ?_
                                  refine va_get (D := G) (fs := [.ref (sd 1), .ref (sd 2)]) (ci := 2) (v := .ref (sd 1)) (C := RX3) (T := TX3) (N := 2) hx hb hts in_X3 hown hK hP (si 0) hSp.1 rfl 0 (by decide) (hts _ q655) (fun _ h9 => h9) rfl dX5_canGo_78 ?_
                                  refine lv_iload hx hb dX5_canGo_81 (lv_at hl 1 rfl) ?_
                                  refine li_iald (g := w) hx hb hK hP (si 1) 0 hSp.2.1 rfl (by decide) (by decide) (by decide) dX5_canGo_83 ?_
                                  have r84 := hs0 2
                                  refine lv_aload_n hx hb dX5_canGo_84 rfl (lv_at hl 3 rfl) ?_
                                  refine va_get (D := G) (fs := [.int (ii st), .int (ii rp), .int (ii fr), .int (ii to)]) (ci := 6) (v := .int (ii fr)) (C := RX7) (T := TX7) (N := 4) hx hb hts in_X7 hown hK hP mi hM rfl 2 (by decide) (hts _ q889) (fun _ h9 => h9) rfl dX5_canGo_85 ?_
                                  refine li_icmp_ne (tgt := 106) hx hb (rgi r84.1 r84.2) (rgi hm4 hm5) dX5_canGo_88 (by decide) (fun c88 => ?_) (fun c88 => ?_)
                                  · refine li_iconst hx hb dX5_canGo_106 ?_
                                    exact eRz hQ hx hb hr hlk dX5_canGo_107 (.inl rfl) (⟨_, rfl, .inr ⟨rfl, fun h => by obtain ⟨a, b, c⟩ := h.2.2.2.2.2.2.1 (by omega); omega⟩⟩)
                                  · refine lv_iload_n hx hb dX5_canGo_91 rfl (lv_at hl 6 rfl) ?_
                                    refine li_if_eq (tgt := 108) hx hb ⟨by omega, by omega⟩ dX5_canGo_92 (by decide) (fun c92 => ?_) (fun c92 => ?_)
                                    · exact J65_2 (fun q => ⟨by omega, by omega, by omega⟩) ls (lv_sub hl [0, 1, 2, 3, 4, 5, 6] rfl)
                                    · refine lv_aload_n hx hb dX5_canGo_95 rfl (lv_at hl 4 rfl) ?_
                                      refine va_get (D := G) (fs := [.ref (fd 1), .ref (fd 2), .ref (fd 3), .ref (fd 4), .int (ii (F 8 0)), .ref (fd 5), .int (ii (F 9 0)), .ref (fd 6), .int (ii (F 10 0)), .int (ii (F 11 0)), .int (ii (F 12 0)), .int (ii (F 13 0)), .ref (fd 7)]) (ci := 1) (v := .ref (fd 5)) (C := RX2) (T := TX2) (N := 13) hx hb hts in_X2 hown hK hP (fi 0) hF.1 rfl 5 (by decide) (hts _ q788) (fun _ h9 => h9) rfl dX5_canGo_96 ?_
                                      refine lv_iload hx hb dX5_canGo_99 (lv_at hl 1 rfl) ?_
                                      refine li_iald (g := F 4) hx hb hK hP (fi 5) 0 hF.2.2.2.2.2.1 rfl (by decide) (by decide) (by decide) dX5_canGo_101 ?_
                                      have r102 := hw4 2
                                      refine li_iconst hx hb dX5_canGo_102 ?_
                                      refine li_icmp_ne (tgt := 108) hx hb (rgi r102.1 r102.2) ⟨by decide, by decide⟩ dX5_canGo_103 (by decide) (fun c103 => ?_) (fun c103 => ?_)
                                      · exact J65_2 (fun q => ⟨by omega, by omega, by omega⟩) ls (lv_sub hl [0, 1, 2, 3, 4, 5, 6] rfl)
                                      · refine li_iconst hx hb dX5_canGo_106 ?_
                                        exact eRz hQ hx hb hr hlk dX5_canGo_107 (.inl rfl) (⟨_, rfl, .inr ⟨rfl, fun h => by obtain ⟨a, b, c⟩ := h.2.2.2.2.2.2.1 (by omega); omega⟩⟩)
                            refine li_icmp_ne (tgt := 60) hx hb ⟨by omega, by omega⟩ ⟨by decide, by decide⟩ dX5_canGo_53 (by decide) (fun c53 => ?_) (fun c53 => ?_)
                            · refine li_iconst hx hb dX5_canGo_60 ?_
                              exact J53_2 _ (by omega) ls (lv_sub hl [0, 1, 2, 3, 4, 5, 6] rfl)
                            · refine li_iconst hx hb dX5_canGo_56 ?_
                              refine lv_goto (tgt := 61) hx hb dX5_canGo_57 (by decide) ?_
                              exact J53_2 _ (by omega) ls (lv_sub hl [0, 1, 2, 3, 4, 5, 6] rfl)
                        refine li_if_ne (tgt := 138) hx hb ⟨by omega, by omega⟩ dX5_canGo_112 (by decide) (fun c112 => ?_) (fun c112 => ?_)
                        · refine li_iconst hx hb dX5_canGo_138 ?_
                          refine lv_goto (tgt := 143) hx hb dX5_canGo_139 (by decide) ?_
                          exact J112_1 _ (⟨tpV_1 (by omega), by decide, by decide⟩) ls (lv_sub hl [0, 1, 2, 3, 4, 5, 6] rfl)
                        · refine lv_iload hx hb dX5_canGo_115 (lv_at hl 1 rfl) ?_
                          refine lv_aload_n hx hb dX5_canGo_117 rfl (lv_at hl 4 rfl) ?_
                          refine va_get (D := G) (fs := [.ref (fd 1), .ref (fd 2), .ref (fd 3), .ref (fd 4), .int (ii (F 8 0)), .ref (fd 5), .int (ii (F 9 0)), .ref (fd 6), .int (ii (F 10 0)), .int (ii (F 11 0)), .int (ii (F 12 0)), .int (ii (F 13 0)), .ref (fd 7)]) (ci := 1) (v := .int (ii (F 9 0))) (C := RX2) (T := TX2) (N := 13) hx hb hts in_X2 hown hK hP (fi 0) hF.1 rfl 6 (by decide) (hts _ q793) (fun _ h9 => h9) rfl dX5_canGo_118 ?_
                          refine li_icmp_ge (tgt := 142) hx hb ⟨by decide, by decide⟩ (rgi h9a h9b) dX5_canGo_121 (by decide) (fun c121 => ?_) (fun c121 => ?_)
                          · refine li_iconst hx hb dX5_canGo_142 ?_
                            exact J112_1 _ (⟨tpV_0 (by omega), by decide, by decide⟩) ls (lv_sub hl [0, 1, 2, 3, 4, 5, 6] rfl)
                          · refine lv_aload_n hx hb dX5_canGo_124 rfl (lv_at hl 5 rfl) ?_
                            refine va_get (D := G) (fs := [.ref (sd 1), .ref (sd 2)]) (ci := 2) (v := .ref (sd 1)) (C := RX3) (T := TX3) (N := 2) hx hb hts in_X3 hown hK hP (si 0) hSp.1 rfl 0 (by decide) (hts _ q655) (fun _ h9 => h9) rfl dX5_canGo_125 ?_
                            refine lv_iload hx hb dX5_canGo_128 (lv_at hl 1 rfl) ?_
                            refine li_iald (g := w) hx hb hK hP (si 1) 0 hSp.2.1 rfl (by decide) (by decide) (by decide) dX5_canGo_130 ?_
                            have r131 := hs0 1
                            refine lv_aload_n hx hb dX5_canGo_131 rfl (lv_at hl 3 rfl) ?_
                            refine va_get (D := G) (fs := [.int (ii st), .int (ii rp), .int (ii fr), .int (ii to)]) (ci := 6) (v := .int (ii to)) (C := RX7) (T := TX7) (N := 4) hx hb hts in_X7 hown hK hP mi hM rfl 3 (by decide) (hts _ q900) (fun _ h9 => h9) rfl dX5_canGo_132 ?_
                            refine li_icmp_ne (tgt := 142) hx hb (rgi r131.1 r131.2) (rgi hm6 hm7) dX5_canGo_135 (by decide) (fun c135 => ?_) (fun c135 => ?_)
                            · refine li_iconst hx hb dX5_canGo_142 ?_
                              exact J112_1 _ (⟨tpV_0 (by omega), by decide, by decide⟩) ls (lv_sub hl [0, 1, 2, 3, 4, 5, 6] rfl)
                            · refine li_iconst hx hb dX5_canGo_138 ?_
                              refine lv_goto (tgt := 143) hx hb dX5_canGo_139 (by decide) ?_
                              exact J112_1 _ (⟨tpV_1 (by omega), by decide, by decide⟩) ls (lv_sub hl [0, 1, 2, 3, 4, 5, 6] rfl)
                      refine li_if_eq (tgt := 108) hx hb ⟨by omega, by omega⟩ dX5_canGo_65 (by decide) (fun c65 => ?_) (fun c65 => ?_)
                      · exact J65_1 (fun q => absurd q (by omega)) ls (lv_sub hl [0, 1, 2, 3, 4, 5, 6] rfl)
                      · refine lv_iload hx hb dX5_canGo_68 (lv_at hl 1 rfl) ?_
                        refine lv_aload_n hx hb dX5_canGo_70 rfl (lv_at hl 4 rfl) ?_
                        refine va_get (D := G) (fs := [.ref (fd 1), .ref (fd 2), .ref (fd 3), .ref (fd 4), .int (ii (F 8 0)), .ref (fd 5), .int (ii (F 9 0)), .ref (fd 6), .int (ii (F 10 0)), .int (ii (F 11 0)), .int (ii (F 12 0)), .int (ii (F 13 0)), .ref (fd 7)]) (ci := 1) (v := .int (ii (F 9 0))) (C := RX2) (T := TX2) (N := 13) hx hb hts in_X2 hown hK hP (fi 0) hF.1 rfl 6 (by decide) (hts _ q793) (fun _ h9 => h9) rfl dX5_canGo_71 ?_
                        refine li_icmp_ge (tgt := 106) hx hb ⟨by decide, by decide⟩ (rgi h9a h9b) dX5_canGo_74 (by decide) (fun c74 => ?_) (fun c74 => ?_)
                        · refine li_iconst hx hb dX5_canGo_106 ?_
                          exact eRz hQ hx hb hr hlk dX5_canGo_107 (.inl rfl) (⟨_, rfl, .inr ⟨rfl, fun h => by obtain ⟨a, b, c⟩ := h.2.2.2.2.2.1 (by omega); omega⟩⟩)
                        · refine lv_aload_n hx hb dX5_canGo_77 rfl (lv_at hl 5 rfl) ?_
                          refine va_get (D := G) (fs := [.ref (sd 1), .ref (sd 2)]) (ci := 2) (v := .ref (sd 1)) (C := RX3) (T := TX3) (N := 2) hx hb hts in_X3 hown hK hP (si 0) hSp.1 rfl 0 (by decide) (hts _ q655) (fun _ h9 => h9) rfl dX5_canGo_78 ?_
                          refine lv_iload hx hb dX5_canGo_81 (lv_at hl 1 rfl) ?_
                          refine li_iald (g := w) hx hb hK hP (si 1) 0 hSp.2.1 rfl (by decide) (by decide) (by decide) dX5_canGo_83 ?_
                          have r84 := hs0 1
                          refine lv_aload_n hx hb dX5_canGo_84 rfl (lv_at hl 3 rfl) ?_
                          refine va_get (D := G) (fs := [.int (ii st), .int (ii rp), .int (ii fr), .int (ii to)]) (ci := 6) (v := .int (ii fr)) (C := RX7) (T := TX7) (N := 4) hx hb hts in_X7 hown hK hP mi hM rfl 2 (by decide) (hts _ q889) (fun _ h9 => h9) rfl dX5_canGo_85 ?_
                          refine li_icmp_ne (tgt := 106) hx hb (rgi r84.1 r84.2) (rgi hm4 hm5) dX5_canGo_88 (by decide) (fun c88 => ?_) (fun c88 => ?_)
                          · refine li_iconst hx hb dX5_canGo_106 ?_
                            exact eRz hQ hx hb hr hlk dX5_canGo_107 (.inl rfl) (⟨_, rfl, .inr ⟨rfl, fun h => by obtain ⟨a, b, c⟩ := h.2.2.2.2.2.1 (by omega); omega⟩⟩)
                          · refine lv_iload_n hx hb dX5_canGo_91 rfl (lv_at hl 6 rfl) ?_
                            refine li_if_eq (tgt := 108) hx hb ⟨by omega, by omega⟩ dX5_canGo_92 (by decide) (fun c92 => ?_) (fun c92 => ?_)
                            · exact J65_1 (fun q => ⟨by omega, by omega, by omega⟩) ls (lv_sub hl [0, 1, 2, 3, 4, 5, 6] rfl)
                            · refine lv_aload_n hx hb dX5_canGo_95 rfl (lv_at hl 4 rfl) ?_
                              refine va_get (D := G) (fs := [.ref (fd 1), .ref (fd 2), .ref (fd 3), .ref (fd 4), .int (ii (F 8 0)), .ref (fd 5), .int (ii (F 9 0)), .ref (fd 6), .int (ii (F 10 0)), .int (ii (F 11 0)), .int (ii (F 12 0)), .int (ii (F 13 0)), .ref (fd 7)]) (ci := 1) (v := .ref (fd 5)) (C := RX2) (T := TX2) (N := 13) hx hb hts in_X2 hown hK hP (fi 0) hF.1 rfl 5 (by decide) (hts _ q788) (fun _ h9 => h9) rfl dX5_canGo_96 ?_
                              refine lv_iload hx hb dX5_canGo_99 (lv_at hl 1 rfl) ?_
                              refine li_iald (g := F 4) hx hb hK hP (fi 5) 0 hF.2.2.2.2.2.1 rfl (by decide) (by decide) (by decide) dX5_canGo_101 ?_
                              have r102 := hw4 1
                              refine li_iconst hx hb dX5_canGo_102 ?_
                              refine li_icmp_ne (tgt := 108) hx hb (rgi r102.1 r102.2) ⟨by decide, by decide⟩ dX5_canGo_103 (by decide) (fun c103 => ?_) (fun c103 => ?_)
                              · exact J65_1 (fun q => ⟨by omega, by omega, by omega⟩) ls (lv_sub hl [0, 1, 2, 3, 4, 5, 6] rfl)
                              · refine li_iconst hx hb dX5_canGo_106 ?_
                                exact eRz hQ hx hb hr hlk dX5_canGo_107 (.inl rfl) (⟨_, rfl, .inr ⟨rfl, fun h => by obtain ⟨a, b, c⟩ := h.2.2.2.2.2.1 (by omega); omega⟩⟩)
                    refine li_icmp_ne (tgt := 60) hx hb ⟨by omega, by omega⟩ ⟨by decide, by decide⟩ dX5_canGo_53 (by decide) (fun c53 => ?_) (fun c53 => ?_)
                    · refine li_iconst hx hb dX5_canGo_60 ?_
                      exact J53_1 _ (by omega) ls (lv_sub hl [0, 1, 2, 3, 4, 5, 6] rfl)
                    · refine li_iconst hx hb dX5_canGo_56 ?_
                      refine lv_goto (tgt := 61) hx hb dX5_canGo_57 (by decide) ?_
                      exact J53_1 _ (by omega) ls (lv_sub hl [0, 1, 2, 3, 4, 5, 6] rfl)
                refine li_if_ne (tgt := 138) hx hb ⟨by omega, by omega⟩ dX5_canGo_112 (by decide) (fun c112 => ?_) (fun c112 => ?_)
                · refine li_iconst hx hb dX5_canGo_138 ?_
                  refine lv_goto (tgt := 143) hx hb dX5_canGo_139 (by decide) ?_
                  exact J112 _ (⟨tpV_1 (by omega), by decide, by decide⟩) ls (lv_sub hl [0, 1, 2, 3, 4, 5, 6] rfl)
                · refine lv_iload hx hb dX5_canGo_115 (lv_at hl 1 rfl) ?_
                  refine lv_aload_n hx hb dX5_canGo_117 rfl (lv_at hl 4 rfl) ?_
                  refine va_get (D := G) (fs := [.ref (fd 1), .ref (fd 2), .ref (fd 3), .ref (fd 4), .int (ii (F 8 0)), .ref (fd 5), .int (ii (F 9 0)), .ref (fd 6), .int (ii (F 10 0)), .int (ii (F 11 0)), .int (ii (F 12 0)), .int (ii (F 13 0)), .ref (fd 7)]) (ci := 1) (v := .int (ii (F 9 0))) (C := RX2) (T := TX2) (N := 13) hx hb hts in_X2 hown hK hP (fi 0) hF.1 rfl 6 (by decide) (hts _ q793) (fun _ h9 => h9) rfl dX5_canGo_118 ?_
                  refine li_icmp_ge (tgt := 142) hx hb ⟨by decide, by decide⟩ (rgi h9a h9b) dX5_canGo_121 (by decide) (fun c121 => ?_) (fun c121 => ?_)
                  · refine li_iconst hx hb dX5_canGo_142 ?_
                    exact J112 _ (⟨tpV_0 (by omega), by decide, by decide⟩) ls (lv_sub hl [0, 1, 2, 3, 4, 5, 6] rfl)
                  · refine lv_aload_n hx hb dX5_canGo_124 rfl (lv_at hl 5 rfl) ?_
                    refine va_get (D := G) (fs := [.ref (sd 1), .ref (sd 2)]) (ci := 2) (v := .ref (sd 1)) (C := RX3) (T := TX3) (N := 2) hx hb hts in_X3 hown hK hP (si 0) hSp.1 rfl 0 (by decide) (hts _ q655) (fun _ h9 => h9) rfl dX5_canGo_125 ?_
                    refine lv_iload hx hb dX5_canGo_128 (lv_at hl 1 rfl) ?_
                    refine li_iald (g := w) hx hb hK hP (si 1) 0 hSp.2.1 rfl (by decide) (by decide) (by decide) dX5_canGo_130 ?_
                    have r131 := hs0 0
                    refine lv_aload_n hx hb dX5_canGo_131 rfl (lv_at hl 3 rfl) ?_
                    refine va_get (D := G) (fs := [.int (ii st), .int (ii rp), .int (ii fr), .int (ii to)]) (ci := 6) (v := .int (ii to)) (C := RX7) (T := TX7) (N := 4) hx hb hts in_X7 hown hK hP mi hM rfl 3 (by decide) (hts _ q900) (fun _ h9 => h9) rfl dX5_canGo_132 ?_
                    refine li_icmp_ne (tgt := 142) hx hb (rgi r131.1 r131.2) (rgi hm6 hm7) dX5_canGo_135 (by decide) (fun c135 => ?_) (fun c135 => ?_)
                    · refine li_iconst hx hb dX5_canGo_142 ?_
                      exact J112 _ (⟨tpV_0 (by omega), by decide, by decide⟩) ls (lv_sub hl [0, 1, 2, 3, 4, 5, 6] rfl)
                    · refine li_iconst hx hb dX5_canGo_138 ?_
                      refine lv_goto (tgt := 143) hx hb dX5_canGo_139 (by decide) ?_
                      exact J112 _ (⟨tpV_1 (by omega), by decide, by decide⟩) ls (lv_sub hl [0, 1, 2, 3, 4, 5, 6] rfl)
              refine li_if_eq (tgt := 108) hx hb ⟨by omega, by omega⟩ dX5_canGo_65 (by decide) (fun c65 => ?_) (fun c65 => ?_)
              · exact J65 (fun q => absurd q (by omega)) ls (lv_sub hl [0, 1, 2, 3, 4, 5, 6] rfl)
              · refine lv_iload hx hb dX5_canGo_68 (lv_at hl 1 rfl) ?_
                refine lv_aload_n hx hb dX5_canGo_70 rfl (lv_at hl 4 rfl) ?_
                refine va_get (D := G) (fs := [.ref (fd 1), .ref (fd 2), .ref (fd 3), .ref (fd 4), .int (ii (F 8 0)), .ref (fd 5), .int (ii (F 9 0)), .ref (fd 6), .int (ii (F 10 0)), .int (ii (F 11 0)), .int (ii (F 12 0)), .int (ii (F 13 0)), .ref (fd 7)]) (ci := 1) (v := .int (ii (F 9 0))) (C := RX2) (T := TX2) (N := 13) hx hb hts in_X2 hown hK hP (fi 0) hF.1 rfl 6 (by decide) (hts _ q793) (fun _ h9 => h9) rfl dX5_canGo_71 ?_
                refine li_icmp_ge (tgt := 106) hx hb ⟨by decide, by decide⟩ (rgi h9a h9b) dX5_canGo_74 (by decide) (fun c74 => ?_) (fun c74 => ?_)
                · refine li_iconst hx hb dX5_canGo_106 ?_
                  exact eRz hQ hx hb hr hlk dX5_canGo_107 (.inl rfl) (⟨_, rfl, .inr ⟨rfl, fun h => by obtain ⟨a, b, c⟩ := h.2.2.2.2.1 (by omega); omega⟩⟩)
                · refine lv_aload_n hx hb dX5_canGo_77 rfl (lv_at hl 5 rfl) ?_
                  refine va_get (D := G) (fs := [.ref (sd 1), .ref (sd 2)]) (ci := 2) (v := .ref (sd 1)) (C := RX3) (T := TX3) (N := 2) hx hb hts in_X3 hown hK hP (si 0) hSp.1 rfl 0 (by decide) (hts _ q655) (fun _ h9 => h9) rfl dX5_canGo_78 ?_
                  refine lv_iload hx hb dX5_canGo_81 (lv_at hl 1 rfl) ?_
                  refine li_iald (g := w) hx hb hK hP (si 1) 0 hSp.2.1 rfl (by decide) (by decide) (by decide) dX5_canGo_83 ?_
                  have r84 := hs0 0
                  refine lv_aload_n hx hb dX5_canGo_84 rfl (lv_at hl 3 rfl) ?_
                  refine va_get (D := G) (fs := [.int (ii st), .int (ii rp), .int (ii fr), .int (ii to)]) (ci := 6) (v := .int (ii fr)) (C := RX7) (T := TX7) (N := 4) hx hb hts in_X7 hown hK hP mi hM rfl 2 (by decide) (hts _ q889) (fun _ h9 => h9) rfl dX5_canGo_85 ?_
                  refine li_icmp_ne (tgt := 106) hx hb (rgi r84.1 r84.2) (rgi hm4 hm5) dX5_canGo_88 (by decide) (fun c88 => ?_) (fun c88 => ?_)
                  · refine li_iconst hx hb dX5_canGo_106 ?_
                    exact eRz hQ hx hb hr hlk dX5_canGo_107 (.inl rfl) (⟨_, rfl, .inr ⟨rfl, fun h => by obtain ⟨a, b, c⟩ := h.2.2.2.2.1 (by omega); omega⟩⟩)
                  · refine lv_iload_n hx hb dX5_canGo_91 rfl (lv_at hl 6 rfl) ?_
                    refine li_if_eq (tgt := 108) hx hb ⟨by omega, by omega⟩ dX5_canGo_92 (by decide) (fun c92 => ?_) (fun c92 => ?_)
                    · exact J65 (fun q => ⟨by omega, by omega, by omega⟩) ls (lv_sub hl [0, 1, 2, 3, 4, 5, 6] rfl)
                    · refine lv_aload_n hx hb dX5_canGo_95 rfl (lv_at hl 4 rfl) ?_
                      refine va_get (D := G) (fs := [.ref (fd 1), .ref (fd 2), .ref (fd 3), .ref (fd 4), .int (ii (F 8 0)), .ref (fd 5), .int (ii (F 9 0)), .ref (fd 6), .int (ii (F 10 0)), .int (ii (F 11 0)), .int (ii (F 12 0)), .int (ii (F 13 0)), .ref (fd 7)]) (ci := 1) (v := .ref (fd 5)) (C := RX2) (T := TX2) (N := 13) hx hb hts in_X2 hown hK hP (fi 0) hF.1 rfl 5 (by decide) (hts _ q788) (fun _ h9 => h9) rfl dX5_canGo_96 ?_
                      refine lv_iload hx hb dX5_canGo_99 (lv_at hl 1 rfl) ?_
                      refine li_iald (g := F 4) hx hb hK hP (fi 5) 0 hF.2.2.2.2.2.1 rfl (by decide) (by decide) (by decide) dX5_canGo_101 ?_
                      have r102 := hw4 0
                      refine li_iconst hx hb dX5_canGo_102 ?_
                      refine li_icmp_ne (tgt := 108) hx hb (rgi r102.1 r102.2) ⟨by decide, by decide⟩ dX5_canGo_103 (by decide) (fun c103 => ?_) (fun c103 => ?_)
                      · exact J65 (fun q => ⟨by omega, by omega, by omega⟩) ls (lv_sub hl [0, 1, 2, 3, 4, 5, 6] rfl)
                      · refine li_iconst hx hb dX5_canGo_106 ?_
                        exact eRz hQ hx hb hr hlk dX5_canGo_107 (.inl rfl) (⟨_, rfl, .inr ⟨rfl, fun h => by obtain ⟨a, b, c⟩ := h.2.2.2.2.1 (by omega); omega⟩⟩)
            refine li_icmp_ne (tgt := 60) hx hb ⟨by omega, by omega⟩ ⟨by decide, by decide⟩ dX5_canGo_53 (by decide) (fun c53 => ?_) (fun c53 => ?_)
            · refine li_iconst hx hb dX5_canGo_60 ?_
              exact J53 _ (by omega) ls (lv_sub hl [0, 1, 2, 3, 4, 5] rfl)
            · refine li_iconst hx hb dX5_canGo_56 ?_
              refine lv_goto (tgt := 61) hx hb dX5_canGo_57 (by decide) ?_
              exact J53 _ (by omega) ls (lv_sub hl [0, 1, 2, 3, 4, 5] rfl)
        · refine li_iconst hx hb dX5_canGo_29 ?_
          exact eRz hQ hx hb hr hlk dX5_canGo_30 (.inl rfl) (⟨_, rfl, .inr ⟨rfl, fun h => by obtain ⟨q1, q2, q3, q4, q5, q6, q7, q8⟩ := h; omega⟩⟩)
    · refine li_if_eq (tgt := 29) hx hb ⟨by decide, by decide⟩ dX5_canGo_15 (by decide) (fun c15 => ?_) (fun c15 => ?_)
      · refine li_iconst hx hb dX5_canGo_29 ?_
        exact eRz hQ hx hb hr hlk dX5_canGo_30 (.inl rfl) (⟨_, rfl, .inr ⟨rfl, fun h => by obtain ⟨q1, q2, q3, q4, q5, q6, q7, q8⟩ := h; omega⟩⟩)
      · exact absurd c15 (by decide)
set_option maxHeartbeats 4000000 in
theorem m_canGo_8 (l : Launch) (G : va_G) (ty : Nat → ClassId) (ws : va_W) (fi fd : Nat → Nat) (F : mem) (si sd : Nat → Nat) (w q : Int → Int) (mi md : Nat) (st rp fr to : Int) (hl0 : Int) (hF : faceAt ty ws fi fd F) (hW : wfF F) (hSp : spotAt ty ws si sd w q) (hWS : wfS w q) (hM : moveAt ws 7 mi md st rp fr to) (hm : 0 ≤ st ∧ st ≤ 7 ∧ 0 ≤ rp ∧ rp ≤ 1 ∧ 0 ≤ fr ∧ fr ≤ 4 ∧ 0 ≤ to ∧ to ≤ 4) (hh : hl0 = 0 ∨ hl0 = 1) : cR l yX5_canGo (ws_ yX5_canGo cX5_canGo 7 (some .boolean)) (rm4 1 0 0 21) G ty (ws) [.ref md, .ref (fd 0), .ref (sd 0), .int (ii hl0)] (fun r => ∃ z : Int, r = some (.int (ii z)) ∧ ((z = 1 ∧ okGo F w st fr to hl0) ∨ (z = 0 ∧ ¬ okGo F w st fr to hl0))) := by
  refine cR.of (by decide) (Nat.le_of_ble_eq_true rfl) ?_
  intro p e s m args below meth c Q hQ hx hb hr hml hown hlk hts hK hP hD hX ls hl
  have hl : lv_has ls 7 [(0, .ref md), (1, .ref (fd 0)), (2, .ref (sd 0)), (3, .int (ii hl0))] := hl
  obtain ⟨hw0, hw1, hw2, hw3, hw4, hw5, h8a, h8b, h9a, h9b, h10a, h10b⟩ := id hW
  obtain ⟨hs0, hs1⟩ := id hWS
  obtain ⟨hm0, hm1, hm2, hm3, hm4, hm5, hm6, hm7⟩ := id hm
  refine lv_aload_n hx hb dX5_canGo_0 rfl (lv_at hl 0 rfl) ?_
  refine va_get (D := G) (fs := [.int (ii st), .int (ii rp), .int (ii fr), .int (ii to)]) (ci := 7) (v := .int (ii st)) (C := RX8) (T := TX8) (N := 4) hx hb hts in_X8 hown hK hP mi hM rfl 0 (by decide) (hts _ q861) (fun _ h9 => h9) rfl dX5_canGo_1 ?_
  refine li_if_eq (tgt := 29) hx hb (rgi hm0 hm1) dX5_canGo_4 (by decide) (fun c4 => ?_) (fun c4 => ?_)
  · refine li_iconst hx hb dX5_canGo_29 ?_
    exact eRz hQ hx hb hr hlk dX5_canGo_30 (.inl rfl) (⟨_, rfl, .inr ⟨rfl, fun h => by obtain ⟨q1, q2, q3, q4, q5, q6, q7, q8⟩ := h; omega⟩⟩)
  · refine lv_aload_n hx hb dX5_canGo_7 rfl (lv_at hl 1 rfl) ?_
    refine lv_aload_n hx hb dX5_canGo_8 rfl (lv_at hl 0 rfl) ?_
    refine va_get (D := G) (fs := [.int (ii st), .int (ii rp), .int (ii fr), .int (ii to)]) (ci := 7) (v := .int (ii to)) (C := RX8) (T := TX8) (N := 4) hx hb hts in_X8 hown hK hP mi hM rfl 3 (by decide) (hts _ q900) (fun _ h9 => h9) rfl dX5_canGo_9 ?_
    refine kR (va_runV (As := [.int (ii to)]) (rest := []) ⟨hx, hb, hml, hown, hts⟩ (m_isLedge l G ty ws fi fd F to hF hW (rgi hm6 hm7)) (cwV 1 hts (lw_V q415 q309 q310 q77 q311) rfl rfl rfl (by decide +kernel) ⟨Nat.le_of_ble_eq_true rfl, Nat.le_of_ble_eq_true rfl⟩) (pvR (r := (RX2, TX2, 13)) hK hP hD hX (fi 0) hF.1 rfl) rfl rfl hl.1 rfl (lv_room (Nat.le_of_ble_eq_true rfl)) dX5_canGo_12 ⟨Nat.le_of_ble_eq_true rfl, Nat.le_of_ble_eq_true rfl⟩) (fun v hv => ?_)
    obtain ⟨z12, rfl, ⟨rfl, h12⟩ | ⟨rfl, h12⟩⟩ := hv
    · refine li_if_eq (tgt := 29) hx hb ⟨by decide, by decide⟩ dX5_canGo_15 (by decide) (fun c15 => ?_) (fun c15 => ?_)
      · exact absurd c15 (by decide)
      · refine lv_aload_n hx hb dX5_canGo_18 rfl (lv_at hl 0 rfl) ?_
        refine va_get (D := G) (fs := [.int (ii st), .int (ii rp), .int (ii fr), .int (ii to)]) (ci := 7) (v := .int (ii to)) (C := RX8) (T := TX8) (N := 4) hx hb hts in_X8 hown hK hP mi hM rfl 3 (by decide) (hts _ q900) (fun _ h9 => h9) rfl dX5_canGo_19 ?_
        refine lv_aload_n hx hb dX5_canGo_22 rfl (lv_at hl 0 rfl) ?_
        refine va_get (D := G) (fs := [.int (ii st), .int (ii rp), .int (ii fr), .int (ii to)]) (ci := 7) (v := .int (ii fr)) (C := RX8) (T := TX8) (N := 4) hx hb hts in_X8 hown hK hP mi hM rfl 2 (by decide) (hts _ q889) (fun _ h9 => h9) rfl dX5_canGo_23 ?_
        refine li_icmp_ne (tgt := 31) hx hb (rgi hm6 hm7) (rgi hm4 hm5) dX5_canGo_26 (by decide) (fun c26 => ?_) (fun c26 => ?_)
        · refine li_iconst hx hb dX5_canGo_31 ?_
          refine lv_istore (lv' := [(4, .int (ii 0)), (0, .ref md), (1, .ref (fd 0)), (2, .ref (sd 0)), (3, .int (ii hl0))]) hx hb dX5_canGo_32 hl (by decide) rfl (fun ls hl => ?_)
          refine li_iconst hx hb dX5_canGo_34 ?_
          refine lv_istore (lv' := [(5, .int (ii 0)), (4, .int (ii 0)), (0, .ref md), (1, .ref (fd 0)), (2, .ref (sd 0)), (3, .int (ii hl0))]) hx hb dX5_canGo_35 hl (by decide) rfl (fun ls hl => ?_)
          refine lv_iload hx hb dX5_canGo_37 (lv_at hl 0 rfl) ?_
          refine li_iconst hx hb dX5_canGo_39 ?_
          refine li_icmp_ge (tgt := 152) hx hb ⟨by decide, by decide⟩ ⟨by decide, by decide⟩ dX5_canGo_40 (by decide) (fun c40 => ?_) (fun c40 => ?_)
          · exact absurd c40 (by decide)
          · refine lv_aload_n hx hb dX5_canGo_43 rfl (lv_at hl 2 rfl) ?_
            refine va_get (D := G) (fs := [.int (ii st), .int (ii rp), .int (ii fr), .int (ii to)]) (ci := 7) (v := .int (ii st)) (C := RX8) (T := TX8) (N := 4) hx hb hts in_X8 hown hK hP mi hM rfl 0 (by decide) (hts _ q861) (fun _ h9 => h9) rfl dX5_canGo_44 ?_
            refine lv_iload hx hb dX5_canGo_47 (lv_at hl 0 rfl) ?_
            refine lv_ishr hx hb dX5_canGo_49 ?_
            refine li_topx (z := st) (ii_shr0 (by omega) (by omega)) ?_
            refine li_iconst hx hb dX5_canGo_50 ?_
            refine lv_iand hx hb dX5_canGo_51 ?_
            refine li_topx (z := st % 2) (ii_and1 (by omega) (by omega)) ?_
            refine li_iconst hx hb dX5_canGo_52 ?_
            have J53 : ∀ (y53_0 : Int) (_ : y53_0 = st % 2) (ls : Array Slot), lv_has ls 7 [(5, .int (ii 0)), (4, .int (ii 0)), (0, .ref md), (1, .ref (fd 0)), (2, .ref (sd 0)), (3, .int (ii hl0))] → W p l e (rm4 1 0 0 21) s m args below meth c s.heap [] 0 0 Q (F0 m 61 ls [.int (ii y53_0)]) := by
              intro y53_0 hj53 ls hl
              refine lv_istore (lv' := [(6, .int (ii y53_0)), (5, .int (ii 0)), (4, .int (ii 0)), (0, .ref md), (1, .ref (fd 0)), (2, .ref (sd 0)), (3, .int (ii hl0))]) hx hb dX5_canGo_61 hl (by decide) rfl (fun ls hl => ?_)
              refine lv_iload hx hb dX5_canGo_63 (lv_at hl 0 rfl) ?_
              have J65 : ∀ (_ : goP F w (st % 2) fr hl0 0) (ls : Array Slot), lv_has ls 7 [(6, .int (ii y53_0)), (5, .int (ii 0)), (4, .int (ii 0)), (0, .ref md), (1, .ref (fd 0)), (2, .ref (sd 0)), (3, .int (ii hl0))] → W p l e (rm4 1 0 0 21) s m args below meth c s.heap [] 0 0 Q (F0 m 108 ls []) := by
                intro hj65 ls hl
                refine lv_iload hx hb dX5_canGo_108 (lv_at hl 2 rfl) ?_
                refine lv_iload hx hb dX5_canGo_110 (lv_at hl 0 rfl) ?_
                have J112 : ∀ (y112_0 : Int) (_ : y112_0 = tpV F w (st % 2) to 0 ∧ 0 ≤ y112_0 ∧ y112_0 ≤ 1) (ls : Array Slot), lv_has ls 7 [(6, .int (ii y53_0)), (5, .int (ii 0)), (4, .int (ii 0)), (0, .ref md), (1, .ref (fd 0)), (2, .ref (sd 0)), (3, .int (ii hl0))] → W p l e (rm4 1 0 0 21) s m args below meth c s.heap [] 0 0 Q (F0 m 143 ls [.int (ii y112_0), .int (ii 0)]) := by
                  intro y112_0 hj112 ls hl
                  refine li_add hx hb dX5_canGo_143 ?_
                  refine lv_istore (lv' := [(4, .int (ii (0 + y112_0))), (6, .int (ii y53_0)), (5, .int (ii 0)), (0, .ref md), (1, .ref (fd 0)), (2, .ref (sd 0)), (3, .int (ii hl0))]) hx hb dX5_canGo_144 hl (by decide) rfl (fun ls hl => ?_)
                  refine li_iinc (a := 0) (lv' := [(5, .int (ii 1)), (4, .int (ii (0 + y112_0))), (6, .int (ii y53_0)), (0, .ref md), (1, .ref (fd 0)), (2, .ref (sd 0)), (3, .int (ii hl0))]) hx hb dX5_canGo_146 hl (k := 2) rfl (by decide) rfl (fun ls hl => ?_)
                  refine lv_goto (tgt := 37) hx hb dX5_canGo_149 (by decide) ?_
                  refine lv_iload hx hb dX5_canGo_37 (lv_at hl 0 rfl) ?_
                  refine li_iconst hx hb dX5_canGo_39 ?_
                  refine li_icmp_ge (tgt := 152) hx hb ⟨by decide, by decide⟩ ⟨by decide, by decide⟩ dX5_canGo_40 (by decide) (fun c40 => ?_) (fun c40 => ?_)
                  · exact absurd c40 (by decide)
                  · refine lv_aload_n hx hb dX5_canGo_43 rfl (lv_at hl 3 rfl) ?_
                    refine va_get (D := G) (fs := [.int (ii st), .int (ii rp), .int (ii fr), .int (ii to)]) (ci := 7) (v := .int (ii st)) (C := RX8) (T := TX8) (N := 4) hx hb hts in_X8 hown hK hP mi hM rfl 0 (by decide) (hts _ q861) (fun _ h9 => h9) rfl dX5_canGo_44 ?_
                    refine lv_iload hx hb dX5_canGo_47 (lv_at hl 0 rfl) ?_
                    refine lv_ishr hx hb dX5_canGo_49 ?_
                    refine li_topx (z := st / 2) (ii_shr1 (by omega) (by omega)) ?_
                    refine li_iconst hx hb dX5_canGo_50 ?_
                    refine lv_iand hx hb dX5_canGo_51 ?_
                    refine li_topx (z := (st / 2) % 2) (ii_and1 (by omega) (by omega)) ?_
                    refine li_iconst hx hb dX5_canGo_52 ?_
                    have J53_1 : ∀ (y53_1_0 : Int) (_ : y53_1_0 = (st / 2) % 2) (ls : Array Slot), lv_has ls 7 [(5, .int (ii 1)), (4, .int (ii (0 + y112_0))), (6, .int (ii y53_0)), (0, .ref md), (1, .ref (fd 0)), (2, .ref (sd 0)), (3, .int (ii hl0))] → W p l e (rm4 1 0 0 21) s m args below meth c s.heap [] 0 0 Q (F0 m 61 ls [.int (ii y53_1_0)]) := by
                      intro y53_1_0 hj53_1 ls hl
                      refine lv_istore (lv' := [(6, .int (ii y53_1_0)), (5, .int (ii 1)), (4, .int (ii (0 + y112_0))), (0, .ref md), (1, .ref (fd 0)), (2, .ref (sd 0)), (3, .int (ii hl0))]) hx hb dX5_canGo_61 hl (by decide) rfl (fun ls hl => ?_)
                      refine lv_iload hx hb dX5_canGo_63 (lv_at hl 0 rfl) ?_
                      have J65_1 : ∀ (_ : goP F w (st / 2 % 2) fr hl0 1) (ls : Array Slot), lv_has ls 7 [(6, .int (ii y53_1_0)), (5, .int (ii 1)), (4, .int (ii (0 + y112_0))), (0, .ref md), (1, .ref (fd 0)), (2, .ref (sd 0)), (3, .int (ii hl0))] → W p l e (rm4 1 0 0 21) s m args below meth c s.heap [] 0 0 Q (F0 m 108 ls []) := by
                        intro hj65_1 ls hl
                        refine lv_iload hx hb dX5_canGo_108 (lv_at hl 2 rfl) ?_
                        refine lv_iload hx hb dX5_canGo_110 (lv_at hl 0 rfl) ?_
                        have J112_1 : ∀ (y112_1_0 : Int) (_ : y112_1_0 = tpV F w (st / 2 % 2) to 1 ∧ 0 ≤ y112_1_0 ∧ y112_1_0 ≤ 1) (ls : Array Slot), lv_has ls 7 [(6, .int (ii y53_1_0)), (5, .int (ii 1)), (4, .int (ii (0 + y112_0))), (0, .ref md), (1, .ref (fd 0)), (2, .ref (sd 0)), (3, .int (ii hl0))] → W p l e (rm4 1 0 0 21) s m args below meth c s.heap [] 0 0 Q (F0 m 143 ls [.int (ii y112_1_0), .int (ii (0 + y112_0))]) := by
                          intro y112_1_0 hj112_1 ls hl
                          refine li_add hx hb dX5_canGo_143 ?_
                          refine lv_istore (lv' := [(4, .int (ii (0 + y112_0 + y112_1_0))), (6, .int (ii y53_1_0)), (5, .int (ii 1)), (0, .ref md), (1, .ref (fd 0)), (2, .ref (sd 0)), (3, .int (ii hl0))]) hx hb dX5_canGo_144 hl (by decide) rfl (fun ls hl => ?_)
                          refine li_iinc (a := 1) (lv' := [(5, .int (ii 2)), (4, .int (ii (0 + y112_0 + y112_1_0))), (6, .int (ii y53_1_0)), (0, .ref md), (1, .ref (fd 0)), (2, .ref (sd 0)), (3, .int (ii hl0))]) hx hb dX5_canGo_146 hl (k := 2) rfl (by decide) rfl (fun ls hl => ?_)
                          refine lv_goto (tgt := 37) hx hb dX5_canGo_149 (by decide) ?_
                          refine lv_iload hx hb dX5_canGo_37 (lv_at hl 0 rfl) ?_
                          refine li_iconst hx hb dX5_canGo_39 ?_
                          refine li_icmp_ge (tgt := 152) hx hb ⟨by decide, by decide⟩ ⟨by decide, by decide⟩ dX5_canGo_40 (by decide) (fun c40 => ?_) (fun c40 => ?_)
                          · exact absurd c40 (by decide)
                          · refine lv_aload_n hx hb dX5_canGo_43 rfl (lv_at hl 3 rfl) ?_
                            refine va_get (D := G) (fs := [.int (ii st), .int (ii rp), .int (ii fr), .int (ii to)]) (ci := 7) (v := .int (ii st)) (C := RX8) (T := TX8) (N := 4) hx hb hts in_X8 hown hK hP mi hM rfl 0 (by decide) (hts _ q861) (fun _ h9 => h9) rfl dX5_canGo_44 ?_
                            refine lv_iload hx hb dX5_canGo_47 (lv_at hl 0 rfl) ?_
                            refine lv_ishr hx hb dX5_canGo_49 ?_
                            refine li_topx (z := st / 4) (ii_shr2 (by omega) (by omega)) ?_
                            refine li_iconst hx hb dX5_canGo_50 ?_
                            refine lv_iand hx hb dX5_canGo_51 ?_
                            refine li_topx (z := (st / 4) % 2) (ii_and1 (by omega) (by omega)) ?_
                            refine li_iconst hx hb dX5_canGo_52 ?_
                            have J53_2 : ∀ (y53_2_0 : Int) (_ : y53_2_0 = (st / 4) % 2) (ls : Array Slot), lv_has ls 7 [(5, .int (ii 2)), (4, .int (ii (0 + y112_0 + y112_1_0))), (6, .int (ii y53_1_0)), (0, .ref md), (1, .ref (fd 0)), (2, .ref (sd 0)), (3, .int (ii hl0))] → W p l e (rm4 1 0 0 21) s m args below meth c s.heap [] 0 0 Q (F0 m 61 ls [.int (ii y53_2_0)]) := by
                              intro y53_2_0 hj53_2 ls hl
                              refine lv_istore (lv' := [(6, .int (ii y53_2_0)), (5, .int (ii 2)), (4, .int (ii (0 + y112_0 + y112_1_0))), (0, .ref md), (1, .ref (fd 0)), (2, .ref (sd 0)), (3, .int (ii hl0))]) hx hb dX5_canGo_61 hl (by decide) rfl (fun ls hl => ?_)
                              refine lv_iload hx hb dX5_canGo_63 (lv_at hl 0 rfl) ?_
                              have J65_2 : ∀ (_ : goP F w (st / 4 % 2) fr hl0 2) (ls : Array Slot), lv_has ls 7 [(6, .int (ii y53_2_0)), (5, .int (ii 2)), (4, .int (ii (0 + y112_0 + y112_1_0))), (0, .ref md), (1, .ref (fd 0)), (2, .ref (sd 0)), (3, .int (ii hl0))] → W p l e (rm4 1 0 0 21) s m args below meth c s.heap [] 0 0 Q (F0 m 108 ls []) := by
                                intro hj65_2 ls hl
                                refine lv_iload hx hb dX5_canGo_108 (lv_at hl 2 rfl) ?_
                                refine lv_iload hx hb dX5_canGo_110 (lv_at hl 0 rfl) ?_
                                have J112_2 : ∀ (y112_2_0 : Int) (_ : y112_2_0 = tpV F w (st / 4 % 2) to 2 ∧ 0 ≤ y112_2_0 ∧ y112_2_0 ≤ 1) (ls : Array Slot), lv_has ls 7 [(6, .int (ii y53_2_0)), (5, .int (ii 2)), (4, .int (ii (0 + y112_0 + y112_1_0))), (0, .ref md), (1, .ref (fd 0)), (2, .ref (sd 0)), (3, .int (ii hl0))] → W p l e (rm4 1 0 0 21) s m args below meth c s.heap [] 0 0 Q (F0 m 143 ls [.int (ii y112_2_0), .int (ii (0 + y112_0 + y112_1_0))]) := by
                                  intro y112_2_0 hj112_2 ls hl
                                  refine li_add hx hb dX5_canGo_143 ?_
                                  refine lv_istore (lv' := [(4, .int (ii (0 + y112_0 + y112_1_0 + y112_2_0))), (6, .int (ii y53_2_0)), (5, .int (ii 2)), (0, .ref md), (1, .ref (fd 0)), (2, .ref (sd 0)), (3, .int (ii hl0))]) hx hb dX5_canGo_144 hl (by decide) rfl (fun ls hl => ?_)
                                  refine li_iinc (a := 2) (lv' := [(5, .int (ii 3)), (4, .int (ii (0 + y112_0 + y112_1_0 + y112_2_0))), (6, .int (ii y53_2_0)), (0, .ref md), (1, .ref (fd 0)), (2, .ref (sd 0)), (3, .int (ii hl0))]) hx hb dX5_canGo_146 hl (k := 2) rfl (by decide) rfl (fun ls hl => ?_)
                                  refine lv_goto (tgt := 37) hx hb dX5_canGo_149 (by decide) ?_
                                  refine lv_iload hx hb dX5_canGo_37 (lv_at hl 0 rfl) ?_
                                  refine li_iconst hx hb dX5_canGo_39 ?_
                                  refine li_icmp_ge (tgt := 152) hx hb ⟨by decide, by decide⟩ ⟨by decide, by decide⟩ dX5_canGo_40 (by decide) (fun c40 => ?_) (fun c40 => ?_)
                                  · refine lv_aload_n hx hb dX5_canGo_152 rfl (lv_at hl 3 rfl) ?_
                                    refine va_get (D := G) (fs := [.int (ii st), .int (ii rp), .int (ii fr), .int (ii to)]) (ci := 7) (v := .int (ii to)) (C := RX8) (T := TX8) (N := 4) hx hb hts in_X8 hown hK hP mi hM rfl 3 (by decide) (hts _ q900) (fun _ h9 => h9) rfl dX5_canGo_153 ?_
                                    refine lv_aload_n hx hb dX5_canGo_156 rfl (lv_at hl 4 rfl) ?_
                                    refine kR (va_runV (As := []) (rest := [.int (ii to)]) ⟨hx, hb, hml, hown, hts⟩ (m_ground l G ty ws fi fd F  hF hW) (cwV 0 hts (lw_V q416 q330 q331 q77 q332) rfl rfl rfl (by decide +kernel) ⟨Nat.le_of_ble_eq_true rfl, Nat.le_of_ble_eq_true rfl⟩) (pvR (r := (RX2, TX2, 13)) hK hP hD hX (fi 0) hF.1 rfl) rfl rfl hl.1 rfl (lv_room (Nat.le_of_ble_eq_true rfl)) dX5_canGo_157 ⟨Nat.le_of_ble_eq_true rfl, Nat.le_of_ble_eq_true rfl⟩) (fun v hv => ?_)
                                    obtain ⟨z157, rfl, h157⟩ := hv
                                    refine li_icmp_eq (tgt := 177) hx hb (rgi hm6 hm7) ⟨by omega, by omega⟩ dX5_canGo_160 (by decide) (fun c160 => ?_) (fun c160 => ?_)
                                    · refine li_iconst hx hb dX5_canGo_177 ?_
                                      refine lv_goto (tgt := 182) hx hb dX5_canGo_178 (by decide) ?_
                                      exact eRz hQ hx hb hr hlk dX5_canGo_182 (.inr rfl) (⟨_, rfl, .inl ⟨rfl, c4, h12.1, h12.2, c26, hj65, hj65_1, hj65_2, by omega⟩⟩)
                                    · refine lv_iload hx hb dX5_canGo_163 (lv_at hl 1 rfl) ?_
                                      refine lv_aload_n hx hb dX5_canGo_165 rfl (lv_at hl 4 rfl) ?_
                                      refine va_get (D := G) (fs := [.ref (fd 1), .ref (fd 2), .ref (fd 3), .ref (fd 4), .int (ii (F 8 0)), .ref (fd 5), .int (ii (F 9 0)), .ref (fd 6), .int (ii (F 10 0)), .int (ii (F 11 0)), .int (ii (F 12 0)), .int (ii (F 13 0)), .ref (fd 7)]) (ci := 1) (v := .ref (fd 1)) (C := RX2) (T := TX2) (N := 13) hx hb hts in_X2 hown hK hP (fi 0) hF.1 rfl 0 (by decide) (hts _ q772) (fun _ h9 => h9) rfl dX5_canGo_166 ?_
                                      refine lv_aload_n hx hb dX5_canGo_169 rfl (lv_at hl 3 rfl) ?_
                                      refine va_get (D := G) (fs := [.int (ii st), .int (ii rp), .int (ii fr), .int (ii to)]) (ci := 7) (v := .int (ii to)) (C := RX8) (T := TX8) (N := 4) hx hb hts in_X8 hown hK hP mi hM rfl 3 (by decide) (hts _ q900) (fun _ h9 => h9) rfl dX5_canGo_170 ?_
                                      refine li_iald (g := F 0) hx hb hK hP (fi 1) 0 hF.2.1 rfl (by omega) (by omega) (by decide) dX5_canGo_173 ?_
                                      have r174 := hw0 to
                                      refine li_icmp_gt (tgt := 181) hx hb ⟨by omega, by omega⟩ (rgi r174.1 r174.2) dX5_canGo_174 (by decide) (fun c174 => ?_) (fun c174 => ?_)
                                      · refine li_iconst hx hb dX5_canGo_181 ?_
                                        exact eRz hQ hx hb hr hlk dX5_canGo_182 (.inl rfl) (⟨_, rfl, .inr ⟨rfl, fun h => by have q8 := h.2.2.2.2.2.2.2; omega⟩⟩)
                                      · refine li_iconst hx hb dX5_canGo_177 ?_
                                        refine lv_goto (tgt := 182) hx hb dX5_canGo_178 (by decide) ?_
                                        exact eRz hQ hx hb hr hlk dX5_canGo_182 (.inr rfl) (⟨_, rfl, .inl ⟨rfl, c4, h12.1, h12.2, c26, hj65, hj65_1, hj65_2, by omega⟩⟩)
                                  · exact absurd c40 (by decide)
                                refine li_if_ne (tgt := 138) hx hb ⟨by omega, by omega⟩ dX5_canGo_112 (by decide) (fun c112 => ?_) (fun c112 => ?_)
                                · refine li_iconst hx hb dX5_canGo_138 ?_
                                  refine lv_goto (tgt := 143) hx hb dX5_canGo_139 (by decide) ?_
                                  exact J112_2 _ (⟨tpV_1 (by omega), by decide, by decide⟩) ls (lv_sub hl [0, 1, 2, 3, 4, 5, 6] rfl)
                                · refine lv_iload hx hb dX5_canGo_115 (lv_at hl 1 rfl) ?_
                                  refine lv_aload_n hx hb dX5_canGo_117 rfl (lv_at hl 4 rfl) ?_
                                  refine va_get (D := G) (fs := [.ref (fd 1), .ref (fd 2), .ref (fd 3), .ref (fd 4), .int (ii (F 8 0)), .ref (fd 5), .int (ii (F 9 0)), .ref (fd 6), .int (ii (F 10 0)), .int (ii (F 11 0)), .int (ii (F 12 0)), .int (ii (F 13 0)), .ref (fd 7)]) (ci := 1) (v := .int (ii (F 9 0))) (C := RX2) (T := TX2) (N := 13) hx hb hts in_X2 hown hK hP (fi 0) hF.1 rfl 6 (by decide) (hts _ q793) (fun _ h9 => h9) rfl dX5_canGo_118 ?_
                                  refine li_icmp_ge (tgt := 142) hx hb ⟨by decide, by decide⟩ (rgi h9a h9b) dX5_canGo_121 (by decide) (fun c121 => ?_) (fun c121 => ?_)
                                  · refine li_iconst hx hb dX5_canGo_142 ?_
                                    exact J112_2 _ (⟨tpV_0 (by omega), by decide, by decide⟩) ls (lv_sub hl [0, 1, 2, 3, 4, 5, 6] rfl)
                                  · refine lv_aload_n hx hb dX5_canGo_124 rfl (lv_at hl 5 rfl) ?_
                                    refine va_get (D := G) (fs := [.ref (sd 1), .ref (sd 2)]) (ci := 2) (v := .ref (sd 1)) (C := RX3) (T := TX3) (N := 2) hx hb hts in_X3 hown hK hP (si 0) hSp.1 rfl 0 (by decide) (hts _ q655) (fun _ h9 => h9) rfl dX5_canGo_125 ?_
                                    refine lv_iload hx hb dX5_canGo_128 (lv_at hl 1 rfl) ?_
                                    refine li_iald (g := w) hx hb hK hP (si 1) 0 hSp.2.1 rfl (by decide) (by decide) (by decide) dX5_canGo_130 ?_
                                    have r131 := hs0 2
                                    refine lv_aload_n hx hb dX5_canGo_131 rfl (lv_at hl 3 rfl) ?_
                                    refine va_get (D := G) (fs := [.int (ii st), .int (ii rp), .int (ii fr), .int (ii to)]) (ci := 7) (v := .int (ii to)) (C := RX8) (T := TX8) (N := 4) hx hb hts in_X8 hown hK hP mi hM rfl 3 (by decide) (hts _ q900) (fun _ h9 => h9) rfl dX5_canGo_132 ?_
                                    refine li_icmp_ne (tgt := 142) hx hb (rgi r131.1 r131.2) (rgi hm6 hm7) dX5_canGo_135 (by decide) (fun c135 => ?_) (fun c135 => ?_)
                                    · refine li_iconst hx hb dX5_canGo_142 ?_
                                      exact J112_2 _ (⟨tpV_0 (by omega), by decide, by decide⟩) ls (lv_sub hl [0, 1, 2, 3, 4, 5, 6] rfl)
                                    · refine li_iconst hx hb dX5_canGo_138 ?_
                                      refine lv_goto (tgt := 143) hx hb dX5_canGo_139 (by decide) ?_
                                      exact J112_2 _ (⟨tpV_1 (by omega), by decide, by decide⟩) ls (lv_sub hl [0, 1, 2, 3, 4, 5, 6] rfl)
                              refine li_if_eq (tgt := 108) hx hb ⟨by omega, by omega⟩ dX5_canGo_65 (by decide) (fun c65 => ?_) (fun c65 => ?_)
                              · exact J65_2 (fun q => absurd q (by omega)) ls (lv_sub hl [0, 1, 2, 3, 4, 5, 6] rfl)
                              · refine lv_iload hx hb dX5_canGo_68 (lv_at hl 1 rfl) ?_
                                refine lv_aload_n hx hb dX5_canGo_70 rfl (lv_at hl 4 rfl) ?_
                                refine va_get (D := G) (fs := [.ref (fd 1), .ref (fd 2), .ref (fd 3), .ref (fd 4), .int (ii (F 8 0)), .ref (fd 5), .int (ii (F 9 0)), .ref (fd 6), .int (ii (F 10 0)), .int (ii (F 11 0)), .int (ii (F 12 0)), .int (ii (F 13 0)), .ref (fd 7)]) (ci := 1) (v := .int (ii (F 9 0))) (C := RX2) (T := TX2) (N := 13) hx hb hts in_X2 hown hK hP (fi 0) hF.1 rfl 6 (by decide) (hts _ q793) (fun _ h9 => h9) rfl dX5_canGo_71 ?_
                                refine li_icmp_ge (tgt := 106) hx hb ⟨by decide, by decide⟩ (rgi h9a h9b) dX5_canGo_74 (by decide) (fun c74 => ?_) (fun c74 => ?_)
                                · refine li_iconst hx hb dX5_canGo_106 ?_
                                  exact eRz hQ hx hb hr hlk dX5_canGo_107 (.inl rfl) (⟨_, rfl, .inr ⟨rfl, fun h => by obtain ⟨a, b, c⟩ := h.2.2.2.2.2.2.1 (by omega); omega⟩⟩)
                                · refine lv_aload_n hx hb dX5_canGo_77 rfl (lv_at hl 5 rfl) ?_
                                  refine va_get (D := G) (fs := [.ref (sd 1), .ref (sd 2)]) (ci := 2) (v := .ref (sd 1)) (C := RX3) (T := TX3) (N := 2) hx hb hts in_X3 hown hK hP (si 0) hSp.1 rfl 0 (by decide) (hts _ q655) (fun _ h9 => h9) rfl dX5_canGo_78 ?_
                                  refine lv_iload hx hb dX5_canGo_81 (lv_at hl 1 rfl) ?_
                                  refine li_iald (g := w) hx hb hK hP (si 1) 0 hSp.2.1 rfl (by decide) (by decide) (by decide) dX5_canGo_83 ?_
                                  have r84 := hs0 2
                                  refine lv_aload_n hx hb dX5_canGo_84 rfl (lv_at hl 3 rfl) ?_
                                  refine va_get (D := G) (fs := [.int (ii st), .int (ii rp), .int (ii fr), .int (ii to)]) (ci := 7) (v := .int (ii fr)) (C := RX8) (T := TX8) (N := 4) hx hb hts in_X8 hown hK hP mi hM rfl 2 (by decide) (hts _ q889) (fun _ h9 => h9) rfl dX5_canGo_85 ?_
                                  refine li_icmp_ne (tgt := 106) hx hb (rgi r84.1 r84.2) (rgi hm4 hm5) dX5_canGo_88 (by decide) (fun c88 => ?_) (fun c88 => ?_)
                                  · refine li_iconst hx hb dX5_canGo_106 ?_
                                    exact eRz hQ hx hb hr hlk dX5_canGo_107 (.inl rfl) (⟨_, rfl, .inr ⟨rfl, fun h => by obtain ⟨a, b, c⟩ := h.2.2.2.2.2.2.1 (by omega); omega⟩⟩)
                                  · refine lv_iload_n hx hb dX5_canGo_91 rfl (lv_at hl 6 rfl) ?_
                                    refine li_if_eq (tgt := 108) hx hb ⟨by omega, by omega⟩ dX5_canGo_92 (by decide) (fun c92 => ?_) (fun c92 => ?_)
                                    · exact J65_2 (fun q => ⟨by omega, by omega, by omega⟩) ls (lv_sub hl [0, 1, 2, 3, 4, 5, 6] rfl)
                                    · refine lv_aload_n hx hb dX5_canGo_95 rfl (lv_at hl 4 rfl) ?_
                                      refine va_get (D := G) (fs := [.ref (fd 1), .ref (fd 2), .ref (fd 3), .ref (fd 4), .int (ii (F 8 0)), .ref (fd 5), .int (ii (F 9 0)), .ref (fd 6), .int (ii (F 10 0)), .int (ii (F 11 0)), .int (ii (F 12 0)), .int (ii (F 13 0)), .ref (fd 7)]) (ci := 1) (v := .ref (fd 5)) (C := RX2) (T := TX2) (N := 13) hx hb hts in_X2 hown hK hP (fi 0) hF.1 rfl 5 (by decide) (hts _ q788) (fun _ h9 => h9) rfl dX5_canGo_96 ?_
                                      refine lv_iload hx hb dX5_canGo_99 (lv_at hl 1 rfl) ?_
                                      refine li_iald (g := F 4) hx hb hK hP (fi 5) 0 hF.2.2.2.2.2.1 rfl (by decide) (by decide) (by decide) dX5_canGo_101 ?_
                                      have r102 := hw4 2
                                      refine li_iconst hx hb dX5_canGo_102 ?_
                                      refine li_icmp_ne (tgt := 108) hx hb (rgi r102.1 r102.2) ⟨by decide, by decide⟩ dX5_canGo_103 (by decide) (fun c103 => ?_) (fun c103 => ?_)
                                      · exact J65_2 (fun q => ⟨by omega, by omega, by omega⟩) ls (lv_sub hl [0, 1, 2, 3, 4, 5, 6] rfl)
                                      · refine li_iconst hx hb dX5_canGo_106 ?_
                                        exact eRz hQ hx hb hr hlk dX5_canGo_107 (.inl rfl) (⟨_, rfl, .inr ⟨rfl, fun h => by obtain ⟨a, b, c⟩ := h.2.2.2.2.2.2.1 (by omega); omega⟩⟩)
                            refine li_icmp_ne (tgt := 60) hx hb ⟨by omega, by omega⟩ ⟨by decide, by decide⟩ dX5_canGo_53 (by decide) (fun c53 => ?_) (fun c53 => ?_)
                            · refine li_iconst hx hb dX5_canGo_60 ?_
                              exact J53_2 _ (by omega) ls (lv_sub hl [0, 1, 2, 3, 4, 5, 6] rfl)
                            · refine li_iconst hx hb dX5_canGo_56 ?_
                              refine lv_goto (tgt := 61) hx hb dX5_canGo_57 (by decide) ?_
                              exact J53_2 _ (by omega) ls (lv_sub hl [0, 1, 2, 3, 4, 5, 6] rfl)
                        refine li_if_ne (tgt := 138) hx hb ⟨by omega, by omega⟩ dX5_canGo_112 (by decide) (fun c112 => ?_) (fun c112 => ?_)
                        · refine li_iconst hx hb dX5_canGo_138 ?_
                          refine lv_goto (tgt := 143) hx hb dX5_canGo_139 (by decide) ?_
                          exact J112_1 _ (⟨tpV_1 (by omega), by decide, by decide⟩) ls (lv_sub hl [0, 1, 2, 3, 4, 5, 6] rfl)
                        · refine lv_iload hx hb dX5_canGo_115 (lv_at hl 1 rfl) ?_
                          refine lv_aload_n hx hb dX5_canGo_117 rfl (lv_at hl 4 rfl) ?_
                          refine va_get (D := G) (fs := [.ref (fd 1), .ref (fd 2), .ref (fd 3), .ref (fd 4), .int (ii (F 8 0)), .ref (fd 5), .int (ii (F 9 0)), .ref (fd 6), .int (ii (F 10 0)), .int (ii (F 11 0)), .int (ii (F 12 0)), .int (ii (F 13 0)), .ref (fd 7)]) (ci := 1) (v := .int (ii (F 9 0))) (C := RX2) (T := TX2) (N := 13) hx hb hts in_X2 hown hK hP (fi 0) hF.1 rfl 6 (by decide) (hts _ q793) (fun _ h9 => h9) rfl dX5_canGo_118 ?_
                          refine li_icmp_ge (tgt := 142) hx hb ⟨by decide, by decide⟩ (rgi h9a h9b) dX5_canGo_121 (by decide) (fun c121 => ?_) (fun c121 => ?_)
                          · refine li_iconst hx hb dX5_canGo_142 ?_
                            exact J112_1 _ (⟨tpV_0 (by omega), by decide, by decide⟩) ls (lv_sub hl [0, 1, 2, 3, 4, 5, 6] rfl)
                          · refine lv_aload_n hx hb dX5_canGo_124 rfl (lv_at hl 5 rfl) ?_
                            refine va_get (D := G) (fs := [.ref (sd 1), .ref (sd 2)]) (ci := 2) (v := .ref (sd 1)) (C := RX3) (T := TX3) (N := 2) hx hb hts in_X3 hown hK hP (si 0) hSp.1 rfl 0 (by decide) (hts _ q655) (fun _ h9 => h9) rfl dX5_canGo_125 ?_
                            refine lv_iload hx hb dX5_canGo_128 (lv_at hl 1 rfl) ?_
                            refine li_iald (g := w) hx hb hK hP (si 1) 0 hSp.2.1 rfl (by decide) (by decide) (by decide) dX5_canGo_130 ?_
                            have r131 := hs0 1
                            refine lv_aload_n hx hb dX5_canGo_131 rfl (lv_at hl 3 rfl) ?_
                            refine va_get (D := G) (fs := [.int (ii st), .int (ii rp), .int (ii fr), .int (ii to)]) (ci := 7) (v := .int (ii to)) (C := RX8) (T := TX8) (N := 4) hx hb hts in_X8 hown hK hP mi hM rfl 3 (by decide) (hts _ q900) (fun _ h9 => h9) rfl dX5_canGo_132 ?_
                            refine li_icmp_ne (tgt := 142) hx hb (rgi r131.1 r131.2) (rgi hm6 hm7) dX5_canGo_135 (by decide) (fun c135 => ?_) (fun c135 => ?_)
                            · refine li_iconst hx hb dX5_canGo_142 ?_
                              exact J112_1 _ (⟨tpV_0 (by omega), by decide, by decide⟩) ls (lv_sub hl [0, 1, 2, 3, 4, 5, 6] rfl)
                            · refine li_iconst hx hb dX5_canGo_138 ?_
                              refine lv_goto (tgt := 143) hx hb dX5_canGo_139 (by decide) ?_
                              exact J112_1 _ (⟨tpV_1 (by omega), by decide, by decide⟩) ls (lv_sub hl [0, 1, 2, 3, 4, 5, 6] rfl)
                      refine li_if_eq (tgt := 108) hx hb ⟨by omega, by omega⟩ dX5_canGo_65 (by decide) (fun c65 => ?_) (fun c65 => ?_)
                      · exact J65_1 (fun q => absurd q (by omega)) ls (lv_sub hl [0, 1, 2, 3, 4, 5, 6] rfl)
                      · refine lv_iload hx hb dX5_canGo_68 (lv_at hl 1 rfl) ?_
                        refine lv_aload_n hx hb dX5_canGo_70 rfl (lv_at hl 4 rfl) ?_
                        refine va_get (D := G) (fs := [.ref (fd 1), .ref (fd 2), .ref (fd 3), .ref (fd 4), .int (ii (F 8 0)), .ref (fd 5), .int (ii (F 9 0)), .ref (fd 6), .int (ii (F 10 0)), .int (ii (F 11 0)), .int (ii (F 12 0)), .int (ii (F 13 0)), .ref (fd 7)]) (ci := 1) (v := .int (ii (F 9 0))) (C := RX2) (T := TX2) (N := 13) hx hb hts in_X2 hown hK hP (fi 0) hF.1 rfl 6 (by decide) (hts _ q793) (fun _ h9 => h9) rfl dX5_canGo_71 ?_
                        refine li_icmp_ge (tgt := 106) hx hb ⟨by decide, by decide⟩ (rgi h9a h9b) dX5_canGo_74 (by decide) (fun c74 => ?_) (fun c74 => ?_)
                        · refine li_iconst hx hb dX5_canGo_106 ?_
                          exact eRz hQ hx hb hr hlk dX5_canGo_107 (.inl rfl) (⟨_, rfl, .inr ⟨rfl, fun h => by obtain ⟨a, b, c⟩ := h.2.2.2.2.2.1 (by omega); omega⟩⟩)
                        · refine lv_aload_n hx hb dX5_canGo_77 rfl (lv_at hl 5 rfl) ?_
                          refine va_get (D := G) (fs := [.ref (sd 1), .ref (sd 2)]) (ci := 2) (v := .ref (sd 1)) (C := RX3) (T := TX3) (N := 2) hx hb hts in_X3 hown hK hP (si 0) hSp.1 rfl 0 (by decide) (hts _ q655) (fun _ h9 => h9) rfl dX5_canGo_78 ?_
                          refine lv_iload hx hb dX5_canGo_81 (lv_at hl 1 rfl) ?_
                          refine li_iald (g := w) hx hb hK hP (si 1) 0 hSp.2.1 rfl (by decide) (by decide) (by decide) dX5_canGo_83 ?_
                          have r84 := hs0 1
                          refine lv_aload_n hx hb dX5_canGo_84 rfl (lv_at hl 3 rfl) ?_
                          refine va_get (D := G) (fs := [.int (ii st), .int (ii rp), .int (ii fr), .int (ii to)]) (ci := 7) (v := .int (ii fr)) (C := RX8) (T := TX8) (N := 4) hx hb hts in_X8 hown hK hP mi hM rfl 2 (by decide) (hts _ q889) (fun _ h9 => h9) rfl dX5_canGo_85 ?_
                          refine li_icmp_ne (tgt := 106) hx hb (rgi r84.1 r84.2) (rgi hm4 hm5) dX5_canGo_88 (by decide) (fun c88 => ?_) (fun c88 => ?_)
                          · refine li_iconst hx hb dX5_canGo_106 ?_
                            exact eRz hQ hx hb hr hlk dX5_canGo_107 (.inl rfl) (⟨_, rfl, .inr ⟨rfl, fun h => by obtain ⟨a, b, c⟩ := h.2.2.2.2.2.1 (by omega); omega⟩⟩)
                          · refine lv_iload_n hx hb dX5_canGo_91 rfl (lv_at hl 6 rfl) ?_
                            refine li_if_eq (tgt := 108) hx hb ⟨by omega, by omega⟩ dX5_canGo_92 (by decide) (fun c92 => ?_) (fun c92 => ?_)
                            · exact J65_1 (fun q => ⟨by omega, by omega, by omega⟩) ls (lv_sub hl [0, 1, 2, 3, 4, 5, 6] rfl)
                            · refine lv_aload_n hx hb dX5_canGo_95 rfl (lv_at hl 4 rfl) ?_
                              refine va_get (D := G) (fs := [.ref (fd 1), .ref (fd 2), .ref (fd 3), .ref (fd 4), .int (ii (F 8 0)), .ref (fd 5), .int (ii (F 9 0)), .ref (fd 6), .int (ii (F 10 0)), .int (ii (F 11 0)), .int (ii (F 12 0)), .int (ii (F 13 0)), .ref (fd 7)]) (ci := 1) (v := .ref (fd 5)) (C := RX2) (T := TX2) (N := 13) hx hb hts in_X2 hown hK hP (fi 0) hF.1 rfl 5 (by decide) (hts _ q788) (fun _ h9 => h9) rfl dX5_canGo_96 ?_
                              refine lv_iload hx hb dX5_canGo_99 (lv_at hl 1 rfl) ?_
                              refine li_iald (g := F 4) hx hb hK hP (fi 5) 0 hF.2.2.2.2.2.1 rfl (by decide) (by decide) (by decide) dX5_canGo_101 ?_
                              have r102 := hw4 1
                              refine li_iconst hx hb dX5_canGo_102 ?_
                              refine li_icmp_ne (tgt := 108) hx hb (rgi r102.1 r102.2) ⟨by decide, by decide⟩ dX5_canGo_103 (by decide) (fun c103 => ?_) (fun c103 => ?_)
                              · exact J65_1 (fun q => ⟨by omega, by omega, by omega⟩) ls (lv_sub hl [0, 1, 2, 3, 4, 5, 6] rfl)
                              · refine li_iconst hx hb dX5_canGo_106 ?_
                                exact eRz hQ hx hb hr hlk dX5_canGo_107 (.inl rfl) (⟨_, rfl, .inr ⟨rfl, fun h => by obtain ⟨a, b, c⟩ := h.2.2.2.2.2.1 (by omega); omega⟩⟩)
                    refine li_icmp_ne (tgt := 60) hx hb ⟨by omega, by omega⟩ ⟨by decide, by decide⟩ dX5_canGo_53 (by decide) (fun c53 => ?_) (fun c53 => ?_)
                    · refine li_iconst hx hb dX5_canGo_60 ?_
                      exact J53_1 _ (by omega) ls (lv_sub hl [0, 1, 2, 3, 4, 5, 6] rfl)
                    · refine li_iconst hx hb dX5_canGo_56 ?_
                      refine lv_goto (tgt := 61) hx hb dX5_canGo_57 (by decide) ?_
                      exact J53_1 _ (by omega) ls (lv_sub hl [0, 1, 2, 3, 4, 5, 6] rfl)
                refine li_if_ne (tgt := 138) hx hb ⟨by omega, by omega⟩ dX5_canGo_112 (by decide) (fun c112 => ?_) (fun c112 => ?_)
                · refine li_iconst hx hb dX5_canGo_138 ?_
                  refine lv_goto (tgt := 143) hx hb dX5_canGo_139 (by decide) ?_
                  exact J112 _ (⟨tpV_1 (by omega), by decide, by decide⟩) ls (lv_sub hl [0, 1, 2, 3, 4, 5, 6] rfl)
                · refine lv_iload hx hb dX5_canGo_115 (lv_at hl 1 rfl) ?_
                  refine lv_aload_n hx hb dX5_canGo_117 rfl (lv_at hl 4 rfl) ?_
                  refine va_get (D := G) (fs := [.ref (fd 1), .ref (fd 2), .ref (fd 3), .ref (fd 4), .int (ii (F 8 0)), .ref (fd 5), .int (ii (F 9 0)), .ref (fd 6), .int (ii (F 10 0)), .int (ii (F 11 0)), .int (ii (F 12 0)), .int (ii (F 13 0)), .ref (fd 7)]) (ci := 1) (v := .int (ii (F 9 0))) (C := RX2) (T := TX2) (N := 13) hx hb hts in_X2 hown hK hP (fi 0) hF.1 rfl 6 (by decide) (hts _ q793) (fun _ h9 => h9) rfl dX5_canGo_118 ?_
                  refine li_icmp_ge (tgt := 142) hx hb ⟨by decide, by decide⟩ (rgi h9a h9b) dX5_canGo_121 (by decide) (fun c121 => ?_) (fun c121 => ?_)
                  · refine li_iconst hx hb dX5_canGo_142 ?_
                    exact J112 _ (⟨tpV_0 (by omega), by decide, by decide⟩) ls (lv_sub hl [0, 1, 2, 3, 4, 5, 6] rfl)
                  · refine lv_aload_n hx hb dX5_canGo_124 rfl (lv_at hl 5 rfl) ?_
                    refine va_get (D := G) (fs := [.ref (sd 1), .ref (sd 2)]) (ci := 2) (v := .ref (sd 1)) (C := RX3) (T := TX3) (N := 2) hx hb hts in_X3 hown hK hP (si 0) hSp.1 rfl 0 (by decide) (hts _ q655) (fun _ h9 => h9) rfl dX5_canGo_125 ?_
                    refine lv_iload hx hb dX5_canGo_128 (lv_at hl 1 rfl) ?_
                    refine li_iald (g := w) hx hb hK hP (si 1) 0 hSp.2.1 rfl (by decide) (by decide) (by decide) dX5_canGo_130 ?_
                    have r131 := hs0 0
                    refine lv_aload_n hx hb dX5_canGo_131 rfl (lv_at hl 3 rfl) ?_
                    refine va_get (D := G) (fs := [.int (ii st), .int (ii rp), .int (ii fr), .int (ii to)]) (ci := 7) (v := .int (ii to)) (C := RX8) (T := TX8) (N := 4) hx hb hts in_X8 hown hK hP mi hM rfl 3 (by decide) (hts _ q900) (fun _ h9 => h9) rfl dX5_canGo_132 ?_
                    refine li_icmp_ne (tgt := 142) hx hb (rgi r131.1 r131.2) (rgi hm6 hm7) dX5_canGo_135 (by decide) (fun c135 => ?_) (fun c135 => ?_)
                    · refine li_iconst hx hb dX5_canGo_142 ?_
                      exact J112 _ (⟨tpV_0 (by omega), by decide, by decide⟩) ls (lv_sub hl [0, 1, 2, 3, 4, 5, 6] rfl)
                    · refine li_iconst hx hb dX5_canGo_138 ?_
                      refine lv_goto (tgt := 143) hx hb dX5_canGo_139 (by decide) ?_
                      exact J112 _ (⟨tpV_1 (by omega), by decide, by decide⟩) ls (lv_sub hl [0, 1, 2, 3, 4, 5, 6] rfl)
              refine li_if_eq (tgt := 108) hx hb ⟨by omega, by omega⟩ dX5_canGo_65 (by decide) (fun c65 => ?_) (fun c65 => ?_)
              · exact J65 (fun q => absurd q (by omega)) ls (lv_sub hl [0, 1, 2, 3, 4, 5, 6] rfl)
              · refine lv_iload hx hb dX5_canGo_68 (lv_at hl 1 rfl) ?_
                refine lv_aload_n hx hb dX5_canGo_70 rfl (lv_at hl 4 rfl) ?_
                refine va_get (D := G) (fs := [.ref (fd 1), .ref (fd 2), .ref (fd 3), .ref (fd 4), .int (ii (F 8 0)), .ref (fd 5), .int (ii (F 9 0)), .ref (fd 6), .int (ii (F 10 0)), .int (ii (F 11 0)), .int (ii (F 12 0)), .int (ii (F 13 0)), .ref (fd 7)]) (ci := 1) (v := .int (ii (F 9 0))) (C := RX2) (T := TX2) (N := 13) hx hb hts in_X2 hown hK hP (fi 0) hF.1 rfl 6 (by decide) (hts _ q793) (fun _ h9 => h9) rfl dX5_canGo_71 ?_
                refine li_icmp_ge (tgt := 106) hx hb ⟨by decide, by decide⟩ (rgi h9a h9b) dX5_canGo_74 (by decide) (fun c74 => ?_) (fun c74 => ?_)
                · refine li_iconst hx hb dX5_canGo_106 ?_
                  exact eRz hQ hx hb hr hlk dX5_canGo_107 (.inl rfl) (⟨_, rfl, .inr ⟨rfl, fun h => by obtain ⟨a, b, c⟩ := h.2.2.2.2.1 (by omega); omega⟩⟩)
                · refine lv_aload_n hx hb dX5_canGo_77 rfl (lv_at hl 5 rfl) ?_
                  refine va_get (D := G) (fs := [.ref (sd 1), .ref (sd 2)]) (ci := 2) (v := .ref (sd 1)) (C := RX3) (T := TX3) (N := 2) hx hb hts in_X3 hown hK hP (si 0) hSp.1 rfl 0 (by decide) (hts _ q655) (fun _ h9 => h9) rfl dX5_canGo_78 ?_
                  refine lv_iload hx hb dX5_canGo_81 (lv_at hl 1 rfl) ?_
                  refine li_iald (g := w) hx hb hK hP (si 1) 0 hSp.2.1 rfl (by decide) (by decide) (by decide) dX5_canGo_83 ?_
                  have r84 := hs0 0
                  refine lv_aload_n hx hb dX5_canGo_84 rfl (lv_at hl 3 rfl) ?_
                  refine va_get (D := G) (fs := [.int (ii st), .int (ii rp), .int (ii fr), .int (ii to)]) (ci := 7) (v := .int (ii fr)) (C := RX8) (T := TX8) (N := 4) hx hb hts in_X8 hown hK hP mi hM rfl 2 (by decide) (hts _ q889) (fun _ h9 => h9) rfl dX5_canGo_85 ?_
                  refine li_icmp_ne (tgt := 106) hx hb (rgi r84.1 r84.2) (rgi hm4 hm5) dX5_canGo_88 (by decide) (fun c88 => ?_) (fun c88 => ?_)
                  · refine li_iconst hx hb dX5_canGo_106 ?_
                    exact eRz hQ hx hb hr hlk dX5_canGo_107 (.inl rfl) (⟨_, rfl, .inr ⟨rfl, fun h => by obtain ⟨a, b, c⟩ := h.2.2.2.2.1 (by omega); omega⟩⟩)
                  · refine lv_iload_n hx hb dX5_canGo_91 rfl (lv_at hl 6 rfl) ?_
                    refine li_if_eq (tgt := 108) hx hb ⟨by omega, by omega⟩ dX5_canGo_92 (by decide) (fun c92 => ?_) (fun c92 => ?_)
                    · exact J65 (fun q => ⟨by omega, by omega, by omega⟩) ls (lv_sub hl [0, 1, 2, 3, 4, 5, 6] rfl)
                    · refine lv_aload_n hx hb dX5_canGo_95 rfl (lv_at hl 4 rfl) ?_
                      refine va_get (D := G) (fs := [.ref (fd 1), .ref (fd 2), .ref (fd 3), .ref (fd 4), .int (ii (F 8 0)), .ref (fd 5), .int (ii (F 9 0)), .ref (fd 6), .int (ii (F 10 0)), .int (ii (F 11 0)), .int (ii (F 12 0)), .int (ii (F 13 0)), .ref (fd 7)]) (ci := 1) (v := .ref (fd 5)) (C := RX2) (T := TX2) (N := 13) hx hb hts in_X2 hown hK hP (fi 0) hF.1 rfl 5 (by decide) (hts _ q788) (fun _ h9 => h9) rfl dX5_canGo_96 ?_
                      refine lv_iload hx hb dX5_canGo_99 (lv_at hl 1 rfl) ?_
                      refine li_iald (g := F 4) hx hb hK hP (fi 5) 0 hF.2.2.2.2.2.1 rfl (by decide) (by decide) (by decide) dX5_canGo_101 ?_
                      have r102 := hw4 0
                      refine li_iconst hx hb dX5_canGo_102 ?_
                      refine li_icmp_ne (tgt := 108) hx hb (rgi r102.1 r102.2) ⟨by decide, by decide⟩ dX5_canGo_103 (by decide) (fun c103 => ?_) (fun c103 => ?_)
                      · exact J65 (fun q => ⟨by omega, by omega, by omega⟩) ls (lv_sub hl [0, 1, 2, 3, 4, 5, 6] rfl)
                      · refine li_iconst hx hb dX5_canGo_106 ?_
                        exact eRz hQ hx hb hr hlk dX5_canGo_107 (.inl rfl) (⟨_, rfl, .inr ⟨rfl, fun h => by obtain ⟨a, b, c⟩ := h.2.2.2.2.1 (by omega); omega⟩⟩)
            refine li_icmp_ne (tgt := 60) hx hb ⟨by omega, by omega⟩ ⟨by decide, by decide⟩ dX5_canGo_53 (by decide) (fun c53 => ?_) (fun c53 => ?_)
            · refine li_iconst hx hb dX5_canGo_60 ?_
              exact J53 _ (by omega) ls (lv_sub hl [0, 1, 2, 3, 4, 5] rfl)
            · refine li_iconst hx hb dX5_canGo_56 ?_
              refine lv_goto (tgt := 61) hx hb dX5_canGo_57 (by decide) ?_
              exact J53 _ (by omega) ls (lv_sub hl [0, 1, 2, 3, 4, 5] rfl)
        · refine li_iconst hx hb dX5_canGo_29 ?_
          exact eRz hQ hx hb hr hlk dX5_canGo_30 (.inl rfl) (⟨_, rfl, .inr ⟨rfl, fun h => by obtain ⟨q1, q2, q3, q4, q5, q6, q7, q8⟩ := h; omega⟩⟩)
    · refine li_if_eq (tgt := 29) hx hb ⟨by decide, by decide⟩ dX5_canGo_15 (by decide) (fun c15 => ?_) (fun c15 => ?_)
      · refine li_iconst hx hb dX5_canGo_29 ?_
        exact eRz hQ hx hb hr hlk dX5_canGo_30 (.inl rfl) (⟨_, rfl, .inr ⟨rfl, fun h => by obtain ⟨q1, q2, q3, q4, q5, q6, q7, q8⟩ := h; omega⟩⟩)
      · exact absurd c15 (by decide)
set_option maxHeartbeats 4000000 in
theorem m_canGo_9 (l : Launch) (G : va_G) (ty : Nat → ClassId) (ws : va_W) (fi fd : Nat → Nat) (F : mem) (si sd : Nat → Nat) (w q : Int → Int) (mi md : Nat) (st rp fr to : Int) (hl0 : Int) (hF : faceAt ty ws fi fd F) (hW : wfF F) (hSp : spotAt ty ws si sd w q) (hWS : wfS w q) (hM : moveAt ws 8 mi md st rp fr to) (hm : 0 ≤ st ∧ st ≤ 7 ∧ 0 ≤ rp ∧ rp ≤ 1 ∧ 0 ≤ fr ∧ fr ≤ 4 ∧ 0 ≤ to ∧ to ≤ 4) (hh : hl0 = 0 ∨ hl0 = 1) : cR l yX5_canGo (ws_ yX5_canGo cX5_canGo 7 (some .boolean)) (rm4 1 0 0 21) G ty (ws) [.ref md, .ref (fd 0), .ref (sd 0), .int (ii hl0)] (fun r => ∃ z : Int, r = some (.int (ii z)) ∧ ((z = 1 ∧ okGo F w st fr to hl0) ∨ (z = 0 ∧ ¬ okGo F w st fr to hl0))) := by
  refine cR.of (by decide) (Nat.le_of_ble_eq_true rfl) ?_
  intro p e s m args below meth c Q hQ hx hb hr hml hown hlk hts hK hP hD hX ls hl
  have hl : lv_has ls 7 [(0, .ref md), (1, .ref (fd 0)), (2, .ref (sd 0)), (3, .int (ii hl0))] := hl
  obtain ⟨hw0, hw1, hw2, hw3, hw4, hw5, h8a, h8b, h9a, h9b, h10a, h10b⟩ := id hW
  obtain ⟨hs0, hs1⟩ := id hWS
  obtain ⟨hm0, hm1, hm2, hm3, hm4, hm5, hm6, hm7⟩ := id hm
  refine lv_aload_n hx hb dX5_canGo_0 rfl (lv_at hl 0 rfl) ?_
  refine va_get (D := G) (fs := [.int (ii st), .int (ii rp), .int (ii fr), .int (ii to)]) (ci := 8) (v := .int (ii st)) (C := RX9) (T := TX9) (N := 4) hx hb hts in_X9 hown hK hP mi hM rfl 0 (by decide) (hts _ q861) (fun _ h9 => h9) rfl dX5_canGo_1 ?_
  refine li_if_eq (tgt := 29) hx hb (rgi hm0 hm1) dX5_canGo_4 (by decide) (fun c4 => ?_) (fun c4 => ?_)
  · refine li_iconst hx hb dX5_canGo_29 ?_
    exact eRz hQ hx hb hr hlk dX5_canGo_30 (.inl rfl) (⟨_, rfl, .inr ⟨rfl, fun h => by obtain ⟨q1, q2, q3, q4, q5, q6, q7, q8⟩ := h; omega⟩⟩)
  · refine lv_aload_n hx hb dX5_canGo_7 rfl (lv_at hl 1 rfl) ?_
    refine lv_aload_n hx hb dX5_canGo_8 rfl (lv_at hl 0 rfl) ?_
    refine va_get (D := G) (fs := [.int (ii st), .int (ii rp), .int (ii fr), .int (ii to)]) (ci := 8) (v := .int (ii to)) (C := RX9) (T := TX9) (N := 4) hx hb hts in_X9 hown hK hP mi hM rfl 3 (by decide) (hts _ q900) (fun _ h9 => h9) rfl dX5_canGo_9 ?_
    refine kR (va_runV (As := [.int (ii to)]) (rest := []) ⟨hx, hb, hml, hown, hts⟩ (m_isLedge l G ty ws fi fd F to hF hW (rgi hm6 hm7)) (cwV 1 hts (lw_V q415 q309 q310 q77 q311) rfl rfl rfl (by decide +kernel) ⟨Nat.le_of_ble_eq_true rfl, Nat.le_of_ble_eq_true rfl⟩) (pvR (r := (RX2, TX2, 13)) hK hP hD hX (fi 0) hF.1 rfl) rfl rfl hl.1 rfl (lv_room (Nat.le_of_ble_eq_true rfl)) dX5_canGo_12 ⟨Nat.le_of_ble_eq_true rfl, Nat.le_of_ble_eq_true rfl⟩) (fun v hv => ?_)
    obtain ⟨z12, rfl, ⟨rfl, h12⟩ | ⟨rfl, h12⟩⟩ := hv
    · refine li_if_eq (tgt := 29) hx hb ⟨by decide, by decide⟩ dX5_canGo_15 (by decide) (fun c15 => ?_) (fun c15 => ?_)
      · exact absurd c15 (by decide)
      · refine lv_aload_n hx hb dX5_canGo_18 rfl (lv_at hl 0 rfl) ?_
        refine va_get (D := G) (fs := [.int (ii st), .int (ii rp), .int (ii fr), .int (ii to)]) (ci := 8) (v := .int (ii to)) (C := RX9) (T := TX9) (N := 4) hx hb hts in_X9 hown hK hP mi hM rfl 3 (by decide) (hts _ q900) (fun _ h9 => h9) rfl dX5_canGo_19 ?_
        refine lv_aload_n hx hb dX5_canGo_22 rfl (lv_at hl 0 rfl) ?_
        refine va_get (D := G) (fs := [.int (ii st), .int (ii rp), .int (ii fr), .int (ii to)]) (ci := 8) (v := .int (ii fr)) (C := RX9) (T := TX9) (N := 4) hx hb hts in_X9 hown hK hP mi hM rfl 2 (by decide) (hts _ q889) (fun _ h9 => h9) rfl dX5_canGo_23 ?_
        refine li_icmp_ne (tgt := 31) hx hb (rgi hm6 hm7) (rgi hm4 hm5) dX5_canGo_26 (by decide) (fun c26 => ?_) (fun c26 => ?_)
        · refine li_iconst hx hb dX5_canGo_31 ?_
          refine lv_istore (lv' := [(4, .int (ii 0)), (0, .ref md), (1, .ref (fd 0)), (2, .ref (sd 0)), (3, .int (ii hl0))]) hx hb dX5_canGo_32 hl (by decide) rfl (fun ls hl => ?_)
          refine li_iconst hx hb dX5_canGo_34 ?_
          refine lv_istore (lv' := [(5, .int (ii 0)), (4, .int (ii 0)), (0, .ref md), (1, .ref (fd 0)), (2, .ref (sd 0)), (3, .int (ii hl0))]) hx hb dX5_canGo_35 hl (by decide) rfl (fun ls hl => ?_)
          refine lv_iload hx hb dX5_canGo_37 (lv_at hl 0 rfl) ?_
          refine li_iconst hx hb dX5_canGo_39 ?_
          refine li_icmp_ge (tgt := 152) hx hb ⟨by decide, by decide⟩ ⟨by decide, by decide⟩ dX5_canGo_40 (by decide) (fun c40 => ?_) (fun c40 => ?_)
          · exact absurd c40 (by decide)
          · refine lv_aload_n hx hb dX5_canGo_43 rfl (lv_at hl 2 rfl) ?_
            refine va_get (D := G) (fs := [.int (ii st), .int (ii rp), .int (ii fr), .int (ii to)]) (ci := 8) (v := .int (ii st)) (C := RX9) (T := TX9) (N := 4) hx hb hts in_X9 hown hK hP mi hM rfl 0 (by decide) (hts _ q861) (fun _ h9 => h9) rfl dX5_canGo_44 ?_
            refine lv_iload hx hb dX5_canGo_47 (lv_at hl 0 rfl) ?_
            refine lv_ishr hx hb dX5_canGo_49 ?_
            refine li_topx (z := st) (ii_shr0 (by omega) (by omega)) ?_
            refine li_iconst hx hb dX5_canGo_50 ?_
            refine lv_iand hx hb dX5_canGo_51 ?_
            refine li_topx (z := st % 2) (ii_and1 (by omega) (by omega)) ?_
            refine li_iconst hx hb dX5_canGo_52 ?_
            have J53 : ∀ (y53_0 : Int) (_ : y53_0 = st % 2) (ls : Array Slot), lv_has ls 7 [(5, .int (ii 0)), (4, .int (ii 0)), (0, .ref md), (1, .ref (fd 0)), (2, .ref (sd 0)), (3, .int (ii hl0))] → W p l e (rm4 1 0 0 21) s m args below meth c s.heap [] 0 0 Q (F0 m 61 ls [.int (ii y53_0)]) := by
              intro y53_0 hj53 ls hl
              refine lv_istore (lv' := [(6, .int (ii y53_0)), (5, .int (ii 0)), (4, .int (ii 0)), (0, .ref md), (1, .ref (fd 0)), (2, .ref (sd 0)), (3, .int (ii hl0))]) hx hb dX5_canGo_61 hl (by decide) rfl (fun ls hl => ?_)
              refine lv_iload hx hb dX5_canGo_63 (lv_at hl 0 rfl) ?_
              have J65 : ∀ (_ : goP F w (st % 2) fr hl0 0) (ls : Array Slot), lv_has ls 7 [(6, .int (ii y53_0)), (5, .int (ii 0)), (4, .int (ii 0)), (0, .ref md), (1, .ref (fd 0)), (2, .ref (sd 0)), (3, .int (ii hl0))] → W p l e (rm4 1 0 0 21) s m args below meth c s.heap [] 0 0 Q (F0 m 108 ls []) := by
                intro hj65 ls hl
                refine lv_iload hx hb dX5_canGo_108 (lv_at hl 2 rfl) ?_
                refine lv_iload hx hb dX5_canGo_110 (lv_at hl 0 rfl) ?_
                have J112 : ∀ (y112_0 : Int) (_ : y112_0 = tpV F w (st % 2) to 0 ∧ 0 ≤ y112_0 ∧ y112_0 ≤ 1) (ls : Array Slot), lv_has ls 7 [(6, .int (ii y53_0)), (5, .int (ii 0)), (4, .int (ii 0)), (0, .ref md), (1, .ref (fd 0)), (2, .ref (sd 0)), (3, .int (ii hl0))] → W p l e (rm4 1 0 0 21) s m args below meth c s.heap [] 0 0 Q (F0 m 143 ls [.int (ii y112_0), .int (ii 0)]) := by
                  intro y112_0 hj112 ls hl
                  refine li_add hx hb dX5_canGo_143 ?_
                  refine lv_istore (lv' := [(4, .int (ii (0 + y112_0))), (6, .int (ii y53_0)), (5, .int (ii 0)), (0, .ref md), (1, .ref (fd 0)), (2, .ref (sd 0)), (3, .int (ii hl0))]) hx hb dX5_canGo_144 hl (by decide) rfl (fun ls hl => ?_)
                  refine li_iinc (a := 0) (lv' := [(5, .int (ii 1)), (4, .int (ii (0 + y112_0))), (6, .int (ii y53_0)), (0, .ref md), (1, .ref (fd 0)), (2, .ref (sd 0)), (3, .int (ii hl0))]) hx hb dX5_canGo_146 hl (k := 2) rfl (by decide) rfl (fun ls hl => ?_)
                  refine lv_goto (tgt := 37) hx hb dX5_canGo_149 (by decide) ?_
                  refine lv_iload hx hb dX5_canGo_37 (lv_at hl 0 rfl) ?_
                  refine li_iconst hx hb dX5_canGo_39 ?_
                  refine li_icmp_ge (tgt := 152) hx hb ⟨by decide, by decide⟩ ⟨by decide, by decide⟩ dX5_canGo_40 (by decide) (fun c40 => ?_) (fun c40 => ?_)
                  · exact absurd c40 (by decide)
                  · refine lv_aload_n hx hb dX5_canGo_43 rfl (lv_at hl 3 rfl) ?_
                    refine va_get (D := G) (fs := [.int (ii st), .int (ii rp), .int (ii fr), .int (ii to)]) (ci := 8) (v := .int (ii st)) (C := RX9) (T := TX9) (N := 4) hx hb hts in_X9 hown hK hP mi hM rfl 0 (by decide) (hts _ q861) (fun _ h9 => h9) rfl dX5_canGo_44 ?_
                    refine lv_iload hx hb dX5_canGo_47 (lv_at hl 0 rfl) ?_
                    refine lv_ishr hx hb dX5_canGo_49 ?_
                    refine li_topx (z := st / 2) (ii_shr1 (by omega) (by omega)) ?_
                    refine li_iconst hx hb dX5_canGo_50 ?_
                    refine lv_iand hx hb dX5_canGo_51 ?_
                    refine li_topx (z := (st / 2) % 2) (ii_and1 (by omega) (by omega)) ?_
                    refine li_iconst hx hb dX5_canGo_52 ?_
                    have J53_1 : ∀ (y53_1_0 : Int) (_ : y53_1_0 = (st / 2) % 2) (ls : Array Slot), lv_has ls 7 [(5, .int (ii 1)), (4, .int (ii (0 + y112_0))), (6, .int (ii y53_0)), (0, .ref md), (1, .ref (fd 0)), (2, .ref (sd 0)), (3, .int (ii hl0))] → W p l e (rm4 1 0 0 21) s m args below meth c s.heap [] 0 0 Q (F0 m 61 ls [.int (ii y53_1_0)]) := by
                      intro y53_1_0 hj53_1 ls hl
                      refine lv_istore (lv' := [(6, .int (ii y53_1_0)), (5, .int (ii 1)), (4, .int (ii (0 + y112_0))), (0, .ref md), (1, .ref (fd 0)), (2, .ref (sd 0)), (3, .int (ii hl0))]) hx hb dX5_canGo_61 hl (by decide) rfl (fun ls hl => ?_)
                      refine lv_iload hx hb dX5_canGo_63 (lv_at hl 0 rfl) ?_
                      have J65_1 : ∀ (_ : goP F w (st / 2 % 2) fr hl0 1) (ls : Array Slot), lv_has ls 7 [(6, .int (ii y53_1_0)), (5, .int (ii 1)), (4, .int (ii (0 + y112_0))), (0, .ref md), (1, .ref (fd 0)), (2, .ref (sd 0)), (3, .int (ii hl0))] → W p l e (rm4 1 0 0 21) s m args below meth c s.heap [] 0 0 Q (F0 m 108 ls []) := by
                        intro hj65_1 ls hl
                        refine lv_iload hx hb dX5_canGo_108 (lv_at hl 2 rfl) ?_
                        refine lv_iload hx hb dX5_canGo_110 (lv_at hl 0 rfl) ?_
                        have J112_1 : ∀ (y112_1_0 : Int) (_ : y112_1_0 = tpV F w (st / 2 % 2) to 1 ∧ 0 ≤ y112_1_0 ∧ y112_1_0 ≤ 1) (ls : Array Slot), lv_has ls 7 [(6, .int (ii y53_1_0)), (5, .int (ii 1)), (4, .int (ii (0 + y112_0))), (0, .ref md), (1, .ref (fd 0)), (2, .ref (sd 0)), (3, .int (ii hl0))] → W p l e (rm4 1 0 0 21) s m args below meth c s.heap [] 0 0 Q (F0 m 143 ls [.int (ii y112_1_0), .int (ii (0 + y112_0))]) := by
                          intro y112_1_0 hj112_1 ls hl
                          refine li_add hx hb dX5_canGo_143 ?_
                          refine lv_istore (lv' := [(4, .int (ii (0 + y112_0 + y112_1_0))), (6, .int (ii y53_1_0)), (5, .int (ii 1)), (0, .ref md), (1, .ref (fd 0)), (2, .ref (sd 0)), (3, .int (ii hl0))]) hx hb dX5_canGo_144 hl (by decide) rfl (fun ls hl => ?_)
                          refine li_iinc (a := 1) (lv' := [(5, .int (ii 2)), (4, .int (ii (0 + y112_0 + y112_1_0))), (6, .int (ii y53_1_0)), (0, .ref md), (1, .ref (fd 0)), (2, .ref (sd 0)), (3, .int (ii hl0))]) hx hb dX5_canGo_146 hl (k := 2) rfl (by decide) rfl (fun ls hl => ?_)
                          refine lv_goto (tgt := 37) hx hb dX5_canGo_149 (by decide) ?_
                          refine lv_iload hx hb dX5_canGo_37 (lv_at hl 0 rfl) ?_
                          refine li_iconst hx hb dX5_canGo_39 ?_
                          refine li_icmp_ge (tgt := 152) hx hb ⟨by decide, by decide⟩ ⟨by decide, by decide⟩ dX5_canGo_40 (by decide) (fun c40 => ?_) (fun c40 => ?_)
                          · exact absurd c40 (by decide)
                          · refine lv_aload_n hx hb dX5_canGo_43 rfl (lv_at hl 3 rfl) ?_
                            refine va_get (D := G) (fs := [.int (ii st), .int (ii rp), .int (ii fr), .int (ii to)]) (ci := 8) (v := .int (ii st)) (C := RX9) (T := TX9) (N := 4) hx hb hts in_X9 hown hK hP mi hM rfl 0 (by decide) (hts _ q861) (fun _ h9 => h9) rfl dX5_canGo_44 ?_
                            refine lv_iload hx hb dX5_canGo_47 (lv_at hl 0 rfl) ?_
                            refine lv_ishr hx hb dX5_canGo_49 ?_
                            refine li_topx (z := st / 4) (ii_shr2 (by omega) (by omega)) ?_
                            refine li_iconst hx hb dX5_canGo_50 ?_
                            refine lv_iand hx hb dX5_canGo_51 ?_
                            refine li_topx (z := (st / 4) % 2) (ii_and1 (by omega) (by omega)) ?_
                            refine li_iconst hx hb dX5_canGo_52 ?_
                            have J53_2 : ∀ (y53_2_0 : Int) (_ : y53_2_0 = (st / 4) % 2) (ls : Array Slot), lv_has ls 7 [(5, .int (ii 2)), (4, .int (ii (0 + y112_0 + y112_1_0))), (6, .int (ii y53_1_0)), (0, .ref md), (1, .ref (fd 0)), (2, .ref (sd 0)), (3, .int (ii hl0))] → W p l e (rm4 1 0 0 21) s m args below meth c s.heap [] 0 0 Q (F0 m 61 ls [.int (ii y53_2_0)]) := by
                              intro y53_2_0 hj53_2 ls hl
                              refine lv_istore (lv' := [(6, .int (ii y53_2_0)), (5, .int (ii 2)), (4, .int (ii (0 + y112_0 + y112_1_0))), (0, .ref md), (1, .ref (fd 0)), (2, .ref (sd 0)), (3, .int (ii hl0))]) hx hb dX5_canGo_61 hl (by decide) rfl (fun ls hl => ?_)
                              refine lv_iload hx hb dX5_canGo_63 (lv_at hl 0 rfl) ?_
                              have J65_2 : ∀ (_ : goP F w (st / 4 % 2) fr hl0 2) (ls : Array Slot), lv_has ls 7 [(6, .int (ii y53_2_0)), (5, .int (ii 2)), (4, .int (ii (0 + y112_0 + y112_1_0))), (0, .ref md), (1, .ref (fd 0)), (2, .ref (sd 0)), (3, .int (ii hl0))] → W p l e (rm4 1 0 0 21) s m args below meth c s.heap [] 0 0 Q (F0 m 108 ls []) := by
                                intro hj65_2 ls hl
                                refine lv_iload hx hb dX5_canGo_108 (lv_at hl 2 rfl) ?_
                                refine lv_iload hx hb dX5_canGo_110 (lv_at hl 0 rfl) ?_
                                have J112_2 : ∀ (y112_2_0 : Int) (_ : y112_2_0 = tpV F w (st / 4 % 2) to 2 ∧ 0 ≤ y112_2_0 ∧ y112_2_0 ≤ 1) (ls : Array Slot), lv_has ls 7 [(6, .int (ii y53_2_0)), (5, .int (ii 2)), (4, .int (ii (0 + y112_0 + y112_1_0))), (0, .ref md), (1, .ref (fd 0)), (2, .ref (sd 0)), (3, .int (ii hl0))] → W p l e (rm4 1 0 0 21) s m args below meth c s.heap [] 0 0 Q (F0 m 143 ls [.int (ii y112_2_0), .int (ii (0 + y112_0 + y112_1_0))]) := by
                                  intro y112_2_0 hj112_2 ls hl
                                  refine li_add hx hb dX5_canGo_143 ?_
                                  refine lv_istore (lv' := [(4, .int (ii (0 + y112_0 + y112_1_0 + y112_2_0))), (6, .int (ii y53_2_0)), (5, .int (ii 2)), (0, .ref md), (1, .ref (fd 0)), (2, .ref (sd 0)), (3, .int (ii hl0))]) hx hb dX5_canGo_144 hl (by decide) rfl (fun ls hl => ?_)
                                  refine li_iinc (a := 2) (lv' := [(5, .int (ii 3)), (4, .int (ii (0 + y112_0 + y112_1_0 + y112_2_0))), (6, .int (ii y53_2_0)), (0, .ref md), (1, .ref (fd 0)), (2, .ref (sd 0)), (3, .int (ii hl0))]) hx hb dX5_canGo_146 hl (k := 2) rfl (by decide) rfl (fun ls hl => ?_)
                                  refine lv_goto (tgt := 37) hx hb dX5_canGo_149 (by decide) ?_
                                  refine lv_iload hx hb dX5_canGo_37 (lv_at hl 0 rfl) ?_
                                  refine li_iconst hx hb dX5_canGo_39 ?_
                                  refine li_icmp_ge (tgt := 152) hx hb ⟨by decide, by decide⟩ ⟨by decide, by decide⟩ dX5_canGo_40 (by decide) (fun c40 => ?_) (fun c40 => ?_)
                                  · refine lv_aload_n hx hb dX5_canGo_152 rfl (lv_at hl 3 rfl) ?_
                                    refine va_get (D := G) (fs := [.int (ii st), .int (ii rp), .int (ii fr), .int (ii to)]) (ci := 8) (v := .int (ii to)) (C := RX9) (T := TX9) (N := 4) hx hb hts in_X9 hown hK hP mi hM rfl 3 (by decide) (hts _ q900) (fun _ h9 => h9) rfl dX5_canGo_153 ?_
                                    refine lv_aload_n hx hb dX5_canGo_156 rfl (lv_at hl 4 rfl) ?_
                                    refine kR (va_runV (As := []) (rest := [.int (ii to)]) ⟨hx, hb, hml, hown, hts⟩ (m_ground l G ty ws fi fd F  hF hW) (cwV 0 hts (lw_V q416 q330 q331 q77 q332) rfl rfl rfl (by decide +kernel) ⟨Nat.le_of_ble_eq_true rfl, Nat.le_of_ble_eq_true rfl⟩) (pvR (r := (RX2, TX2, 13)) hK hP hD hX (fi 0) hF.1 rfl) rfl rfl hl.1 rfl (lv_room (Nat.le_of_ble_eq_true rfl)) dX5_canGo_157 ⟨Nat.le_of_ble_eq_true rfl, Nat.le_of_ble_eq_true rfl⟩) (fun v hv => ?_)
                                    obtain ⟨z157, rfl, h157⟩ := hv
                                    refine li_icmp_eq (tgt := 177) hx hb (rgi hm6 hm7) ⟨by omega, by omega⟩ dX5_canGo_160 (by decide) (fun c160 => ?_) (fun c160 => ?_)
                                    · refine li_iconst hx hb dX5_canGo_177 ?_
                                      refine lv_goto (tgt := 182) hx hb dX5_canGo_178 (by decide) ?_
                                      exact eRz hQ hx hb hr hlk dX5_canGo_182 (.inr rfl) (⟨_, rfl, .inl ⟨rfl, c4, h12.1, h12.2, c26, hj65, hj65_1, hj65_2, by omega⟩⟩)
                                    · refine lv_iload hx hb dX5_canGo_163 (lv_at hl 1 rfl) ?_
                                      refine lv_aload_n hx hb dX5_canGo_165 rfl (lv_at hl 4 rfl) ?_
                                      refine va_get (D := G) (fs := [.ref (fd 1), .ref (fd 2), .ref (fd 3), .ref (fd 4), .int (ii (F 8 0)), .ref (fd 5), .int (ii (F 9 0)), .ref (fd 6), .int (ii (F 10 0)), .int (ii (F 11 0)), .int (ii (F 12 0)), .int (ii (F 13 0)), .ref (fd 7)]) (ci := 1) (v := .ref (fd 1)) (C := RX2) (T := TX2) (N := 13) hx hb hts in_X2 hown hK hP (fi 0) hF.1 rfl 0 (by decide) (hts _ q772) (fun _ h9 => h9) rfl dX5_canGo_166 ?_
                                      refine lv_aload_n hx hb dX5_canGo_169 rfl (lv_at hl 3 rfl) ?_
                                      refine va_get (D := G) (fs := [.int (ii st), .int (ii rp), .int (ii fr), .int (ii to)]) (ci := 8) (v := .int (ii to)) (C := RX9) (T := TX9) (N := 4) hx hb hts in_X9 hown hK hP mi hM rfl 3 (by decide) (hts _ q900) (fun _ h9 => h9) rfl dX5_canGo_170 ?_
                                      refine li_iald (g := F 0) hx hb hK hP (fi 1) 0 hF.2.1 rfl (by omega) (by omega) (by decide) dX5_canGo_173 ?_
                                      have r174 := hw0 to
                                      refine li_icmp_gt (tgt := 181) hx hb ⟨by omega, by omega⟩ (rgi r174.1 r174.2) dX5_canGo_174 (by decide) (fun c174 => ?_) (fun c174 => ?_)
                                      · refine li_iconst hx hb dX5_canGo_181 ?_
                                        exact eRz hQ hx hb hr hlk dX5_canGo_182 (.inl rfl) (⟨_, rfl, .inr ⟨rfl, fun h => by have q8 := h.2.2.2.2.2.2.2; omega⟩⟩)
                                      · refine li_iconst hx hb dX5_canGo_177 ?_
                                        refine lv_goto (tgt := 182) hx hb dX5_canGo_178 (by decide) ?_
                                        exact eRz hQ hx hb hr hlk dX5_canGo_182 (.inr rfl) (⟨_, rfl, .inl ⟨rfl, c4, h12.1, h12.2, c26, hj65, hj65_1, hj65_2, by omega⟩⟩)
                                  · exact absurd c40 (by decide)
                                refine li_if_ne (tgt := 138) hx hb ⟨by omega, by omega⟩ dX5_canGo_112 (by decide) (fun c112 => ?_) (fun c112 => ?_)
                                · refine li_iconst hx hb dX5_canGo_138 ?_
                                  refine lv_goto (tgt := 143) hx hb dX5_canGo_139 (by decide) ?_
                                  exact J112_2 _ (⟨tpV_1 (by omega), by decide, by decide⟩) ls (lv_sub hl [0, 1, 2, 3, 4, 5, 6] rfl)
                                · refine lv_iload hx hb dX5_canGo_115 (lv_at hl 1 rfl) ?_
                                  refine lv_aload_n hx hb dX5_canGo_117 rfl (lv_at hl 4 rfl) ?_
                                  refine va_get (D := G) (fs := [.ref (fd 1), .ref (fd 2), .ref (fd 3), .ref (fd 4), .int (ii (F 8 0)), .ref (fd 5), .int (ii (F 9 0)), .ref (fd 6), .int (ii (F 10 0)), .int (ii (F 11 0)), .int (ii (F 12 0)), .int (ii (F 13 0)), .ref (fd 7)]) (ci := 1) (v := .int (ii (F 9 0))) (C := RX2) (T := TX2) (N := 13) hx hb hts in_X2 hown hK hP (fi 0) hF.1 rfl 6 (by decide) (hts _ q793) (fun _ h9 => h9) rfl dX5_canGo_118 ?_
                                  refine li_icmp_ge (tgt := 142) hx hb ⟨by decide, by decide⟩ (rgi h9a h9b) dX5_canGo_121 (by decide) (fun c121 => ?_) (fun c121 => ?_)
                                  · refine li_iconst hx hb dX5_canGo_142 ?_
                                    exact J112_2 _ (⟨tpV_0 (by omega), by decide, by decide⟩) ls (lv_sub hl [0, 1, 2, 3, 4, 5, 6] rfl)
                                  · refine lv_aload_n hx hb dX5_canGo_124 rfl (lv_at hl 5 rfl) ?_
                                    refine va_get (D := G) (fs := [.ref (sd 1), .ref (sd 2)]) (ci := 2) (v := .ref (sd 1)) (C := RX3) (T := TX3) (N := 2) hx hb hts in_X3 hown hK hP (si 0) hSp.1 rfl 0 (by decide) (hts _ q655) (fun _ h9 => h9) rfl dX5_canGo_125 ?_
                                    refine lv_iload hx hb dX5_canGo_128 (lv_at hl 1 rfl) ?_
                                    refine li_iald (g := w) hx hb hK hP (si 1) 0 hSp.2.1 rfl (by decide) (by decide) (by decide) dX5_canGo_130 ?_
                                    have r131 := hs0 2
                                    refine lv_aload_n hx hb dX5_canGo_131 rfl (lv_at hl 3 rfl) ?_
                                    refine va_get (D := G) (fs := [.int (ii st), .int (ii rp), .int (ii fr), .int (ii to)]) (ci := 8) (v := .int (ii to)) (C := RX9) (T := TX9) (N := 4) hx hb hts in_X9 hown hK hP mi hM rfl 3 (by decide) (hts _ q900) (fun _ h9 => h9) rfl dX5_canGo_132 ?_
                                    refine li_icmp_ne (tgt := 142) hx hb (rgi r131.1 r131.2) (rgi hm6 hm7) dX5_canGo_135 (by decide) (fun c135 => ?_) (fun c135 => ?_)
                                    · refine li_iconst hx hb dX5_canGo_142 ?_
                                      exact J112_2 _ (⟨tpV_0 (by omega), by decide, by decide⟩) ls (lv_sub hl [0, 1, 2, 3, 4, 5, 6] rfl)
                                    · refine li_iconst hx hb dX5_canGo_138 ?_
                                      refine lv_goto (tgt := 143) hx hb dX5_canGo_139 (by decide) ?_
                                      exact J112_2 _ (⟨tpV_1 (by omega), by decide, by decide⟩) ls (lv_sub hl [0, 1, 2, 3, 4, 5, 6] rfl)
                              refine li_if_eq (tgt := 108) hx hb ⟨by omega, by omega⟩ dX5_canGo_65 (by decide) (fun c65 => ?_) (fun c65 => ?_)
                              · exact J65_2 (fun q => absurd q (by omega)) ls (lv_sub hl [0, 1, 2, 3, 4, 5, 6] rfl)
                              · refine lv_iload hx hb dX5_canGo_68 (lv_at hl 1 rfl) ?_
                                refine lv_aload_n hx hb dX5_canGo_70 rfl (lv_at hl 4 rfl) ?_
                                refine va_get (D := G) (fs := [.ref (fd 1), .ref (fd 2), .ref (fd 3), .ref (fd 4), .int (ii (F 8 0)), .ref (fd 5), .int (ii (F 9 0)), .ref (fd 6), .int (ii (F 10 0)), .int (ii (F 11 0)), .int (ii (F 12 0)), .int (ii (F 13 0)), .ref (fd 7)]) (ci := 1) (v := .int (ii (F 9 0))) (C := RX2) (T := TX2) (N := 13) hx hb hts in_X2 hown hK hP (fi 0) hF.1 rfl 6 (by decide) (hts _ q793) (fun _ h9 => h9) rfl dX5_canGo_71 ?_
                                refine li_icmp_ge (tgt := 106) hx hb ⟨by decide, by decide⟩ (rgi h9a h9b) dX5_canGo_74 (by decide) (fun c74 => ?_) (fun c74 => ?_)
                                · refine li_iconst hx hb dX5_canGo_106 ?_
                                  exact eRz hQ hx hb hr hlk dX5_canGo_107 (.inl rfl) (⟨_, rfl, .inr ⟨rfl, fun h => by obtain ⟨a, b, c⟩ := h.2.2.2.2.2.2.1 (by omega); omega⟩⟩)
                                · refine lv_aload_n hx hb dX5_canGo_77 rfl (lv_at hl 5 rfl) ?_
                                  refine va_get (D := G) (fs := [.ref (sd 1), .ref (sd 2)]) (ci := 2) (v := .ref (sd 1)) (C := RX3) (T := TX3) (N := 2) hx hb hts in_X3 hown hK hP (si 0) hSp.1 rfl 0 (by decide) (hts _ q655) (fun _ h9 => h9) rfl dX5_canGo_78 ?_
                                  refine lv_iload hx hb dX5_canGo_81 (lv_at hl 1 rfl) ?_
                                  refine li_iald (g := w) hx hb hK hP (si 1) 0 hSp.2.1 rfl (by decide) (by decide) (by decide) dX5_canGo_83 ?_
                                  have r84 := hs0 2
                                  refine lv_aload_n hx hb dX5_canGo_84 rfl (lv_at hl 3 rfl) ?_
                                  refine va_get (D := G) (fs := [.int (ii st), .int (ii rp), .int (ii fr), .int (ii to)]) (ci := 8) (v := .int (ii fr)) (C := RX9) (T := TX9) (N := 4) hx hb hts in_X9 hown hK hP mi hM rfl 2 (by decide) (hts _ q889) (fun _ h9 => h9) rfl dX5_canGo_85 ?_
                                  refine li_icmp_ne (tgt := 106) hx hb (rgi r84.1 r84.2) (rgi hm4 hm5) dX5_canGo_88 (by decide) (fun c88 => ?_) (fun c88 => ?_)
                                  · refine li_iconst hx hb dX5_canGo_106 ?_
                                    exact eRz hQ hx hb hr hlk dX5_canGo_107 (.inl rfl) (⟨_, rfl, .inr ⟨rfl, fun h => by obtain ⟨a, b, c⟩ := h.2.2.2.2.2.2.1 (by omega); omega⟩⟩)
                                  · refine lv_iload_n hx hb dX5_canGo_91 rfl (lv_at hl 6 rfl) ?_
                                    refine li_if_eq (tgt := 108) hx hb ⟨by omega, by omega⟩ dX5_canGo_92 (by decide) (fun c92 => ?_) (fun c92 => ?_)
                                    · exact J65_2 (fun q => ⟨by omega, by omega, by omega⟩) ls (lv_sub hl [0, 1, 2, 3, 4, 5, 6] rfl)
                                    · refine lv_aload_n hx hb dX5_canGo_95 rfl (lv_at hl 4 rfl) ?_
                                      refine va_get (D := G) (fs := [.ref (fd 1), .ref (fd 2), .ref (fd 3), .ref (fd 4), .int (ii (F 8 0)), .ref (fd 5), .int (ii (F 9 0)), .ref (fd 6), .int (ii (F 10 0)), .int (ii (F 11 0)), .int (ii (F 12 0)), .int (ii (F 13 0)), .ref (fd 7)]) (ci := 1) (v := .ref (fd 5)) (C := RX2) (T := TX2) (N := 13) hx hb hts in_X2 hown hK hP (fi 0) hF.1 rfl 5 (by decide) (hts _ q788) (fun _ h9 => h9) rfl dX5_canGo_96 ?_
                                      refine lv_iload hx hb dX5_canGo_99 (lv_at hl 1 rfl) ?_
                                      refine li_iald (g := F 4) hx hb hK hP (fi 5) 0 hF.2.2.2.2.2.1 rfl (by decide) (by decide) (by decide) dX5_canGo_101 ?_
                                      have r102 := hw4 2
                                      refine li_iconst hx hb dX5_canGo_102 ?_
                                      refine li_icmp_ne (tgt := 108) hx hb (rgi r102.1 r102.2) ⟨by decide, by decide⟩ dX5_canGo_103 (by decide) (fun c103 => ?_) (fun c103 => ?_)
                                      · exact J65_2 (fun q => ⟨by omega, by omega, by omega⟩) ls (lv_sub hl [0, 1, 2, 3, 4, 5, 6] rfl)
                                      · refine li_iconst hx hb dX5_canGo_106 ?_
                                        exact eRz hQ hx hb hr hlk dX5_canGo_107 (.inl rfl) (⟨_, rfl, .inr ⟨rfl, fun h => by obtain ⟨a, b, c⟩ := h.2.2.2.2.2.2.1 (by omega); omega⟩⟩)
                            refine li_icmp_ne (tgt := 60) hx hb ⟨by omega, by omega⟩ ⟨by decide, by decide⟩ dX5_canGo_53 (by decide) (fun c53 => ?_) (fun c53 => ?_)
                            · refine li_iconst hx hb dX5_canGo_60 ?_
                              exact J53_2 _ (by omega) ls (lv_sub hl [0, 1, 2, 3, 4, 5, 6] rfl)
                            · refine li_iconst hx hb dX5_canGo_56 ?_
                              refine lv_goto (tgt := 61) hx hb dX5_canGo_57 (by decide) ?_
                              exact J53_2 _ (by omega) ls (lv_sub hl [0, 1, 2, 3, 4, 5, 6] rfl)
                        refine li_if_ne (tgt := 138) hx hb ⟨by omega, by omega⟩ dX5_canGo_112 (by decide) (fun c112 => ?_) (fun c112 => ?_)
                        · refine li_iconst hx hb dX5_canGo_138 ?_
                          refine lv_goto (tgt := 143) hx hb dX5_canGo_139 (by decide) ?_
                          exact J112_1 _ (⟨tpV_1 (by omega), by decide, by decide⟩) ls (lv_sub hl [0, 1, 2, 3, 4, 5, 6] rfl)
                        · refine lv_iload hx hb dX5_canGo_115 (lv_at hl 1 rfl) ?_
                          refine lv_aload_n hx hb dX5_canGo_117 rfl (lv_at hl 4 rfl) ?_
                          refine va_get (D := G) (fs := [.ref (fd 1), .ref (fd 2), .ref (fd 3), .ref (fd 4), .int (ii (F 8 0)), .ref (fd 5), .int (ii (F 9 0)), .ref (fd 6), .int (ii (F 10 0)), .int (ii (F 11 0)), .int (ii (F 12 0)), .int (ii (F 13 0)), .ref (fd 7)]) (ci := 1) (v := .int (ii (F 9 0))) (C := RX2) (T := TX2) (N := 13) hx hb hts in_X2 hown hK hP (fi 0) hF.1 rfl 6 (by decide) (hts _ q793) (fun _ h9 => h9) rfl dX5_canGo_118 ?_
                          refine li_icmp_ge (tgt := 142) hx hb ⟨by decide, by decide⟩ (rgi h9a h9b) dX5_canGo_121 (by decide) (fun c121 => ?_) (fun c121 => ?_)
                          · refine li_iconst hx hb dX5_canGo_142 ?_
                            exact J112_1 _ (⟨tpV_0 (by omega), by decide, by decide⟩) ls (lv_sub hl [0, 1, 2, 3, 4, 5, 6] rfl)
                          · refine lv_aload_n hx hb dX5_canGo_124 rfl (lv_at hl 5 rfl) ?_
                            refine va_get (D := G) (fs := [.ref (sd 1), .ref (sd 2)]) (ci := 2) (v := .ref (sd 1)) (C := RX3) (T := TX3) (N := 2) hx hb hts in_X3 hown hK hP (si 0) hSp.1 rfl 0 (by decide) (hts _ q655) (fun _ h9 => h9) rfl dX5_canGo_125 ?_
                            refine lv_iload hx hb dX5_canGo_128 (lv_at hl 1 rfl) ?_
                            refine li_iald (g := w) hx hb hK hP (si 1) 0 hSp.2.1 rfl (by decide) (by decide) (by decide) dX5_canGo_130 ?_
                            have r131 := hs0 1
                            refine lv_aload_n hx hb dX5_canGo_131 rfl (lv_at hl 3 rfl) ?_
                            refine va_get (D := G) (fs := [.int (ii st), .int (ii rp), .int (ii fr), .int (ii to)]) (ci := 8) (v := .int (ii to)) (C := RX9) (T := TX9) (N := 4) hx hb hts in_X9 hown hK hP mi hM rfl 3 (by decide) (hts _ q900) (fun _ h9 => h9) rfl dX5_canGo_132 ?_
                            refine li_icmp_ne (tgt := 142) hx hb (rgi r131.1 r131.2) (rgi hm6 hm7) dX5_canGo_135 (by decide) (fun c135 => ?_) (fun c135 => ?_)
                            · refine li_iconst hx hb dX5_canGo_142 ?_
                              exact J112_1 _ (⟨tpV_0 (by omega), by decide, by decide⟩) ls (lv_sub hl [0, 1, 2, 3, 4, 5, 6] rfl)
                            · refine li_iconst hx hb dX5_canGo_138 ?_
                              refine lv_goto (tgt := 143) hx hb dX5_canGo_139 (by decide) ?_
                              exact J112_1 _ (⟨tpV_1 (by omega), by decide, by decide⟩) ls (lv_sub hl [0, 1, 2, 3, 4, 5, 6] rfl)
                      refine li_if_eq (tgt := 108) hx hb ⟨by omega, by omega⟩ dX5_canGo_65 (by decide) (fun c65 => ?_) (fun c65 => ?_)
                      · exact J65_1 (fun q => absurd q (by omega)) ls (lv_sub hl [0, 1, 2, 3, 4, 5, 6] rfl)
                      · refine lv_iload hx hb dX5_canGo_68 (lv_at hl 1 rfl) ?_
                        refine lv_aload_n hx hb dX5_canGo_70 rfl (lv_at hl 4 rfl) ?_
                        refine va_get (D := G) (fs := [.ref (fd 1), .ref (fd 2), .ref (fd 3), .ref (fd 4), .int (ii (F 8 0)), .ref (fd 5), .int (ii (F 9 0)), .ref (fd 6), .int (ii (F 10 0)), .int (ii (F 11 0)), .int (ii (F 12 0)), .int (ii (F 13 0)), .ref (fd 7)]) (ci := 1) (v := .int (ii (F 9 0))) (C := RX2) (T := TX2) (N := 13) hx hb hts in_X2 hown hK hP (fi 0) hF.1 rfl 6 (by decide) (hts _ q793) (fun _ h9 => h9) rfl dX5_canGo_71 ?_
                        refine li_icmp_ge (tgt := 106) hx hb ⟨by decide, by decide⟩ (rgi h9a h9b) dX5_canGo_74 (by decide) (fun c74 => ?_) (fun c74 => ?_)
                        · refine li_iconst hx hb dX5_canGo_106 ?_
                          exact eRz hQ hx hb hr hlk dX5_canGo_107 (.inl rfl) (⟨_, rfl, .inr ⟨rfl, fun h => by obtain ⟨a, b, c⟩ := h.2.2.2.2.2.1 (by omega); omega⟩⟩)
                        · refine lv_aload_n hx hb dX5_canGo_77 rfl (lv_at hl 5 rfl) ?_
                          refine va_get (D := G) (fs := [.ref (sd 1), .ref (sd 2)]) (ci := 2) (v := .ref (sd 1)) (C := RX3) (T := TX3) (N := 2) hx hb hts in_X3 hown hK hP (si 0) hSp.1 rfl 0 (by decide) (hts _ q655) (fun _ h9 => h9) rfl dX5_canGo_78 ?_
                          refine lv_iload hx hb dX5_canGo_81 (lv_at hl 1 rfl) ?_
                          refine li_iald (g := w) hx hb hK hP (si 1) 0 hSp.2.1 rfl (by decide) (by decide) (by decide) dX5_canGo_83 ?_
                          have r84 := hs0 1
                          refine lv_aload_n hx hb dX5_canGo_84 rfl (lv_at hl 3 rfl) ?_
                          refine va_get (D := G) (fs := [.int (ii st), .int (ii rp), .int (ii fr), .int (ii to)]) (ci := 8) (v := .int (ii fr)) (C := RX9) (T := TX9) (N := 4) hx hb hts in_X9 hown hK hP mi hM rfl 2 (by decide) (hts _ q889) (fun _ h9 => h9) rfl dX5_canGo_85 ?_
                          refine li_icmp_ne (tgt := 106) hx hb (rgi r84.1 r84.2) (rgi hm4 hm5) dX5_canGo_88 (by decide) (fun c88 => ?_) (fun c88 => ?_)
                          · refine li_iconst hx hb dX5_canGo_106 ?_
                            exact eRz hQ hx hb hr hlk dX5_canGo_107 (.inl rfl) (⟨_, rfl, .inr ⟨rfl, fun h => by obtain ⟨a, b, c⟩ := h.2.2.2.2.2.1 (by omega); omega⟩⟩)
                          · refine lv_iload_n hx hb dX5_canGo_91 rfl (lv_at hl 6 rfl) ?_
                            refine li_if_eq (tgt := 108) hx hb ⟨by omega, by omega⟩ dX5_canGo_92 (by decide) (fun c92 => ?_) (fun c92 => ?_)
                            · exact J65_1 (fun q => ⟨by omega, by omega, by omega⟩) ls (lv_sub hl [0, 1, 2, 3, 4, 5, 6] rfl)
                            · refine lv_aload_n hx hb dX5_canGo_95 rfl (lv_at hl 4 rfl) ?_
                              refine va_get (D := G) (fs := [.ref (fd 1), .ref (fd 2), .ref (fd 3), .ref (fd 4), .int (ii (F 8 0)), .ref (fd 5), .int (ii (F 9 0)), .ref (fd 6), .int (ii (F 10 0)), .int (ii (F 11 0)), .int (ii (F 12 0)), .int (ii (F 13 0)), .ref (fd 7)]) (ci := 1) (v := .ref (fd 5)) (C := RX2) (T := TX2) (N := 13) hx hb hts in_X2 hown hK hP (fi 0) hF.1 rfl 5 (by decide) (hts _ q788) (fun _ h9 => h9) rfl dX5_canGo_96 ?_
                              refine lv_iload hx hb dX5_canGo_99 (lv_at hl 1 rfl) ?_
                              refine li_iald (g := F 4) hx hb hK hP (fi 5) 0 hF.2.2.2.2.2.1 rfl (by decide) (by decide) (by decide) dX5_canGo_101 ?_
                              have r102 := hw4 1
                              refine li_iconst hx hb dX5_canGo_102 ?_
                              refine li_icmp_ne (tgt := 108) hx hb (rgi r102.1 r102.2) ⟨by decide, by decide⟩ dX5_canGo_103 (by decide) (fun c103 => ?_) (fun c103 => ?_)
                              · exact J65_1 (fun q => ⟨by omega, by omega, by omega⟩) ls (lv_sub hl [0, 1, 2, 3, 4, 5, 6] rfl)
                              · refine li_iconst hx hb dX5_canGo_106 ?_
                                exact eRz hQ hx hb hr hlk dX5_canGo_107 (.inl rfl) (⟨_, rfl, .inr ⟨rfl, fun h => by obtain ⟨a, b, c⟩ := h.2.2.2.2.2.1 (by omega); omega⟩⟩)
                    refine li_icmp_ne (tgt := 60) hx hb ⟨by omega, by omega⟩ ⟨by decide, by decide⟩ dX5_canGo_53 (by decide) (fun c53 => ?_) (fun c53 => ?_)
                    · refine li_iconst hx hb dX5_canGo_60 ?_
                      exact J53_1 _ (by omega) ls (lv_sub hl [0, 1, 2, 3, 4, 5, 6] rfl)
                    · refine li_iconst hx hb dX5_canGo_56 ?_
                      refine lv_goto (tgt := 61) hx hb dX5_canGo_57 (by decide) ?_
                      exact J53_1 _ (by omega) ls (lv_sub hl [0, 1, 2, 3, 4, 5, 6] rfl)
                refine li_if_ne (tgt := 138) hx hb ⟨by omega, by omega⟩ dX5_canGo_112 (by decide) (fun c112 => ?_) (fun c112 => ?_)
                · refine li_iconst hx hb dX5_canGo_138 ?_
                  refine lv_goto (tgt := 143) hx hb dX5_canGo_139 (by decide) ?_
                  exact J112 _ (⟨tpV_1 (by omega), by decide, by decide⟩) ls (lv_sub hl [0, 1, 2, 3, 4, 5, 6] rfl)
                · refine lv_iload hx hb dX5_canGo_115 (lv_at hl 1 rfl) ?_
                  refine lv_aload_n hx hb dX5_canGo_117 rfl (lv_at hl 4 rfl) ?_
                  refine va_get (D := G) (fs := [.ref (fd 1), .ref (fd 2), .ref (fd 3), .ref (fd 4), .int (ii (F 8 0)), .ref (fd 5), .int (ii (F 9 0)), .ref (fd 6), .int (ii (F 10 0)), .int (ii (F 11 0)), .int (ii (F 12 0)), .int (ii (F 13 0)), .ref (fd 7)]) (ci := 1) (v := .int (ii (F 9 0))) (C := RX2) (T := TX2) (N := 13) hx hb hts in_X2 hown hK hP (fi 0) hF.1 rfl 6 (by decide) (hts _ q793) (fun _ h9 => h9) rfl dX5_canGo_118 ?_
                  refine li_icmp_ge (tgt := 142) hx hb ⟨by decide, by decide⟩ (rgi h9a h9b) dX5_canGo_121 (by decide) (fun c121 => ?_) (fun c121 => ?_)
                  · refine li_iconst hx hb dX5_canGo_142 ?_
                    exact J112 _ (⟨tpV_0 (by omega), by decide, by decide⟩) ls (lv_sub hl [0, 1, 2, 3, 4, 5, 6] rfl)
                  · refine lv_aload_n hx hb dX5_canGo_124 rfl (lv_at hl 5 rfl) ?_
                    refine va_get (D := G) (fs := [.ref (sd 1), .ref (sd 2)]) (ci := 2) (v := .ref (sd 1)) (C := RX3) (T := TX3) (N := 2) hx hb hts in_X3 hown hK hP (si 0) hSp.1 rfl 0 (by decide) (hts _ q655) (fun _ h9 => h9) rfl dX5_canGo_125 ?_
                    refine lv_iload hx hb dX5_canGo_128 (lv_at hl 1 rfl) ?_
                    refine li_iald (g := w) hx hb hK hP (si 1) 0 hSp.2.1 rfl (by decide) (by decide) (by decide) dX5_canGo_130 ?_
                    have r131 := hs0 0
                    refine lv_aload_n hx hb dX5_canGo_131 rfl (lv_at hl 3 rfl) ?_
                    refine va_get (D := G) (fs := [.int (ii st), .int (ii rp), .int (ii fr), .int (ii to)]) (ci := 8) (v := .int (ii to)) (C := RX9) (T := TX9) (N := 4) hx hb hts in_X9 hown hK hP mi hM rfl 3 (by decide) (hts _ q900) (fun _ h9 => h9) rfl dX5_canGo_132 ?_
                    refine li_icmp_ne (tgt := 142) hx hb (rgi r131.1 r131.2) (rgi hm6 hm7) dX5_canGo_135 (by decide) (fun c135 => ?_) (fun c135 => ?_)
                    · refine li_iconst hx hb dX5_canGo_142 ?_
                      exact J112 _ (⟨tpV_0 (by omega), by decide, by decide⟩) ls (lv_sub hl [0, 1, 2, 3, 4, 5, 6] rfl)
                    · refine li_iconst hx hb dX5_canGo_138 ?_
                      refine lv_goto (tgt := 143) hx hb dX5_canGo_139 (by decide) ?_
                      exact J112 _ (⟨tpV_1 (by omega), by decide, by decide⟩) ls (lv_sub hl [0, 1, 2, 3, 4, 5, 6] rfl)
              refine li_if_eq (tgt := 108) hx hb ⟨by omega, by omega⟩ dX5_canGo_65 (by decide) (fun c65 => ?_) (fun c65 => ?_)
              · exact J65 (fun q => absurd q (by omega)) ls (lv_sub hl [0, 1, 2, 3, 4, 5, 6] rfl)
              · refine lv_iload hx hb dX5_canGo_68 (lv_at hl 1 rfl) ?_
                refine lv_aload_n hx hb dX5_canGo_70 rfl (lv_at hl 4 rfl) ?_
                refine va_get (D := G) (fs := [.ref (fd 1), .ref (fd 2), .ref (fd 3), .ref (fd 4), .int (ii (F 8 0)), .ref (fd 5), .int (ii (F 9 0)), .ref (fd 6), .int (ii (F 10 0)), .int (ii (F 11 0)), .int (ii (F 12 0)), .int (ii (F 13 0)), .ref (fd 7)]) (ci := 1) (v := .int (ii (F 9 0))) (C := RX2) (T := TX2) (N := 13) hx hb hts in_X2 hown hK hP (fi 0) hF.1 rfl 6 (by decide) (hts _ q793) (fun _ h9 => h9) rfl dX5_canGo_71 ?_
                refine li_icmp_ge (tgt := 106) hx hb ⟨by decide, by decide⟩ (rgi h9a h9b) dX5_canGo_74 (by decide) (fun c74 => ?_) (fun c74 => ?_)
                · refine li_iconst hx hb dX5_canGo_106 ?_
                  exact eRz hQ hx hb hr hlk dX5_canGo_107 (.inl rfl) (⟨_, rfl, .inr ⟨rfl, fun h => by obtain ⟨a, b, c⟩ := h.2.2.2.2.1 (by omega); omega⟩⟩)
                · refine lv_aload_n hx hb dX5_canGo_77 rfl (lv_at hl 5 rfl) ?_
                  refine va_get (D := G) (fs := [.ref (sd 1), .ref (sd 2)]) (ci := 2) (v := .ref (sd 1)) (C := RX3) (T := TX3) (N := 2) hx hb hts in_X3 hown hK hP (si 0) hSp.1 rfl 0 (by decide) (hts _ q655) (fun _ h9 => h9) rfl dX5_canGo_78 ?_
                  refine lv_iload hx hb dX5_canGo_81 (lv_at hl 1 rfl) ?_
                  refine li_iald (g := w) hx hb hK hP (si 1) 0 hSp.2.1 rfl (by decide) (by decide) (by decide) dX5_canGo_83 ?_
                  have r84 := hs0 0
                  refine lv_aload_n hx hb dX5_canGo_84 rfl (lv_at hl 3 rfl) ?_
                  refine va_get (D := G) (fs := [.int (ii st), .int (ii rp), .int (ii fr), .int (ii to)]) (ci := 8) (v := .int (ii fr)) (C := RX9) (T := TX9) (N := 4) hx hb hts in_X9 hown hK hP mi hM rfl 2 (by decide) (hts _ q889) (fun _ h9 => h9) rfl dX5_canGo_85 ?_
                  refine li_icmp_ne (tgt := 106) hx hb (rgi r84.1 r84.2) (rgi hm4 hm5) dX5_canGo_88 (by decide) (fun c88 => ?_) (fun c88 => ?_)
                  · refine li_iconst hx hb dX5_canGo_106 ?_
                    exact eRz hQ hx hb hr hlk dX5_canGo_107 (.inl rfl) (⟨_, rfl, .inr ⟨rfl, fun h => by obtain ⟨a, b, c⟩ := h.2.2.2.2.1 (by omega); omega⟩⟩)
                  · refine lv_iload_n hx hb dX5_canGo_91 rfl (lv_at hl 6 rfl) ?_
                    refine li_if_eq (tgt := 108) hx hb ⟨by omega, by omega⟩ dX5_canGo_92 (by decide) (fun c92 => ?_) (fun c92 => ?_)
                    · exact J65 (fun q => ⟨by omega, by omega, by omega⟩) ls (lv_sub hl [0, 1, 2, 3, 4, 5, 6] rfl)
                    · refine lv_aload_n hx hb dX5_canGo_95 rfl (lv_at hl 4 rfl) ?_
                      refine va_get (D := G) (fs := [.ref (fd 1), .ref (fd 2), .ref (fd 3), .ref (fd 4), .int (ii (F 8 0)), .ref (fd 5), .int (ii (F 9 0)), .ref (fd 6), .int (ii (F 10 0)), .int (ii (F 11 0)), .int (ii (F 12 0)), .int (ii (F 13 0)), .ref (fd 7)]) (ci := 1) (v := .ref (fd 5)) (C := RX2) (T := TX2) (N := 13) hx hb hts in_X2 hown hK hP (fi 0) hF.1 rfl 5 (by decide) (hts _ q788) (fun _ h9 => h9) rfl dX5_canGo_96 ?_
                      refine lv_iload hx hb dX5_canGo_99 (lv_at hl 1 rfl) ?_
                      refine li_iald (g := F 4) hx hb hK hP (fi 5) 0 hF.2.2.2.2.2.1 rfl (by decide) (by decide) (by decide) dX5_canGo_101 ?_
                      have r102 := hw4 0
                      refine li_iconst hx hb dX5_canGo_102 ?_
                      refine li_icmp_ne (tgt := 108) hx hb (rgi r102.1 r102.2) ⟨by decide, by decide⟩ dX5_canGo_103 (by decide) (fun c103 => ?_) (fun c103 => ?_)
                      · exact J65 (fun q => ⟨by omega, by omega, by omega⟩) ls (lv_sub hl [0, 1, 2, 3, 4, 5, 6] rfl)
                      · refine li_iconst hx hb dX5_canGo_106 ?_
                        exact eRz hQ hx hb hr hlk dX5_canGo_107 (.inl rfl) (⟨_, rfl, .inr ⟨rfl, fun h => by obtain ⟨a, b, c⟩ := h.2.2.2.2.1 (by omega); omega⟩⟩)
            refine li_icmp_ne (tgt := 60) hx hb ⟨by omega, by omega⟩ ⟨by decide, by decide⟩ dX5_canGo_53 (by decide) (fun c53 => ?_) (fun c53 => ?_)
            · refine li_iconst hx hb dX5_canGo_60 ?_
              exact J53 _ (by omega) ls (lv_sub hl [0, 1, 2, 3, 4, 5] rfl)
            · refine li_iconst hx hb dX5_canGo_56 ?_
              refine lv_goto (tgt := 61) hx hb dX5_canGo_57 (by decide) ?_
              exact J53 _ (by omega) ls (lv_sub hl [0, 1, 2, 3, 4, 5] rfl)
        · refine li_iconst hx hb dX5_canGo_29 ?_
          exact eRz hQ hx hb hr hlk dX5_canGo_30 (.inl rfl) (⟨_, rfl, .inr ⟨rfl, fun h => by obtain ⟨q1, q2, q3, q4, q5, q6, q7, q8⟩ := h; omega⟩⟩)
    · refine li_if_eq (tgt := 29) hx hb ⟨by decide, by decide⟩ dX5_canGo_15 (by decide) (fun c15 => ?_) (fun c15 => ?_)
      · refine li_iconst hx hb dX5_canGo_29 ?_
        exact eRz hQ hx hb hr hlk dX5_canGo_30 (.inl rfl) (⟨_, rfl, .inr ⟨rfl, fun h => by obtain ⟨q1, q2, q3, q4, q5, q6, q7, q8⟩ := h; omega⟩⟩)
      · exact absurd c15 (by decide)
set_option maxHeartbeats 4000000 in
theorem m_canGo_10 (l : Launch) (G : va_G) (ty : Nat → ClassId) (ws : va_W) (fi fd : Nat → Nat) (F : mem) (si sd : Nat → Nat) (w q : Int → Int) (mi md : Nat) (st rp fr to : Int) (hl0 : Int) (hF : faceAt ty ws fi fd F) (hW : wfF F) (hSp : spotAt ty ws si sd w q) (hWS : wfS w q) (hM : moveAt ws 9 mi md st rp fr to) (hm : 0 ≤ st ∧ st ≤ 7 ∧ 0 ≤ rp ∧ rp ≤ 1 ∧ 0 ≤ fr ∧ fr ≤ 4 ∧ 0 ≤ to ∧ to ≤ 4) (hh : hl0 = 0 ∨ hl0 = 1) : cR l yX5_canGo (ws_ yX5_canGo cX5_canGo 7 (some .boolean)) (rm4 1 0 0 21) G ty (ws) [.ref md, .ref (fd 0), .ref (sd 0), .int (ii hl0)] (fun r => ∃ z : Int, r = some (.int (ii z)) ∧ ((z = 1 ∧ okGo F w st fr to hl0) ∨ (z = 0 ∧ ¬ okGo F w st fr to hl0))) := by
  refine cR.of (by decide) (Nat.le_of_ble_eq_true rfl) ?_
  intro p e s m args below meth c Q hQ hx hb hr hml hown hlk hts hK hP hD hX ls hl
  have hl : lv_has ls 7 [(0, .ref md), (1, .ref (fd 0)), (2, .ref (sd 0)), (3, .int (ii hl0))] := hl
  obtain ⟨hw0, hw1, hw2, hw3, hw4, hw5, h8a, h8b, h9a, h9b, h10a, h10b⟩ := id hW
  obtain ⟨hs0, hs1⟩ := id hWS
  obtain ⟨hm0, hm1, hm2, hm3, hm4, hm5, hm6, hm7⟩ := id hm
  refine lv_aload_n hx hb dX5_canGo_0 rfl (lv_at hl 0 rfl) ?_
  refine va_get (D := G) (fs := [.int (ii st), .int (ii rp), .int (ii fr), .int (ii to)]) (ci := 9) (v := .int (ii st)) (C := RX10) (T := TX10) (N := 4) hx hb hts in_X10 hown hK hP mi hM rfl 0 (by decide) (hts _ q861) (fun _ h9 => h9) rfl dX5_canGo_1 ?_
  refine li_if_eq (tgt := 29) hx hb (rgi hm0 hm1) dX5_canGo_4 (by decide) (fun c4 => ?_) (fun c4 => ?_)
  · refine li_iconst hx hb dX5_canGo_29 ?_
    exact eRz hQ hx hb hr hlk dX5_canGo_30 (.inl rfl) (⟨_, rfl, .inr ⟨rfl, fun h => by obtain ⟨q1, q2, q3, q4, q5, q6, q7, q8⟩ := h; omega⟩⟩)
  · refine lv_aload_n hx hb dX5_canGo_7 rfl (lv_at hl 1 rfl) ?_
    refine lv_aload_n hx hb dX5_canGo_8 rfl (lv_at hl 0 rfl) ?_
    refine va_get (D := G) (fs := [.int (ii st), .int (ii rp), .int (ii fr), .int (ii to)]) (ci := 9) (v := .int (ii to)) (C := RX10) (T := TX10) (N := 4) hx hb hts in_X10 hown hK hP mi hM rfl 3 (by decide) (hts _ q900) (fun _ h9 => h9) rfl dX5_canGo_9 ?_
    refine kR (va_runV (As := [.int (ii to)]) (rest := []) ⟨hx, hb, hml, hown, hts⟩ (m_isLedge l G ty ws fi fd F to hF hW (rgi hm6 hm7)) (cwV 1 hts (lw_V q415 q309 q310 q77 q311) rfl rfl rfl (by decide +kernel) ⟨Nat.le_of_ble_eq_true rfl, Nat.le_of_ble_eq_true rfl⟩) (pvR (r := (RX2, TX2, 13)) hK hP hD hX (fi 0) hF.1 rfl) rfl rfl hl.1 rfl (lv_room (Nat.le_of_ble_eq_true rfl)) dX5_canGo_12 ⟨Nat.le_of_ble_eq_true rfl, Nat.le_of_ble_eq_true rfl⟩) (fun v hv => ?_)
    obtain ⟨z12, rfl, ⟨rfl, h12⟩ | ⟨rfl, h12⟩⟩ := hv
    · refine li_if_eq (tgt := 29) hx hb ⟨by decide, by decide⟩ dX5_canGo_15 (by decide) (fun c15 => ?_) (fun c15 => ?_)
      · exact absurd c15 (by decide)
      · refine lv_aload_n hx hb dX5_canGo_18 rfl (lv_at hl 0 rfl) ?_
        refine va_get (D := G) (fs := [.int (ii st), .int (ii rp), .int (ii fr), .int (ii to)]) (ci := 9) (v := .int (ii to)) (C := RX10) (T := TX10) (N := 4) hx hb hts in_X10 hown hK hP mi hM rfl 3 (by decide) (hts _ q900) (fun _ h9 => h9) rfl dX5_canGo_19 ?_
        refine lv_aload_n hx hb dX5_canGo_22 rfl (lv_at hl 0 rfl) ?_
        refine va_get (D := G) (fs := [.int (ii st), .int (ii rp), .int (ii fr), .int (ii to)]) (ci := 9) (v := .int (ii fr)) (C := RX10) (T := TX10) (N := 4) hx hb hts in_X10 hown hK hP mi hM rfl 2 (by decide) (hts _ q889) (fun _ h9 => h9) rfl dX5_canGo_23 ?_
        refine li_icmp_ne (tgt := 31) hx hb (rgi hm6 hm7) (rgi hm4 hm5) dX5_canGo_26 (by decide) (fun c26 => ?_) (fun c26 => ?_)
        · refine li_iconst hx hb dX5_canGo_31 ?_
          refine lv_istore (lv' := [(4, .int (ii 0)), (0, .ref md), (1, .ref (fd 0)), (2, .ref (sd 0)), (3, .int (ii hl0))]) hx hb dX5_canGo_32 hl (by decide) rfl (fun ls hl => ?_)
          refine li_iconst hx hb dX5_canGo_34 ?_
          refine lv_istore (lv' := [(5, .int (ii 0)), (4, .int (ii 0)), (0, .ref md), (1, .ref (fd 0)), (2, .ref (sd 0)), (3, .int (ii hl0))]) hx hb dX5_canGo_35 hl (by decide) rfl (fun ls hl => ?_)
          refine lv_iload hx hb dX5_canGo_37 (lv_at hl 0 rfl) ?_
          refine li_iconst hx hb dX5_canGo_39 ?_
          refine li_icmp_ge (tgt := 152) hx hb ⟨by decide, by decide⟩ ⟨by decide, by decide⟩ dX5_canGo_40 (by decide) (fun c40 => ?_) (fun c40 => ?_)
          · exact absurd c40 (by decide)
          · refine lv_aload_n hx hb dX5_canGo_43 rfl (lv_at hl 2 rfl) ?_
            refine va_get (D := G) (fs := [.int (ii st), .int (ii rp), .int (ii fr), .int (ii to)]) (ci := 9) (v := .int (ii st)) (C := RX10) (T := TX10) (N := 4) hx hb hts in_X10 hown hK hP mi hM rfl 0 (by decide) (hts _ q861) (fun _ h9 => h9) rfl dX5_canGo_44 ?_
            refine lv_iload hx hb dX5_canGo_47 (lv_at hl 0 rfl) ?_
            refine lv_ishr hx hb dX5_canGo_49 ?_
            refine li_topx (z := st) (ii_shr0 (by omega) (by omega)) ?_
            refine li_iconst hx hb dX5_canGo_50 ?_
            refine lv_iand hx hb dX5_canGo_51 ?_
            refine li_topx (z := st % 2) (ii_and1 (by omega) (by omega)) ?_
            refine li_iconst hx hb dX5_canGo_52 ?_
            have J53 : ∀ (y53_0 : Int) (_ : y53_0 = st % 2) (ls : Array Slot), lv_has ls 7 [(5, .int (ii 0)), (4, .int (ii 0)), (0, .ref md), (1, .ref (fd 0)), (2, .ref (sd 0)), (3, .int (ii hl0))] → W p l e (rm4 1 0 0 21) s m args below meth c s.heap [] 0 0 Q (F0 m 61 ls [.int (ii y53_0)]) := by
              intro y53_0 hj53 ls hl
              refine lv_istore (lv' := [(6, .int (ii y53_0)), (5, .int (ii 0)), (4, .int (ii 0)), (0, .ref md), (1, .ref (fd 0)), (2, .ref (sd 0)), (3, .int (ii hl0))]) hx hb dX5_canGo_61 hl (by decide) rfl (fun ls hl => ?_)
              refine lv_iload hx hb dX5_canGo_63 (lv_at hl 0 rfl) ?_
              have J65 : ∀ (_ : goP F w (st % 2) fr hl0 0) (ls : Array Slot), lv_has ls 7 [(6, .int (ii y53_0)), (5, .int (ii 0)), (4, .int (ii 0)), (0, .ref md), (1, .ref (fd 0)), (2, .ref (sd 0)), (3, .int (ii hl0))] → W p l e (rm4 1 0 0 21) s m args below meth c s.heap [] 0 0 Q (F0 m 108 ls []) := by
                intro hj65 ls hl
                refine lv_iload hx hb dX5_canGo_108 (lv_at hl 2 rfl) ?_
                refine lv_iload hx hb dX5_canGo_110 (lv_at hl 0 rfl) ?_
                have J112 : ∀ (y112_0 : Int) (_ : y112_0 = tpV F w (st % 2) to 0 ∧ 0 ≤ y112_0 ∧ y112_0 ≤ 1) (ls : Array Slot), lv_has ls 7 [(6, .int (ii y53_0)), (5, .int (ii 0)), (4, .int (ii 0)), (0, .ref md), (1, .ref (fd 0)), (2, .ref (sd 0)), (3, .int (ii hl0))] → W p l e (rm4 1 0 0 21) s m args below meth c s.heap [] 0 0 Q (F0 m 143 ls [.int (ii y112_0), .int (ii 0)]) := by
                  intro y112_0 hj112 ls hl
                  refine li_add hx hb dX5_canGo_143 ?_
                  refine lv_istore (lv' := [(4, .int (ii (0 + y112_0))), (6, .int (ii y53_0)), (5, .int (ii 0)), (0, .ref md), (1, .ref (fd 0)), (2, .ref (sd 0)), (3, .int (ii hl0))]) hx hb dX5_canGo_144 hl (by decide) rfl (fun ls hl => ?_)
                  refine li_iinc (a := 0) (lv' := [(5, .int (ii 1)), (4, .int (ii (0 + y112_0))), (6, .int (ii y53_0)), (0, .ref md), (1, .ref (fd 0)), (2, .ref (sd 0)), (3, .int (ii hl0))]) hx hb dX5_canGo_146 hl (k := 2) rfl (by decide) rfl (fun ls hl => ?_)
                  refine lv_goto (tgt := 37) hx hb dX5_canGo_149 (by decide) ?_
                  refine lv_iload hx hb dX5_canGo_37 (lv_at hl 0 rfl) ?_
                  refine li_iconst hx hb dX5_canGo_39 ?_
                  refine li_icmp_ge (tgt := 152) hx hb ⟨by decide, by decide⟩ ⟨by decide, by decide⟩ dX5_canGo_40 (by decide) (fun c40 => ?_) (fun c40 => ?_)
                  · exact absurd c40 (by decide)
                  · refine lv_aload_n hx hb dX5_canGo_43 rfl (lv_at hl 3 rfl) ?_
                    refine va_get (D := G) (fs := [.int (ii st), .int (ii rp), .int (ii fr), .int (ii to)]) (ci := 9) (v := .int (ii st)) (C := RX10) (T := TX10) (N := 4) hx hb hts in_X10 hown hK hP mi hM rfl 0 (by decide) (hts _ q861) (fun _ h9 => h9) rfl dX5_canGo_44 ?_
                    refine lv_iload hx hb dX5_canGo_47 (lv_at hl 0 rfl) ?_
                    refine lv_ishr hx hb dX5_canGo_49 ?_
                    refine li_topx (z := st / 2) (ii_shr1 (by omega) (by omega)) ?_
                    refine li_iconst hx hb dX5_canGo_50 ?_
                    refine lv_iand hx hb dX5_canGo_51 ?_
                    refine li_topx (z := (st / 2) % 2) (ii_and1 (by omega) (by omega)) ?_
                    refine li_iconst hx hb dX5_canGo_52 ?_
                    have J53_1 : ∀ (y53_1_0 : Int) (_ : y53_1_0 = (st / 2) % 2) (ls : Array Slot), lv_has ls 7 [(5, .int (ii 1)), (4, .int (ii (0 + y112_0))), (6, .int (ii y53_0)), (0, .ref md), (1, .ref (fd 0)), (2, .ref (sd 0)), (3, .int (ii hl0))] → W p l e (rm4 1 0 0 21) s m args below meth c s.heap [] 0 0 Q (F0 m 61 ls [.int (ii y53_1_0)]) := by
                      intro y53_1_0 hj53_1 ls hl
                      refine lv_istore (lv' := [(6, .int (ii y53_1_0)), (5, .int (ii 1)), (4, .int (ii (0 + y112_0))), (0, .ref md), (1, .ref (fd 0)), (2, .ref (sd 0)), (3, .int (ii hl0))]) hx hb dX5_canGo_61 hl (by decide) rfl (fun ls hl => ?_)
                      refine lv_iload hx hb dX5_canGo_63 (lv_at hl 0 rfl) ?_
                      have J65_1 : ∀ (_ : goP F w (st / 2 % 2) fr hl0 1) (ls : Array Slot), lv_has ls 7 [(6, .int (ii y53_1_0)), (5, .int (ii 1)), (4, .int (ii (0 + y112_0))), (0, .ref md), (1, .ref (fd 0)), (2, .ref (sd 0)), (3, .int (ii hl0))] → W p l e (rm4 1 0 0 21) s m args below meth c s.heap [] 0 0 Q (F0 m 108 ls []) := by
                        intro hj65_1 ls hl
                        refine lv_iload hx hb dX5_canGo_108 (lv_at hl 2 rfl) ?_
                        refine lv_iload hx hb dX5_canGo_110 (lv_at hl 0 rfl) ?_
                        have J112_1 : ∀ (y112_1_0 : Int) (_ : y112_1_0 = tpV F w (st / 2 % 2) to 1 ∧ 0 ≤ y112_1_0 ∧ y112_1_0 ≤ 1) (ls : Array Slot), lv_has ls 7 [(6, .int (ii y53_1_0)), (5, .int (ii 1)), (4, .int (ii (0 + y112_0))), (0, .ref md), (1, .ref (fd 0)), (2, .ref (sd 0)), (3, .int (ii hl0))] → W p l e (rm4 1 0 0 21) s m args below meth c s.heap [] 0 0 Q (F0 m 143 ls [.int (ii y112_1_0), .int (ii (0 + y112_0))]) := by
                          intro y112_1_0 hj112_1 ls hl
                          refine li_add hx hb dX5_canGo_143 ?_
                          refine lv_istore (lv' := [(4, .int (ii (0 + y112_0 + y112_1_0))), (6, .int (ii y53_1_0)), (5, .int (ii 1)), (0, .ref md), (1, .ref (fd 0)), (2, .ref (sd 0)), (3, .int (ii hl0))]) hx hb dX5_canGo_144 hl (by decide) rfl (fun ls hl => ?_)
                          refine li_iinc (a := 1) (lv' := [(5, .int (ii 2)), (4, .int (ii (0 + y112_0 + y112_1_0))), (6, .int (ii y53_1_0)), (0, .ref md), (1, .ref (fd 0)), (2, .ref (sd 0)), (3, .int (ii hl0))]) hx hb dX5_canGo_146 hl (k := 2) rfl (by decide) rfl (fun ls hl => ?_)
                          refine lv_goto (tgt := 37) hx hb dX5_canGo_149 (by decide) ?_
                          refine lv_iload hx hb dX5_canGo_37 (lv_at hl 0 rfl) ?_
                          refine li_iconst hx hb dX5_canGo_39 ?_
                          refine li_icmp_ge (tgt := 152) hx hb ⟨by decide, by decide⟩ ⟨by decide, by decide⟩ dX5_canGo_40 (by decide) (fun c40 => ?_) (fun c40 => ?_)
                          · exact absurd c40 (by decide)
                          · refine lv_aload_n hx hb dX5_canGo_43 rfl (lv_at hl 3 rfl) ?_
                            refine va_get (D := G) (fs := [.int (ii st), .int (ii rp), .int (ii fr), .int (ii to)]) (ci := 9) (v := .int (ii st)) (C := RX10) (T := TX10) (N := 4) hx hb hts in_X10 hown hK hP mi hM rfl 0 (by decide) (hts _ q861) (fun _ h9 => h9) rfl dX5_canGo_44 ?_
                            refine lv_iload hx hb dX5_canGo_47 (lv_at hl 0 rfl) ?_
                            refine lv_ishr hx hb dX5_canGo_49 ?_
                            refine li_topx (z := st / 4) (ii_shr2 (by omega) (by omega)) ?_
                            refine li_iconst hx hb dX5_canGo_50 ?_
                            refine lv_iand hx hb dX5_canGo_51 ?_
                            refine li_topx (z := (st / 4) % 2) (ii_and1 (by omega) (by omega)) ?_
                            refine li_iconst hx hb dX5_canGo_52 ?_
                            have J53_2 : ∀ (y53_2_0 : Int) (_ : y53_2_0 = (st / 4) % 2) (ls : Array Slot), lv_has ls 7 [(5, .int (ii 2)), (4, .int (ii (0 + y112_0 + y112_1_0))), (6, .int (ii y53_1_0)), (0, .ref md), (1, .ref (fd 0)), (2, .ref (sd 0)), (3, .int (ii hl0))] → W p l e (rm4 1 0 0 21) s m args below meth c s.heap [] 0 0 Q (F0 m 61 ls [.int (ii y53_2_0)]) := by
                              intro y53_2_0 hj53_2 ls hl
                              refine lv_istore (lv' := [(6, .int (ii y53_2_0)), (5, .int (ii 2)), (4, .int (ii (0 + y112_0 + y112_1_0))), (0, .ref md), (1, .ref (fd 0)), (2, .ref (sd 0)), (3, .int (ii hl0))]) hx hb dX5_canGo_61 hl (by decide) rfl (fun ls hl => ?_)
                              refine lv_iload hx hb dX5_canGo_63 (lv_at hl 0 rfl) ?_
                              have J65_2 : ∀ (_ : goP F w (st / 4 % 2) fr hl0 2) (ls : Array Slot), lv_has ls 7 [(6, .int (ii y53_2_0)), (5, .int (ii 2)), (4, .int (ii (0 + y112_0 + y112_1_0))), (0, .ref md), (1, .ref (fd 0)), (2, .ref (sd 0)), (3, .int (ii hl0))] → W p l e (rm4 1 0 0 21) s m args below meth c s.heap [] 0 0 Q (F0 m 108 ls []) := by
                                intro hj65_2 ls hl
                                refine lv_iload hx hb dX5_canGo_108 (lv_at hl 2 rfl) ?_
                                refine lv_iload hx hb dX5_canGo_110 (lv_at hl 0 rfl) ?_
                                have J112_2 : ∀ (y112_2_0 : Int) (_ : y112_2_0 = tpV F w (st / 4 % 2) to 2 ∧ 0 ≤ y112_2_0 ∧ y112_2_0 ≤ 1) (ls : Array Slot), lv_has ls 7 [(6, .int (ii y53_2_0)), (5, .int (ii 2)), (4, .int (ii (0 + y112_0 + y112_1_0))), (0, .ref md), (1, .ref (fd 0)), (2, .ref (sd 0)), (3, .int (ii hl0))] → W p l e (rm4 1 0 0 21) s m args below meth c s.heap [] 0 0 Q (F0 m 143 ls [.int (ii y112_2_0), .int (ii (0 + y112_0 + y112_1_0))]) := by
                                  intro y112_2_0 hj112_2 ls hl
                                  refine li_add hx hb dX5_canGo_143 ?_
                                  refine lv_istore (lv' := [(4, .int (ii (0 + y112_0 + y112_1_0 + y112_2_0))), (6, .int (ii y53_2_0)), (5, .int (ii 2)), (0, .ref md), (1, .ref (fd 0)), (2, .ref (sd 0)), (3, .int (ii hl0))]) hx hb dX5_canGo_144 hl (by decide) rfl (fun ls hl => ?_)
                                  refine li_iinc (a := 2) (lv' := [(5, .int (ii 3)), (4, .int (ii (0 + y112_0 + y112_1_0 + y112_2_0))), (6, .int (ii y53_2_0)), (0, .ref md), (1, .ref (fd 0)), (2, .ref (sd 0)), (3, .int (ii hl0))]) hx hb dX5_canGo_146 hl (k := 2) rfl (by decide) rfl (fun ls hl => ?_)
                                  refine lv_goto (tgt := 37) hx hb dX5_canGo_149 (by decide) ?_
                                  refine lv_iload hx hb dX5_canGo_37 (lv_at hl 0 rfl) ?_
                                  refine li_iconst hx hb dX5_canGo_39 ?_
                                  refine li_icmp_ge (tgt := 152) hx hb ⟨by decide, by decide⟩ ⟨by decide, by decide⟩ dX5_canGo_40 (by decide) (fun c40 => ?_) (fun c40 => ?_)
                                  · refine lv_aload_n hx hb dX5_canGo_152 rfl (lv_at hl 3 rfl) ?_
                                    refine va_get (D := G) (fs := [.int (ii st), .int (ii rp), .int (ii fr), .int (ii to)]) (ci := 9) (v := .int (ii to)) (C := RX10) (T := TX10) (N := 4) hx hb hts in_X10 hown hK hP mi hM rfl 3 (by decide) (hts _ q900) (fun _ h9 => h9) rfl dX5_canGo_153 ?_
                                    refine lv_aload_n hx hb dX5_canGo_156 rfl (lv_at hl 4 rfl) ?_
                                    refine kR (va_runV (As := []) (rest := [.int (ii to)]) ⟨hx, hb, hml, hown, hts⟩ (m_ground l G ty ws fi fd F  hF hW) (cwV 0 hts (lw_V q416 q330 q331 q77 q332) rfl rfl rfl (by decide +kernel) ⟨Nat.le_of_ble_eq_true rfl, Nat.le_of_ble_eq_true rfl⟩) (pvR (r := (RX2, TX2, 13)) hK hP hD hX (fi 0) hF.1 rfl) rfl rfl hl.1 rfl (lv_room (Nat.le_of_ble_eq_true rfl)) dX5_canGo_157 ⟨Nat.le_of_ble_eq_true rfl, Nat.le_of_ble_eq_true rfl⟩) (fun v hv => ?_)
                                    obtain ⟨z157, rfl, h157⟩ := hv
                                    refine li_icmp_eq (tgt := 177) hx hb (rgi hm6 hm7) ⟨by omega, by omega⟩ dX5_canGo_160 (by decide) (fun c160 => ?_) (fun c160 => ?_)
                                    · refine li_iconst hx hb dX5_canGo_177 ?_
                                      refine lv_goto (tgt := 182) hx hb dX5_canGo_178 (by decide) ?_
                                      exact eRz hQ hx hb hr hlk dX5_canGo_182 (.inr rfl) (⟨_, rfl, .inl ⟨rfl, c4, h12.1, h12.2, c26, hj65, hj65_1, hj65_2, by omega⟩⟩)
                                    · refine lv_iload hx hb dX5_canGo_163 (lv_at hl 1 rfl) ?_
                                      refine lv_aload_n hx hb dX5_canGo_165 rfl (lv_at hl 4 rfl) ?_
                                      refine va_get (D := G) (fs := [.ref (fd 1), .ref (fd 2), .ref (fd 3), .ref (fd 4), .int (ii (F 8 0)), .ref (fd 5), .int (ii (F 9 0)), .ref (fd 6), .int (ii (F 10 0)), .int (ii (F 11 0)), .int (ii (F 12 0)), .int (ii (F 13 0)), .ref (fd 7)]) (ci := 1) (v := .ref (fd 1)) (C := RX2) (T := TX2) (N := 13) hx hb hts in_X2 hown hK hP (fi 0) hF.1 rfl 0 (by decide) (hts _ q772) (fun _ h9 => h9) rfl dX5_canGo_166 ?_
                                      refine lv_aload_n hx hb dX5_canGo_169 rfl (lv_at hl 3 rfl) ?_
                                      refine va_get (D := G) (fs := [.int (ii st), .int (ii rp), .int (ii fr), .int (ii to)]) (ci := 9) (v := .int (ii to)) (C := RX10) (T := TX10) (N := 4) hx hb hts in_X10 hown hK hP mi hM rfl 3 (by decide) (hts _ q900) (fun _ h9 => h9) rfl dX5_canGo_170 ?_
                                      refine li_iald (g := F 0) hx hb hK hP (fi 1) 0 hF.2.1 rfl (by omega) (by omega) (by decide) dX5_canGo_173 ?_
                                      have r174 := hw0 to
                                      refine li_icmp_gt (tgt := 181) hx hb ⟨by omega, by omega⟩ (rgi r174.1 r174.2) dX5_canGo_174 (by decide) (fun c174 => ?_) (fun c174 => ?_)
                                      · refine li_iconst hx hb dX5_canGo_181 ?_
                                        exact eRz hQ hx hb hr hlk dX5_canGo_182 (.inl rfl) (⟨_, rfl, .inr ⟨rfl, fun h => by have q8 := h.2.2.2.2.2.2.2; omega⟩⟩)
                                      · refine li_iconst hx hb dX5_canGo_177 ?_
                                        refine lv_goto (tgt := 182) hx hb dX5_canGo_178 (by decide) ?_
                                        exact eRz hQ hx hb hr hlk dX5_canGo_182 (.inr rfl) (⟨_, rfl, .inl ⟨rfl, c4, h12.1, h12.2, c26, hj65, hj65_1, hj65_2, by omega⟩⟩)
                                  · exact absurd c40 (by decide)
                                refine li_if_ne (tgt := 138) hx hb ⟨by omega, by omega⟩ dX5_canGo_112 (by decide) (fun c112 => ?_) (fun c112 => ?_)
                                · refine li_iconst hx hb dX5_canGo_138 ?_
                                  refine lv_goto (tgt := 143) hx hb dX5_canGo_139 (by decide) ?_
                                  exact J112_2 _ (⟨tpV_1 (by omega), by decide, by decide⟩) ls (lv_sub hl [0, 1, 2, 3, 4, 5, 6] rfl)
                                · refine lv_iload hx hb dX5_canGo_115 (lv_at hl 1 rfl) ?_
                                  refine lv_aload_n hx hb dX5_canGo_117 rfl (lv_at hl 4 rfl) ?_
                                  refine va_get (D := G) (fs := [.ref (fd 1), .ref (fd 2), .ref (fd 3), .ref (fd 4), .int (ii (F 8 0)), .ref (fd 5), .int (ii (F 9 0)), .ref (fd 6), .int (ii (F 10 0)), .int (ii (F 11 0)), .int (ii (F 12 0)), .int (ii (F 13 0)), .ref (fd 7)]) (ci := 1) (v := .int (ii (F 9 0))) (C := RX2) (T := TX2) (N := 13) hx hb hts in_X2 hown hK hP (fi 0) hF.1 rfl 6 (by decide) (hts _ q793) (fun _ h9 => h9) rfl dX5_canGo_118 ?_
                                  refine li_icmp_ge (tgt := 142) hx hb ⟨by decide, by decide⟩ (rgi h9a h9b) dX5_canGo_121 (by decide) (fun c121 => ?_) (fun c121 => ?_)
                                  · refine li_iconst hx hb dX5_canGo_142 ?_
                                    exact J112_2 _ (⟨tpV_0 (by omega), by decide, by decide⟩) ls (lv_sub hl [0, 1, 2, 3, 4, 5, 6] rfl)
                                  · refine lv_aload_n hx hb dX5_canGo_124 rfl (lv_at hl 5 rfl) ?_
                                    refine va_get (D := G) (fs := [.ref (sd 1), .ref (sd 2)]) (ci := 2) (v := .ref (sd 1)) (C := RX3) (T := TX3) (N := 2) hx hb hts in_X3 hown hK hP (si 0) hSp.1 rfl 0 (by decide) (hts _ q655) (fun _ h9 => h9) rfl dX5_canGo_125 ?_
                                    refine lv_iload hx hb dX5_canGo_128 (lv_at hl 1 rfl) ?_
                                    refine li_iald (g := w) hx hb hK hP (si 1) 0 hSp.2.1 rfl (by decide) (by decide) (by decide) dX5_canGo_130 ?_
                                    have r131 := hs0 2
                                    refine lv_aload_n hx hb dX5_canGo_131 rfl (lv_at hl 3 rfl) ?_
                                    refine va_get (D := G) (fs := [.int (ii st), .int (ii rp), .int (ii fr), .int (ii to)]) (ci := 9) (v := .int (ii to)) (C := RX10) (T := TX10) (N := 4) hx hb hts in_X10 hown hK hP mi hM rfl 3 (by decide) (hts _ q900) (fun _ h9 => h9) rfl dX5_canGo_132 ?_
                                    refine li_icmp_ne (tgt := 142) hx hb (rgi r131.1 r131.2) (rgi hm6 hm7) dX5_canGo_135 (by decide) (fun c135 => ?_) (fun c135 => ?_)
                                    · refine li_iconst hx hb dX5_canGo_142 ?_
                                      exact J112_2 _ (⟨tpV_0 (by omega), by decide, by decide⟩) ls (lv_sub hl [0, 1, 2, 3, 4, 5, 6] rfl)
                                    · refine li_iconst hx hb dX5_canGo_138 ?_
                                      refine lv_goto (tgt := 143) hx hb dX5_canGo_139 (by decide) ?_
                                      exact J112_2 _ (⟨tpV_1 (by omega), by decide, by decide⟩) ls (lv_sub hl [0, 1, 2, 3, 4, 5, 6] rfl)
                              refine li_if_eq (tgt := 108) hx hb ⟨by omega, by omega⟩ dX5_canGo_65 (by decide) (fun c65 => ?_) (fun c65 => ?_)
                              · exact J65_2 (fun q => absurd q (by omega)) ls (lv_sub hl [0, 1, 2, 3, 4, 5, 6] rfl)
                              · refine lv_iload hx hb dX5_canGo_68 (lv_at hl 1 rfl) ?_
                                refine lv_aload_n hx hb dX5_canGo_70 rfl (lv_at hl 4 rfl) ?_
                                refine va_get (D := G) (fs := [.ref (fd 1), .ref (fd 2), .ref (fd 3), .ref (fd 4), .int (ii (F 8 0)), .ref (fd 5), .int (ii (F 9 0)), .ref (fd 6), .int (ii (F 10 0)), .int (ii (F 11 0)), .int (ii (F 12 0)), .int (ii (F 13 0)), .ref (fd 7)]) (ci := 1) (v := .int (ii (F 9 0))) (C := RX2) (T := TX2) (N := 13) hx hb hts in_X2 hown hK hP (fi 0) hF.1 rfl 6 (by decide) (hts _ q793) (fun _ h9 => h9) rfl dX5_canGo_71 ?_
                                refine li_icmp_ge (tgt := 106) hx hb ⟨by decide, by decide⟩ (rgi h9a h9b) dX5_canGo_74 (by decide) (fun c74 => ?_) (fun c74 => ?_)
                                · refine li_iconst hx hb dX5_canGo_106 ?_
                                  exact eRz hQ hx hb hr hlk dX5_canGo_107 (.inl rfl) (⟨_, rfl, .inr ⟨rfl, fun h => by obtain ⟨a, b, c⟩ := h.2.2.2.2.2.2.1 (by omega); omega⟩⟩)
                                · refine lv_aload_n hx hb dX5_canGo_77 rfl (lv_at hl 5 rfl) ?_
                                  refine va_get (D := G) (fs := [.ref (sd 1), .ref (sd 2)]) (ci := 2) (v := .ref (sd 1)) (C := RX3) (T := TX3) (N := 2) hx hb hts in_X3 hown hK hP (si 0) hSp.1 rfl 0 (by decide) (hts _ q655) (fun _ h9 => h9) rfl dX5_canGo_78 ?_
                                  refine lv_iload hx hb dX5_canGo_81 (lv_at hl 1 rfl) ?_
                                  refine li_iald (g := w) hx hb hK hP (si 1) 0 hSp.2.1 rfl (by decide) (by decide) (by decide) dX5_canGo_83 ?_
                                  have r84 := hs0 2
                                  refine lv_aload_n hx hb dX5_canGo_84 rfl (lv_at hl 3 rfl) ?_
                                  refine va_get (D := G) (fs := [.int (ii st), .int (ii rp), .int (ii fr), .int (ii to)]) (ci := 9) (v := .int (ii fr)) (C := RX10) (T := TX10) (N := 4) hx hb hts in_X10 hown hK hP mi hM rfl 2 (by decide) (hts _ q889) (fun _ h9 => h9) rfl dX5_canGo_85 ?_
                                  refine li_icmp_ne (tgt := 106) hx hb (rgi r84.1 r84.2) (rgi hm4 hm5) dX5_canGo_88 (by decide) (fun c88 => ?_) (fun c88 => ?_)
                                  · refine li_iconst hx hb dX5_canGo_106 ?_
                                    exact eRz hQ hx hb hr hlk dX5_canGo_107 (.inl rfl) (⟨_, rfl, .inr ⟨rfl, fun h => by obtain ⟨a, b, c⟩ := h.2.2.2.2.2.2.1 (by omega); omega⟩⟩)
                                  · refine lv_iload_n hx hb dX5_canGo_91 rfl (lv_at hl 6 rfl) ?_
                                    refine li_if_eq (tgt := 108) hx hb ⟨by omega, by omega⟩ dX5_canGo_92 (by decide) (fun c92 => ?_) (fun c92 => ?_)
                                    · exact J65_2 (fun q => ⟨by omega, by omega, by omega⟩) ls (lv_sub hl [0, 1, 2, 3, 4, 5, 6] rfl)
                                    · refine lv_aload_n hx hb dX5_canGo_95 rfl (lv_at hl 4 rfl) ?_
                                      refine va_get (D := G) (fs := [.ref (fd 1), .ref (fd 2), .ref (fd 3), .ref (fd 4), .int (ii (F 8 0)), .ref (fd 5), .int (ii (F 9 0)), .ref (fd 6), .int (ii (F 10 0)), .int (ii (F 11 0)), .int (ii (F 12 0)), .int (ii (F 13 0)), .ref (fd 7)]) (ci := 1) (v := .ref (fd 5)) (C := RX2) (T := TX2) (N := 13) hx hb hts in_X2 hown hK hP (fi 0) hF.1 rfl 5 (by decide) (hts _ q788) (fun _ h9 => h9) rfl dX5_canGo_96 ?_
                                      refine lv_iload hx hb dX5_canGo_99 (lv_at hl 1 rfl) ?_
                                      refine li_iald (g := F 4) hx hb hK hP (fi 5) 0 hF.2.2.2.2.2.1 rfl (by decide) (by decide) (by decide) dX5_canGo_101 ?_
                                      have r102 := hw4 2
                                      refine li_iconst hx hb dX5_canGo_102 ?_
                                      refine li_icmp_ne (tgt := 108) hx hb (rgi r102.1 r102.2) ⟨by decide, by decide⟩ dX5_canGo_103 (by decide) (fun c103 => ?_) (fun c103 => ?_)
                                      · exact J65_2 (fun q => ⟨by omega, by omega, by omega⟩) ls (lv_sub hl [0, 1, 2, 3, 4, 5, 6] rfl)
                                      · refine li_iconst hx hb dX5_canGo_106 ?_
                                        exact eRz hQ hx hb hr hlk dX5_canGo_107 (.inl rfl) (⟨_, rfl, .inr ⟨rfl, fun h => by obtain ⟨a, b, c⟩ := h.2.2.2.2.2.2.1 (by omega); omega⟩⟩)
                            refine li_icmp_ne (tgt := 60) hx hb ⟨by omega, by omega⟩ ⟨by decide, by decide⟩ dX5_canGo_53 (by decide) (fun c53 => ?_) (fun c53 => ?_)
                            · refine li_iconst hx hb dX5_canGo_60 ?_
                              exact J53_2 _ (by omega) ls (lv_sub hl [0, 1, 2, 3, 4, 5, 6] rfl)
                            · refine li_iconst hx hb dX5_canGo_56 ?_
                              refine lv_goto (tgt := 61) hx hb dX5_canGo_57 (by decide) ?_
                              exact J53_2 _ (by omega) ls (lv_sub hl [0, 1, 2, 3, 4, 5, 6] rfl)
                        refine li_if_ne (tgt := 138) hx hb ⟨by omega, by omega⟩ dX5_canGo_112 (by decide) (fun c112 => ?_) (fun c112 => ?_)
                        · refine li_iconst hx hb dX5_canGo_138 ?_
                          refine lv_goto (tgt := 143) hx hb dX5_canGo_139 (by decide) ?_
                          exact J112_1 _ (⟨tpV_1 (by omega), by decide, by decide⟩) ls (lv_sub hl [0, 1, 2, 3, 4, 5, 6] rfl)
                        · refine lv_iload hx hb dX5_canGo_115 (lv_at hl 1 rfl) ?_
                          refine lv_aload_n hx hb dX5_canGo_117 rfl (lv_at hl 4 rfl) ?_
                          refine va_get (D := G) (fs := [.ref (fd 1), .ref (fd 2), .ref (fd 3), .ref (fd 4), .int (ii (F 8 0)), .ref (fd 5), .int (ii (F 9 0)), .ref (fd 6), .int (ii (F 10 0)), .int (ii (F 11 0)), .int (ii (F 12 0)), .int (ii (F 13 0)), .ref (fd 7)]) (ci := 1) (v := .int (ii (F 9 0))) (C := RX2) (T := TX2) (N := 13) hx hb hts in_X2 hown hK hP (fi 0) hF.1 rfl 6 (by decide) (hts _ q793) (fun _ h9 => h9) rfl dX5_canGo_118 ?_
                          refine li_icmp_ge (tgt := 142) hx hb ⟨by decide, by decide⟩ (rgi h9a h9b) dX5_canGo_121 (by decide) (fun c121 => ?_) (fun c121 => ?_)
                          · refine li_iconst hx hb dX5_canGo_142 ?_
                            exact J112_1 _ (⟨tpV_0 (by omega), by decide, by decide⟩) ls (lv_sub hl [0, 1, 2, 3, 4, 5, 6] rfl)
                          · refine lv_aload_n hx hb dX5_canGo_124 rfl (lv_at hl 5 rfl) ?_
                            refine va_get (D := G) (fs := [.ref (sd 1), .ref (sd 2)]) (ci := 2) (v := .ref (sd 1)) (C := RX3) (T := TX3) (N := 2) hx hb hts in_X3 hown hK hP (si 0) hSp.1 rfl 0 (by decide) (hts _ q655) (fun _ h9 => h9) rfl dX5_canGo_125 ?_
                            refine lv_iload hx hb dX5_canGo_128 (lv_at hl 1 rfl) ?_
                            refine li_iald (g := w) hx hb hK hP (si 1) 0 hSp.2.1 rfl (by decide) (by decide) (by decide) dX5_canGo_130 ?_
                            have r131 := hs0 1
                            refine lv_aload_n hx hb dX5_canGo_131 rfl (lv_at hl 3 rfl) ?_
                            refine va_get (D := G) (fs := [.int (ii st), .int (ii rp), .int (ii fr), .int (ii to)]) (ci := 9) (v := .int (ii to)) (C := RX10) (T := TX10) (N := 4) hx hb hts in_X10 hown hK hP mi hM rfl 3 (by decide) (hts _ q900) (fun _ h9 => h9) rfl dX5_canGo_132 ?_
                            refine li_icmp_ne (tgt := 142) hx hb (rgi r131.1 r131.2) (rgi hm6 hm7) dX5_canGo_135 (by decide) (fun c135 => ?_) (fun c135 => ?_)
                            · refine li_iconst hx hb dX5_canGo_142 ?_
                              exact J112_1 _ (⟨tpV_0 (by omega), by decide, by decide⟩) ls (lv_sub hl [0, 1, 2, 3, 4, 5, 6] rfl)
                            · refine li_iconst hx hb dX5_canGo_138 ?_
                              refine lv_goto (tgt := 143) hx hb dX5_canGo_139 (by decide) ?_
                              exact J112_1 _ (⟨tpV_1 (by omega), by decide, by decide⟩) ls (lv_sub hl [0, 1, 2, 3, 4, 5, 6] rfl)
                      refine li_if_eq (tgt := 108) hx hb ⟨by omega, by omega⟩ dX5_canGo_65 (by decide) (fun c65 => ?_) (fun c65 => ?_)
                      · exact J65_1 (fun q => absurd q (by omega)) ls (lv_sub hl [0, 1, 2, 3, 4, 5, 6] rfl)
                      · refine lv_iload hx hb dX5_canGo_68 (lv_at hl 1 rfl) ?_
                        refine lv_aload_n hx hb dX5_canGo_70 rfl (lv_at hl 4 rfl) ?_
                        refine va_get (D := G) (fs := [.ref (fd 1), .ref (fd 2), .ref (fd 3), .ref (fd 4), .int (ii (F 8 0)), .ref (fd 5), .int (ii (F 9 0)), .ref (fd 6), .int (ii (F 10 0)), .int (ii (F 11 0)), .int (ii (F 12 0)), .int (ii (F 13 0)), .ref (fd 7)]) (ci := 1) (v := .int (ii (F 9 0))) (C := RX2) (T := TX2) (N := 13) hx hb hts in_X2 hown hK hP (fi 0) hF.1 rfl 6 (by decide) (hts _ q793) (fun _ h9 => h9) rfl dX5_canGo_71 ?_
                        refine li_icmp_ge (tgt := 106) hx hb ⟨by decide, by decide⟩ (rgi h9a h9b) dX5_canGo_74 (by decide) (fun c74 => ?_) (fun c74 => ?_)
                        · refine li_iconst hx hb dX5_canGo_106 ?_
                          exact eRz hQ hx hb hr hlk dX5_canGo_107 (.inl rfl) (⟨_, rfl, .inr ⟨rfl, fun h => by obtain ⟨a, b, c⟩ := h.2.2.2.2.2.1 (by omega); omega⟩⟩)
                        · refine lv_aload_n hx hb dX5_canGo_77 rfl (lv_at hl 5 rfl) ?_
                          refine va_get (D := G) (fs := [.ref (sd 1), .ref (sd 2)]) (ci := 2) (v := .ref (sd 1)) (C := RX3) (T := TX3) (N := 2) hx hb hts in_X3 hown hK hP (si 0) hSp.1 rfl 0 (by decide) (hts _ q655) (fun _ h9 => h9) rfl dX5_canGo_78 ?_
                          refine lv_iload hx hb dX5_canGo_81 (lv_at hl 1 rfl) ?_
                          refine li_iald (g := w) hx hb hK hP (si 1) 0 hSp.2.1 rfl (by decide) (by decide) (by decide) dX5_canGo_83 ?_
                          have r84 := hs0 1
                          refine lv_aload_n hx hb dX5_canGo_84 rfl (lv_at hl 3 rfl) ?_
                          refine va_get (D := G) (fs := [.int (ii st), .int (ii rp), .int (ii fr), .int (ii to)]) (ci := 9) (v := .int (ii fr)) (C := RX10) (T := TX10) (N := 4) hx hb hts in_X10 hown hK hP mi hM rfl 2 (by decide) (hts _ q889) (fun _ h9 => h9) rfl dX5_canGo_85 ?_
                          refine li_icmp_ne (tgt := 106) hx hb (rgi r84.1 r84.2) (rgi hm4 hm5) dX5_canGo_88 (by decide) (fun c88 => ?_) (fun c88 => ?_)
                          · refine li_iconst hx hb dX5_canGo_106 ?_
                            exact eRz hQ hx hb hr hlk dX5_canGo_107 (.inl rfl) (⟨_, rfl, .inr ⟨rfl, fun h => by obtain ⟨a, b, c⟩ := h.2.2.2.2.2.1 (by omega); omega⟩⟩)
                          · refine lv_iload_n hx hb dX5_canGo_91 rfl (lv_at hl 6 rfl) ?_
                            refine li_if_eq (tgt := 108) hx hb ⟨by omega, by omega⟩ dX5_canGo_92 (by decide) (fun c92 => ?_) (fun c92 => ?_)
                            · exact J65_1 (fun q => ⟨by omega, by omega, by omega⟩) ls (lv_sub hl [0, 1, 2, 3, 4, 5, 6] rfl)
                            · refine lv_aload_n hx hb dX5_canGo_95 rfl (lv_at hl 4 rfl) ?_
                              refine va_get (D := G) (fs := [.ref (fd 1), .ref (fd 2), .ref (fd 3), .ref (fd 4), .int (ii (F 8 0)), .ref (fd 5), .int (ii (F 9 0)), .ref (fd 6), .int (ii (F 10 0)), .int (ii (F 11 0)), .int (ii (F 12 0)), .int (ii (F 13 0)), .ref (fd 7)]) (ci := 1) (v := .ref (fd 5)) (C := RX2) (T := TX2) (N := 13) hx hb hts in_X2 hown hK hP (fi 0) hF.1 rfl 5 (by decide) (hts _ q788) (fun _ h9 => h9) rfl dX5_canGo_96 ?_
                              refine lv_iload hx hb dX5_canGo_99 (lv_at hl 1 rfl) ?_
                              refine li_iald (g := F 4) hx hb hK hP (fi 5) 0 hF.2.2.2.2.2.1 rfl (by decide) (by decide) (by decide) dX5_canGo_101 ?_
                              have r102 := hw4 1
                              refine li_iconst hx hb dX5_canGo_102 ?_
                              refine li_icmp_ne (tgt := 108) hx hb (rgi r102.1 r102.2) ⟨by decide, by decide⟩ dX5_canGo_103 (by decide) (fun c103 => ?_) (fun c103 => ?_)
                              · exact J65_1 (fun q => ⟨by omega, by omega, by omega⟩) ls (lv_sub hl [0, 1, 2, 3, 4, 5, 6] rfl)
                              · refine li_iconst hx hb dX5_canGo_106 ?_
                                exact eRz hQ hx hb hr hlk dX5_canGo_107 (.inl rfl) (⟨_, rfl, .inr ⟨rfl, fun h => by obtain ⟨a, b, c⟩ := h.2.2.2.2.2.1 (by omega); omega⟩⟩)
                    refine li_icmp_ne (tgt := 60) hx hb ⟨by omega, by omega⟩ ⟨by decide, by decide⟩ dX5_canGo_53 (by decide) (fun c53 => ?_) (fun c53 => ?_)
                    · refine li_iconst hx hb dX5_canGo_60 ?_
                      exact J53_1 _ (by omega) ls (lv_sub hl [0, 1, 2, 3, 4, 5, 6] rfl)
                    · refine li_iconst hx hb dX5_canGo_56 ?_
                      refine lv_goto (tgt := 61) hx hb dX5_canGo_57 (by decide) ?_
                      exact J53_1 _ (by omega) ls (lv_sub hl [0, 1, 2, 3, 4, 5, 6] rfl)
                refine li_if_ne (tgt := 138) hx hb ⟨by omega, by omega⟩ dX5_canGo_112 (by decide) (fun c112 => ?_) (fun c112 => ?_)
                · refine li_iconst hx hb dX5_canGo_138 ?_
                  refine lv_goto (tgt := 143) hx hb dX5_canGo_139 (by decide) ?_
                  exact J112 _ (⟨tpV_1 (by omega), by decide, by decide⟩) ls (lv_sub hl [0, 1, 2, 3, 4, 5, 6] rfl)
                · refine lv_iload hx hb dX5_canGo_115 (lv_at hl 1 rfl) ?_
                  refine lv_aload_n hx hb dX5_canGo_117 rfl (lv_at hl 4 rfl) ?_
                  refine va_get (D := G) (fs := [.ref (fd 1), .ref (fd 2), .ref (fd 3), .ref (fd 4), .int (ii (F 8 0)), .ref (fd 5), .int (ii (F 9 0)), .ref (fd 6), .int (ii (F 10 0)), .int (ii (F 11 0)), .int (ii (F 12 0)), .int (ii (F 13 0)), .ref (fd 7)]) (ci := 1) (v := .int (ii (F 9 0))) (C := RX2) (T := TX2) (N := 13) hx hb hts in_X2 hown hK hP (fi 0) hF.1 rfl 6 (by decide) (hts _ q793) (fun _ h9 => h9) rfl dX5_canGo_118 ?_
                  refine li_icmp_ge (tgt := 142) hx hb ⟨by decide, by decide⟩ (rgi h9a h9b) dX5_canGo_121 (by decide) (fun c121 => ?_) (fun c121 => ?_)
                  · refine li_iconst hx hb dX5_canGo_142 ?_
                    exact J112 _ (⟨tpV_0 (by omega), by decide, by decide⟩) ls (lv_sub hl [0, 1, 2, 3, 4, 5, 6] rfl)
                  · refine lv_aload_n hx hb dX5_canGo_124 rfl (lv_at hl 5 rfl) ?_
                    refine va_get (D := G) (fs := [.ref (sd 1), .ref (sd 2)]) (ci := 2) (v := .ref (sd 1)) (C := RX3) (T := TX3) (N := 2) hx hb hts in_X3 hown hK hP (si 0) hSp.1 rfl 0 (by decide) (hts _ q655) (fun _ h9 => h9) rfl dX5_canGo_125 ?_
                    refine lv_iload hx hb dX5_canGo_128 (lv_at hl 1 rfl) ?_
                    refine li_iald (g := w) hx hb hK hP (si 1) 0 hSp.2.1 rfl (by decide) (by decide) (by decide) dX5_canGo_130 ?_
                    have r131 := hs0 0
                    refine lv_aload_n hx hb dX5_canGo_131 rfl (lv_at hl 3 rfl) ?_
                    refine va_get (D := G) (fs := [.int (ii st), .int (ii rp), .int (ii fr), .int (ii to)]) (ci := 9) (v := .int (ii to)) (C := RX10) (T := TX10) (N := 4) hx hb hts in_X10 hown hK hP mi hM rfl 3 (by decide) (hts _ q900) (fun _ h9 => h9) rfl dX5_canGo_132 ?_
                    refine li_icmp_ne (tgt := 142) hx hb (rgi r131.1 r131.2) (rgi hm6 hm7) dX5_canGo_135 (by decide) (fun c135 => ?_) (fun c135 => ?_)
                    · refine li_iconst hx hb dX5_canGo_142 ?_
                      exact J112 _ (⟨tpV_0 (by omega), by decide, by decide⟩) ls (lv_sub hl [0, 1, 2, 3, 4, 5, 6] rfl)
                    · refine li_iconst hx hb dX5_canGo_138 ?_
                      refine lv_goto (tgt := 143) hx hb dX5_canGo_139 (by decide) ?_
                      exact J112 _ (⟨tpV_1 (by omega), by decide, by decide⟩) ls (lv_sub hl [0, 1, 2, 3, 4, 5, 6] rfl)
              refine li_if_eq (tgt := 108) hx hb ⟨by omega, by omega⟩ dX5_canGo_65 (by decide) (fun c65 => ?_) (fun c65 => ?_)
              · exact J65 (fun q => absurd q (by omega)) ls (lv_sub hl [0, 1, 2, 3, 4, 5, 6] rfl)
              · refine lv_iload hx hb dX5_canGo_68 (lv_at hl 1 rfl) ?_
                refine lv_aload_n hx hb dX5_canGo_70 rfl (lv_at hl 4 rfl) ?_
                refine va_get (D := G) (fs := [.ref (fd 1), .ref (fd 2), .ref (fd 3), .ref (fd 4), .int (ii (F 8 0)), .ref (fd 5), .int (ii (F 9 0)), .ref (fd 6), .int (ii (F 10 0)), .int (ii (F 11 0)), .int (ii (F 12 0)), .int (ii (F 13 0)), .ref (fd 7)]) (ci := 1) (v := .int (ii (F 9 0))) (C := RX2) (T := TX2) (N := 13) hx hb hts in_X2 hown hK hP (fi 0) hF.1 rfl 6 (by decide) (hts _ q793) (fun _ h9 => h9) rfl dX5_canGo_71 ?_
                refine li_icmp_ge (tgt := 106) hx hb ⟨by decide, by decide⟩ (rgi h9a h9b) dX5_canGo_74 (by decide) (fun c74 => ?_) (fun c74 => ?_)
                · refine li_iconst hx hb dX5_canGo_106 ?_
                  exact eRz hQ hx hb hr hlk dX5_canGo_107 (.inl rfl) (⟨_, rfl, .inr ⟨rfl, fun h => by obtain ⟨a, b, c⟩ := h.2.2.2.2.1 (by omega); omega⟩⟩)
                · refine lv_aload_n hx hb dX5_canGo_77 rfl (lv_at hl 5 rfl) ?_
                  refine va_get (D := G) (fs := [.ref (sd 1), .ref (sd 2)]) (ci := 2) (v := .ref (sd 1)) (C := RX3) (T := TX3) (N := 2) hx hb hts in_X3 hown hK hP (si 0) hSp.1 rfl 0 (by decide) (hts _ q655) (fun _ h9 => h9) rfl dX5_canGo_78 ?_
                  refine lv_iload hx hb dX5_canGo_81 (lv_at hl 1 rfl) ?_
                  refine li_iald (g := w) hx hb hK hP (si 1) 0 hSp.2.1 rfl (by decide) (by decide) (by decide) dX5_canGo_83 ?_
                  have r84 := hs0 0
                  refine lv_aload_n hx hb dX5_canGo_84 rfl (lv_at hl 3 rfl) ?_
                  refine va_get (D := G) (fs := [.int (ii st), .int (ii rp), .int (ii fr), .int (ii to)]) (ci := 9) (v := .int (ii fr)) (C := RX10) (T := TX10) (N := 4) hx hb hts in_X10 hown hK hP mi hM rfl 2 (by decide) (hts _ q889) (fun _ h9 => h9) rfl dX5_canGo_85 ?_
                  refine li_icmp_ne (tgt := 106) hx hb (rgi r84.1 r84.2) (rgi hm4 hm5) dX5_canGo_88 (by decide) (fun c88 => ?_) (fun c88 => ?_)
                  · refine li_iconst hx hb dX5_canGo_106 ?_
                    exact eRz hQ hx hb hr hlk dX5_canGo_107 (.inl rfl) (⟨_, rfl, .inr ⟨rfl, fun h => by obtain ⟨a, b, c⟩ := h.2.2.2.2.1 (by omega); omega⟩⟩)
                  · refine lv_iload_n hx hb dX5_canGo_91 rfl (lv_at hl 6 rfl) ?_
                    refine li_if_eq (tgt := 108) hx hb ⟨by omega, by omega⟩ dX5_canGo_92 (by decide) (fun c92 => ?_) (fun c92 => ?_)
                    · exact J65 (fun q => ⟨by omega, by omega, by omega⟩) ls (lv_sub hl [0, 1, 2, 3, 4, 5, 6] rfl)
                    · refine lv_aload_n hx hb dX5_canGo_95 rfl (lv_at hl 4 rfl) ?_
                      refine va_get (D := G) (fs := [.ref (fd 1), .ref (fd 2), .ref (fd 3), .ref (fd 4), .int (ii (F 8 0)), .ref (fd 5), .int (ii (F 9 0)), .ref (fd 6), .int (ii (F 10 0)), .int (ii (F 11 0)), .int (ii (F 12 0)), .int (ii (F 13 0)), .ref (fd 7)]) (ci := 1) (v := .ref (fd 5)) (C := RX2) (T := TX2) (N := 13) hx hb hts in_X2 hown hK hP (fi 0) hF.1 rfl 5 (by decide) (hts _ q788) (fun _ h9 => h9) rfl dX5_canGo_96 ?_
                      refine lv_iload hx hb dX5_canGo_99 (lv_at hl 1 rfl) ?_
                      refine li_iald (g := F 4) hx hb hK hP (fi 5) 0 hF.2.2.2.2.2.1 rfl (by decide) (by decide) (by decide) dX5_canGo_101 ?_
                      have r102 := hw4 0
                      refine li_iconst hx hb dX5_canGo_102 ?_
                      refine li_icmp_ne (tgt := 108) hx hb (rgi r102.1 r102.2) ⟨by decide, by decide⟩ dX5_canGo_103 (by decide) (fun c103 => ?_) (fun c103 => ?_)
                      · exact J65 (fun q => ⟨by omega, by omega, by omega⟩) ls (lv_sub hl [0, 1, 2, 3, 4, 5, 6] rfl)
                      · refine li_iconst hx hb dX5_canGo_106 ?_
                        exact eRz hQ hx hb hr hlk dX5_canGo_107 (.inl rfl) (⟨_, rfl, .inr ⟨rfl, fun h => by obtain ⟨a, b, c⟩ := h.2.2.2.2.1 (by omega); omega⟩⟩)
            refine li_icmp_ne (tgt := 60) hx hb ⟨by omega, by omega⟩ ⟨by decide, by decide⟩ dX5_canGo_53 (by decide) (fun c53 => ?_) (fun c53 => ?_)
            · refine li_iconst hx hb dX5_canGo_60 ?_
              exact J53 _ (by omega) ls (lv_sub hl [0, 1, 2, 3, 4, 5] rfl)
            · refine li_iconst hx hb dX5_canGo_56 ?_
              refine lv_goto (tgt := 61) hx hb dX5_canGo_57 (by decide) ?_
              exact J53 _ (by omega) ls (lv_sub hl [0, 1, 2, 3, 4, 5] rfl)
        · refine li_iconst hx hb dX5_canGo_29 ?_
          exact eRz hQ hx hb hr hlk dX5_canGo_30 (.inl rfl) (⟨_, rfl, .inr ⟨rfl, fun h => by obtain ⟨q1, q2, q3, q4, q5, q6, q7, q8⟩ := h; omega⟩⟩)
    · refine li_if_eq (tgt := 29) hx hb ⟨by decide, by decide⟩ dX5_canGo_15 (by decide) (fun c15 => ?_) (fun c15 => ?_)
      · refine li_iconst hx hb dX5_canGo_29 ?_
        exact eRz hQ hx hb hr hlk dX5_canGo_30 (.inl rfl) (⟨_, rfl, .inr ⟨rfl, fun h => by obtain ⟨q1, q2, q3, q4, q5, q6, q7, q8⟩ := h; omega⟩⟩)
      · exact absurd c15 (by decide)
set_option maxHeartbeats 4000000 in
theorem m_hasRope_6 (l : Launch) (G : va_G) (ty : Nat → ClassId) (ws : va_W) (fi fd : Nat → Nat) (F : mem) (si sd : Nat → Nat) (w q : Int → Int) (mi md : Nat) (st rp fr to : Int) (rr : Int) (hF : faceAt ty ws fi fd F) (hW : wfF F) (hSp : spotAt ty ws si sd w q) (hWS : wfS w q) (hM : moveAt ws 5 mi md st rp fr to) (hm : 0 ≤ st ∧ st ≤ 7 ∧ 0 ≤ rp ∧ rp ≤ 1 ∧ 0 ≤ fr ∧ fr ≤ 4 ∧ 0 ≤ to ∧ to ≤ 4) (hr0 : 0 ≤ rr ∧ rr ≤ 1) : cR l yX5_hasRope (ws_ yX5_hasRope cX5_hasRope 4 (some .boolean)) (rm4 0 0 0 0) G ty (ws) [.ref md, .ref (fd 0), .ref (sd 0), .int (ii rr)] (fun r => ∃ z : Int, r = some (.int (ii z)) ∧ ((z = 1 ∧ okRope F q rr fr) ∨ (z = 0 ∧ ¬ okRope F q rr fr))) := by
  refine cR.of (by decide) (Nat.le_of_ble_eq_true rfl) ?_
  intro p e s m args below meth c Q hQ hx hb hr hml hown hlk hts hK hP hD hX ls hl
  have hl : lv_has ls 4 [(0, .ref md), (1, .ref (fd 0)), (2, .ref (sd 0)), (3, .int (ii rr))] := hl
  obtain ⟨hw0, hw1, hw2, hw3, hw4, hw5, h8a, h8b, h9a, h9b, h10a, h10b⟩ := id hW
  obtain ⟨hs0, hs1⟩ := id hWS
  obtain ⟨hm0, hm1, hm2, hm3, hm4, hm5, hm6, hm7⟩ := id hm
  refine lv_iload_n hx hb dX5_hasRope_0 rfl (lv_at hl 3 rfl) ?_
  refine lv_aload_n hx hb dX5_hasRope_1 rfl (lv_at hl 1 rfl) ?_
  refine va_get (D := G) (fs := [.ref (fd 1), .ref (fd 2), .ref (fd 3), .ref (fd 4), .int (ii (F 8 0)), .ref (fd 5), .int (ii (F 9 0)), .ref (fd 6), .int (ii (F 10 0)), .int (ii (F 11 0)), .int (ii (F 12 0)), .int (ii (F 13 0)), .ref (fd 7)]) (ci := 1) (v := .int (ii (F 10 0))) (C := RX2) (T := TX2) (N := 13) hx hb hts in_X2 hown hK hP (fi 0) hF.1 rfl 8 (by decide) (hts _ q802) (fun _ h9 => h9) rfl dX5_hasRope_2 ?_
  refine li_icmp_ge (tgt := 25) hx hb ⟨by omega, by omega⟩ (rgi h10a h10b) dX5_hasRope_5 (by decide) (fun c5 => ?_) (fun c5 => ?_)
  · refine li_iconst hx hb dX5_hasRope_25 ?_
    exact eRz hQ hx hb hr hlk dX5_hasRope_26 (.inl rfl) (⟨_, rfl, by unfold okRope; omega⟩)
  · refine lv_aload_n hx hb dX5_hasRope_8 rfl (lv_at hl 2 rfl) ?_
    refine va_get (D := G) (fs := [.ref (sd 1), .ref (sd 2)]) (ci := 2) (v := .ref (sd 2)) (C := RX3) (T := TX3) (N := 2) hx hb hts in_X3 hown hK hP (si 0) hSp.1 rfl 1 (by decide) (hts _ q663) (fun _ h9 => h9) rfl dX5_hasRope_9 ?_
    refine lv_iload_n hx hb dX5_hasRope_12 rfl (lv_at hl 3 rfl) ?_
    refine li_iald (g := q) hx hb hK hP (si 2) 0 hSp.2.2 rfl (by omega) (by omega) (by decide) dX5_hasRope_13 ?_
    have r14 := hs1 rr
    refine lv_aload_n hx hb dX5_hasRope_14 rfl (lv_at hl 0 rfl) ?_
    refine va_get (D := G) (fs := [.int (ii st), .int (ii rp), .int (ii fr), .int (ii to)]) (ci := 5) (v := .int (ii fr)) (C := RX6) (T := TX6) (N := 4) hx hb hts in_X6 hown hK hP mi hM rfl 2 (by decide) (hts _ q889) (fun _ h9 => h9) rfl dX5_hasRope_15 ?_
    refine li_icmp_ne (tgt := 25) hx hb (rgi r14.1 r14.2) (rgi hm4 hm5) dX5_hasRope_18 (by decide) (fun c18 => ?_) (fun c18 => ?_)
    · refine li_iconst hx hb dX5_hasRope_25 ?_
      exact eRz hQ hx hb hr hlk dX5_hasRope_26 (.inl rfl) (⟨_, rfl, by unfold okRope; omega⟩)
    · refine li_iconst hx hb dX5_hasRope_21 ?_
      refine lv_goto (tgt := 26) hx hb dX5_hasRope_22 (by decide) ?_
      exact eRz hQ hx hb hr hlk dX5_hasRope_26 (.inr rfl) (⟨_, rfl, by unfold okRope; omega⟩)
set_option maxHeartbeats 4000000 in
theorem m_hasRope_7 (l : Launch) (G : va_G) (ty : Nat → ClassId) (ws : va_W) (fi fd : Nat → Nat) (F : mem) (si sd : Nat → Nat) (w q : Int → Int) (mi md : Nat) (st rp fr to : Int) (rr : Int) (hF : faceAt ty ws fi fd F) (hW : wfF F) (hSp : spotAt ty ws si sd w q) (hWS : wfS w q) (hM : moveAt ws 6 mi md st rp fr to) (hm : 0 ≤ st ∧ st ≤ 7 ∧ 0 ≤ rp ∧ rp ≤ 1 ∧ 0 ≤ fr ∧ fr ≤ 4 ∧ 0 ≤ to ∧ to ≤ 4) (hr0 : 0 ≤ rr ∧ rr ≤ 1) : cR l yX5_hasRope (ws_ yX5_hasRope cX5_hasRope 4 (some .boolean)) (rm4 0 0 0 0) G ty (ws) [.ref md, .ref (fd 0), .ref (sd 0), .int (ii rr)] (fun r => ∃ z : Int, r = some (.int (ii z)) ∧ ((z = 1 ∧ okRope F q rr fr) ∨ (z = 0 ∧ ¬ okRope F q rr fr))) := by
  refine cR.of (by decide) (Nat.le_of_ble_eq_true rfl) ?_
  intro p e s m args below meth c Q hQ hx hb hr hml hown hlk hts hK hP hD hX ls hl
  have hl : lv_has ls 4 [(0, .ref md), (1, .ref (fd 0)), (2, .ref (sd 0)), (3, .int (ii rr))] := hl
  obtain ⟨hw0, hw1, hw2, hw3, hw4, hw5, h8a, h8b, h9a, h9b, h10a, h10b⟩ := id hW
  obtain ⟨hs0, hs1⟩ := id hWS
  obtain ⟨hm0, hm1, hm2, hm3, hm4, hm5, hm6, hm7⟩ := id hm
  refine lv_iload_n hx hb dX5_hasRope_0 rfl (lv_at hl 3 rfl) ?_
  refine lv_aload_n hx hb dX5_hasRope_1 rfl (lv_at hl 1 rfl) ?_
  refine va_get (D := G) (fs := [.ref (fd 1), .ref (fd 2), .ref (fd 3), .ref (fd 4), .int (ii (F 8 0)), .ref (fd 5), .int (ii (F 9 0)), .ref (fd 6), .int (ii (F 10 0)), .int (ii (F 11 0)), .int (ii (F 12 0)), .int (ii (F 13 0)), .ref (fd 7)]) (ci := 1) (v := .int (ii (F 10 0))) (C := RX2) (T := TX2) (N := 13) hx hb hts in_X2 hown hK hP (fi 0) hF.1 rfl 8 (by decide) (hts _ q802) (fun _ h9 => h9) rfl dX5_hasRope_2 ?_
  refine li_icmp_ge (tgt := 25) hx hb ⟨by omega, by omega⟩ (rgi h10a h10b) dX5_hasRope_5 (by decide) (fun c5 => ?_) (fun c5 => ?_)
  · refine li_iconst hx hb dX5_hasRope_25 ?_
    exact eRz hQ hx hb hr hlk dX5_hasRope_26 (.inl rfl) (⟨_, rfl, by unfold okRope; omega⟩)
  · refine lv_aload_n hx hb dX5_hasRope_8 rfl (lv_at hl 2 rfl) ?_
    refine va_get (D := G) (fs := [.ref (sd 1), .ref (sd 2)]) (ci := 2) (v := .ref (sd 2)) (C := RX3) (T := TX3) (N := 2) hx hb hts in_X3 hown hK hP (si 0) hSp.1 rfl 1 (by decide) (hts _ q663) (fun _ h9 => h9) rfl dX5_hasRope_9 ?_
    refine lv_iload_n hx hb dX5_hasRope_12 rfl (lv_at hl 3 rfl) ?_
    refine li_iald (g := q) hx hb hK hP (si 2) 0 hSp.2.2 rfl (by omega) (by omega) (by decide) dX5_hasRope_13 ?_
    have r14 := hs1 rr
    refine lv_aload_n hx hb dX5_hasRope_14 rfl (lv_at hl 0 rfl) ?_
    refine va_get (D := G) (fs := [.int (ii st), .int (ii rp), .int (ii fr), .int (ii to)]) (ci := 6) (v := .int (ii fr)) (C := RX7) (T := TX7) (N := 4) hx hb hts in_X7 hown hK hP mi hM rfl 2 (by decide) (hts _ q889) (fun _ h9 => h9) rfl dX5_hasRope_15 ?_
    refine li_icmp_ne (tgt := 25) hx hb (rgi r14.1 r14.2) (rgi hm4 hm5) dX5_hasRope_18 (by decide) (fun c18 => ?_) (fun c18 => ?_)
    · refine li_iconst hx hb dX5_hasRope_25 ?_
      exact eRz hQ hx hb hr hlk dX5_hasRope_26 (.inl rfl) (⟨_, rfl, by unfold okRope; omega⟩)
    · refine li_iconst hx hb dX5_hasRope_21 ?_
      refine lv_goto (tgt := 26) hx hb dX5_hasRope_22 (by decide) ?_
      exact eRz hQ hx hb hr hlk dX5_hasRope_26 (.inr rfl) (⟨_, rfl, by unfold okRope; omega⟩)
set_option maxHeartbeats 4000000 in
theorem m_hasRope_8 (l : Launch) (G : va_G) (ty : Nat → ClassId) (ws : va_W) (fi fd : Nat → Nat) (F : mem) (si sd : Nat → Nat) (w q : Int → Int) (mi md : Nat) (st rp fr to : Int) (rr : Int) (hF : faceAt ty ws fi fd F) (hW : wfF F) (hSp : spotAt ty ws si sd w q) (hWS : wfS w q) (hM : moveAt ws 7 mi md st rp fr to) (hm : 0 ≤ st ∧ st ≤ 7 ∧ 0 ≤ rp ∧ rp ≤ 1 ∧ 0 ≤ fr ∧ fr ≤ 4 ∧ 0 ≤ to ∧ to ≤ 4) (hr0 : 0 ≤ rr ∧ rr ≤ 1) : cR l yX5_hasRope (ws_ yX5_hasRope cX5_hasRope 4 (some .boolean)) (rm4 0 0 0 0) G ty (ws) [.ref md, .ref (fd 0), .ref (sd 0), .int (ii rr)] (fun r => ∃ z : Int, r = some (.int (ii z)) ∧ ((z = 1 ∧ okRope F q rr fr) ∨ (z = 0 ∧ ¬ okRope F q rr fr))) := by
  refine cR.of (by decide) (Nat.le_of_ble_eq_true rfl) ?_
  intro p e s m args below meth c Q hQ hx hb hr hml hown hlk hts hK hP hD hX ls hl
  have hl : lv_has ls 4 [(0, .ref md), (1, .ref (fd 0)), (2, .ref (sd 0)), (3, .int (ii rr))] := hl
  obtain ⟨hw0, hw1, hw2, hw3, hw4, hw5, h8a, h8b, h9a, h9b, h10a, h10b⟩ := id hW
  obtain ⟨hs0, hs1⟩ := id hWS
  obtain ⟨hm0, hm1, hm2, hm3, hm4, hm5, hm6, hm7⟩ := id hm
  refine lv_iload_n hx hb dX5_hasRope_0 rfl (lv_at hl 3 rfl) ?_
  refine lv_aload_n hx hb dX5_hasRope_1 rfl (lv_at hl 1 rfl) ?_
  refine va_get (D := G) (fs := [.ref (fd 1), .ref (fd 2), .ref (fd 3), .ref (fd 4), .int (ii (F 8 0)), .ref (fd 5), .int (ii (F 9 0)), .ref (fd 6), .int (ii (F 10 0)), .int (ii (F 11 0)), .int (ii (F 12 0)), .int (ii (F 13 0)), .ref (fd 7)]) (ci := 1) (v := .int (ii (F 10 0))) (C := RX2) (T := TX2) (N := 13) hx hb hts in_X2 hown hK hP (fi 0) hF.1 rfl 8 (by decide) (hts _ q802) (fun _ h9 => h9) rfl dX5_hasRope_2 ?_
  refine li_icmp_ge (tgt := 25) hx hb ⟨by omega, by omega⟩ (rgi h10a h10b) dX5_hasRope_5 (by decide) (fun c5 => ?_) (fun c5 => ?_)
  · refine li_iconst hx hb dX5_hasRope_25 ?_
    exact eRz hQ hx hb hr hlk dX5_hasRope_26 (.inl rfl) (⟨_, rfl, by unfold okRope; omega⟩)
  · refine lv_aload_n hx hb dX5_hasRope_8 rfl (lv_at hl 2 rfl) ?_
    refine va_get (D := G) (fs := [.ref (sd 1), .ref (sd 2)]) (ci := 2) (v := .ref (sd 2)) (C := RX3) (T := TX3) (N := 2) hx hb hts in_X3 hown hK hP (si 0) hSp.1 rfl 1 (by decide) (hts _ q663) (fun _ h9 => h9) rfl dX5_hasRope_9 ?_
    refine lv_iload_n hx hb dX5_hasRope_12 rfl (lv_at hl 3 rfl) ?_
    refine li_iald (g := q) hx hb hK hP (si 2) 0 hSp.2.2 rfl (by omega) (by omega) (by decide) dX5_hasRope_13 ?_
    have r14 := hs1 rr
    refine lv_aload_n hx hb dX5_hasRope_14 rfl (lv_at hl 0 rfl) ?_
    refine va_get (D := G) (fs := [.int (ii st), .int (ii rp), .int (ii fr), .int (ii to)]) (ci := 7) (v := .int (ii fr)) (C := RX8) (T := TX8) (N := 4) hx hb hts in_X8 hown hK hP mi hM rfl 2 (by decide) (hts _ q889) (fun _ h9 => h9) rfl dX5_hasRope_15 ?_
    refine li_icmp_ne (tgt := 25) hx hb (rgi r14.1 r14.2) (rgi hm4 hm5) dX5_hasRope_18 (by decide) (fun c18 => ?_) (fun c18 => ?_)
    · refine li_iconst hx hb dX5_hasRope_25 ?_
      exact eRz hQ hx hb hr hlk dX5_hasRope_26 (.inl rfl) (⟨_, rfl, by unfold okRope; omega⟩)
    · refine li_iconst hx hb dX5_hasRope_21 ?_
      refine lv_goto (tgt := 26) hx hb dX5_hasRope_22 (by decide) ?_
      exact eRz hQ hx hb hr hlk dX5_hasRope_26 (.inr rfl) (⟨_, rfl, by unfold okRope; omega⟩)
set_option maxHeartbeats 4000000 in
theorem m_hasRope_9 (l : Launch) (G : va_G) (ty : Nat → ClassId) (ws : va_W) (fi fd : Nat → Nat) (F : mem) (si sd : Nat → Nat) (w q : Int → Int) (mi md : Nat) (st rp fr to : Int) (rr : Int) (hF : faceAt ty ws fi fd F) (hW : wfF F) (hSp : spotAt ty ws si sd w q) (hWS : wfS w q) (hM : moveAt ws 8 mi md st rp fr to) (hm : 0 ≤ st ∧ st ≤ 7 ∧ 0 ≤ rp ∧ rp ≤ 1 ∧ 0 ≤ fr ∧ fr ≤ 4 ∧ 0 ≤ to ∧ to ≤ 4) (hr0 : 0 ≤ rr ∧ rr ≤ 1) : cR l yX5_hasRope (ws_ yX5_hasRope cX5_hasRope 4 (some .boolean)) (rm4 0 0 0 0) G ty (ws) [.ref md, .ref (fd 0), .ref (sd 0), .int (ii rr)] (fun r => ∃ z : Int, r = some (.int (ii z)) ∧ ((z = 1 ∧ okRope F q rr fr) ∨ (z = 0 ∧ ¬ okRope F q rr fr))) := by
  refine cR.of (by decide) (Nat.le_of_ble_eq_true rfl) ?_
  intro p e s m args below meth c Q hQ hx hb hr hml hown hlk hts hK hP hD hX ls hl
  have hl : lv_has ls 4 [(0, .ref md), (1, .ref (fd 0)), (2, .ref (sd 0)), (3, .int (ii rr))] := hl
  obtain ⟨hw0, hw1, hw2, hw3, hw4, hw5, h8a, h8b, h9a, h9b, h10a, h10b⟩ := id hW
  obtain ⟨hs0, hs1⟩ := id hWS
  obtain ⟨hm0, hm1, hm2, hm3, hm4, hm5, hm6, hm7⟩ := id hm
  refine lv_iload_n hx hb dX5_hasRope_0 rfl (lv_at hl 3 rfl) ?_
  refine lv_aload_n hx hb dX5_hasRope_1 rfl (lv_at hl 1 rfl) ?_
  refine va_get (D := G) (fs := [.ref (fd 1), .ref (fd 2), .ref (fd 3), .ref (fd 4), .int (ii (F 8 0)), .ref (fd 5), .int (ii (F 9 0)), .ref (fd 6), .int (ii (F 10 0)), .int (ii (F 11 0)), .int (ii (F 12 0)), .int (ii (F 13 0)), .ref (fd 7)]) (ci := 1) (v := .int (ii (F 10 0))) (C := RX2) (T := TX2) (N := 13) hx hb hts in_X2 hown hK hP (fi 0) hF.1 rfl 8 (by decide) (hts _ q802) (fun _ h9 => h9) rfl dX5_hasRope_2 ?_
  refine li_icmp_ge (tgt := 25) hx hb ⟨by omega, by omega⟩ (rgi h10a h10b) dX5_hasRope_5 (by decide) (fun c5 => ?_) (fun c5 => ?_)
  · refine li_iconst hx hb dX5_hasRope_25 ?_
    exact eRz hQ hx hb hr hlk dX5_hasRope_26 (.inl rfl) (⟨_, rfl, by unfold okRope; omega⟩)
  · refine lv_aload_n hx hb dX5_hasRope_8 rfl (lv_at hl 2 rfl) ?_
    refine va_get (D := G) (fs := [.ref (sd 1), .ref (sd 2)]) (ci := 2) (v := .ref (sd 2)) (C := RX3) (T := TX3) (N := 2) hx hb hts in_X3 hown hK hP (si 0) hSp.1 rfl 1 (by decide) (hts _ q663) (fun _ h9 => h9) rfl dX5_hasRope_9 ?_
    refine lv_iload_n hx hb dX5_hasRope_12 rfl (lv_at hl 3 rfl) ?_
    refine li_iald (g := q) hx hb hK hP (si 2) 0 hSp.2.2 rfl (by omega) (by omega) (by decide) dX5_hasRope_13 ?_
    have r14 := hs1 rr
    refine lv_aload_n hx hb dX5_hasRope_14 rfl (lv_at hl 0 rfl) ?_
    refine va_get (D := G) (fs := [.int (ii st), .int (ii rp), .int (ii fr), .int (ii to)]) (ci := 8) (v := .int (ii fr)) (C := RX9) (T := TX9) (N := 4) hx hb hts in_X9 hown hK hP mi hM rfl 2 (by decide) (hts _ q889) (fun _ h9 => h9) rfl dX5_hasRope_15 ?_
    refine li_icmp_ne (tgt := 25) hx hb (rgi r14.1 r14.2) (rgi hm4 hm5) dX5_hasRope_18 (by decide) (fun c18 => ?_) (fun c18 => ?_)
    · refine li_iconst hx hb dX5_hasRope_25 ?_
      exact eRz hQ hx hb hr hlk dX5_hasRope_26 (.inl rfl) (⟨_, rfl, by unfold okRope; omega⟩)
    · refine li_iconst hx hb dX5_hasRope_21 ?_
      refine lv_goto (tgt := 26) hx hb dX5_hasRope_22 (by decide) ?_
      exact eRz hQ hx hb hr hlk dX5_hasRope_26 (.inr rfl) (⟨_, rfl, by unfold okRope; omega⟩)
set_option maxHeartbeats 4000000 in
theorem m_hasRope_11 (l : Launch) (G : va_G) (ty : Nat → ClassId) (ws : va_W) (fi fd : Nat → Nat) (F : mem) (si sd : Nat → Nat) (w q : Int → Int) (mi md : Nat) (st rp fr to : Int) (rr : Int) (hF : faceAt ty ws fi fd F) (hW : wfF F) (hSp : spotAt ty ws si sd w q) (hWS : wfS w q) (hM : moveAt ws 10 mi md st rp fr to) (hm : 0 ≤ st ∧ st ≤ 7 ∧ 0 ≤ rp ∧ rp ≤ 1 ∧ 0 ≤ fr ∧ fr ≤ 4 ∧ 0 ≤ to ∧ to ≤ 4) (hr0 : 0 ≤ rr ∧ rr ≤ 1) : cR l yX5_hasRope (ws_ yX5_hasRope cX5_hasRope 4 (some .boolean)) (rm4 0 0 0 0) G ty (ws) [.ref md, .ref (fd 0), .ref (sd 0), .int (ii rr)] (fun r => ∃ z : Int, r = some (.int (ii z)) ∧ ((z = 1 ∧ okRope F q rr fr) ∨ (z = 0 ∧ ¬ okRope F q rr fr))) := by
  refine cR.of (by decide) (Nat.le_of_ble_eq_true rfl) ?_
  intro p e s m args below meth c Q hQ hx hb hr hml hown hlk hts hK hP hD hX ls hl
  have hl : lv_has ls 4 [(0, .ref md), (1, .ref (fd 0)), (2, .ref (sd 0)), (3, .int (ii rr))] := hl
  obtain ⟨hw0, hw1, hw2, hw3, hw4, hw5, h8a, h8b, h9a, h9b, h10a, h10b⟩ := id hW
  obtain ⟨hs0, hs1⟩ := id hWS
  obtain ⟨hm0, hm1, hm2, hm3, hm4, hm5, hm6, hm7⟩ := id hm
  refine lv_iload_n hx hb dX5_hasRope_0 rfl (lv_at hl 3 rfl) ?_
  refine lv_aload_n hx hb dX5_hasRope_1 rfl (lv_at hl 1 rfl) ?_
  refine va_get (D := G) (fs := [.ref (fd 1), .ref (fd 2), .ref (fd 3), .ref (fd 4), .int (ii (F 8 0)), .ref (fd 5), .int (ii (F 9 0)), .ref (fd 6), .int (ii (F 10 0)), .int (ii (F 11 0)), .int (ii (F 12 0)), .int (ii (F 13 0)), .ref (fd 7)]) (ci := 1) (v := .int (ii (F 10 0))) (C := RX2) (T := TX2) (N := 13) hx hb hts in_X2 hown hK hP (fi 0) hF.1 rfl 8 (by decide) (hts _ q802) (fun _ h9 => h9) rfl dX5_hasRope_2 ?_
  refine li_icmp_ge (tgt := 25) hx hb ⟨by omega, by omega⟩ (rgi h10a h10b) dX5_hasRope_5 (by decide) (fun c5 => ?_) (fun c5 => ?_)
  · refine li_iconst hx hb dX5_hasRope_25 ?_
    exact eRz hQ hx hb hr hlk dX5_hasRope_26 (.inl rfl) (⟨_, rfl, by unfold okRope; omega⟩)
  · refine lv_aload_n hx hb dX5_hasRope_8 rfl (lv_at hl 2 rfl) ?_
    refine va_get (D := G) (fs := [.ref (sd 1), .ref (sd 2)]) (ci := 2) (v := .ref (sd 2)) (C := RX3) (T := TX3) (N := 2) hx hb hts in_X3 hown hK hP (si 0) hSp.1 rfl 1 (by decide) (hts _ q663) (fun _ h9 => h9) rfl dX5_hasRope_9 ?_
    refine lv_iload_n hx hb dX5_hasRope_12 rfl (lv_at hl 3 rfl) ?_
    refine li_iald (g := q) hx hb hK hP (si 2) 0 hSp.2.2 rfl (by omega) (by omega) (by decide) dX5_hasRope_13 ?_
    have r14 := hs1 rr
    refine lv_aload_n hx hb dX5_hasRope_14 rfl (lv_at hl 0 rfl) ?_
    refine va_get (D := G) (fs := [.int (ii st), .int (ii rp), .int (ii fr), .int (ii to)]) (ci := 10) (v := .int (ii fr)) (C := RX11) (T := TX11) (N := 4) hx hb hts in_X11 hown hK hP mi hM rfl 2 (by decide) (hts _ q889) (fun _ h9 => h9) rfl dX5_hasRope_15 ?_
    refine li_icmp_ne (tgt := 25) hx hb (rgi r14.1 r14.2) (rgi hm4 hm5) dX5_hasRope_18 (by decide) (fun c18 => ?_) (fun c18 => ?_)
    · refine li_iconst hx hb dX5_hasRope_25 ?_
      exact eRz hQ hx hb hr hlk dX5_hasRope_26 (.inl rfl) (⟨_, rfl, by unfold okRope; omega⟩)
    · refine li_iconst hx hb dX5_hasRope_21 ?_
      refine lv_goto (tgt := 26) hx hb dX5_hasRope_22 (by decide) ?_
      exact eRz hQ hx hb hr hlk dX5_hasRope_26 (.inr rfl) (⟨_, rfl, by unfold okRope; omega⟩)
set_option maxHeartbeats 4000000 in
theorem m_hasHelp_9 (l : Launch) (G : va_G) (ty : Nat → ClassId) (ws : va_W) (fi fd : Nat → Nat) (F : mem) (si sd : Nat → Nat) (w q : Int → Int) (mi md : Nat) (st rp fr to : Int)  (hF : faceAt ty ws fi fd F) (hW : wfF F) (hSp : spotAt ty ws si sd w q) (hWS : wfS w q) (hM : moveAt ws 8 mi md st rp fr to) (hm : 0 ≤ st ∧ st ≤ 7 ∧ 0 ≤ rp ∧ rp ≤ 1 ∧ 0 ≤ fr ∧ fr ≤ 4 ∧ 0 ≤ to ∧ to ≤ 4) : cR l yX5_hasHelp (ws_ yX5_hasHelp cX5_hasHelp 4 (some .boolean)) (rm4 0 0 0 0) G ty (ws) [.ref md, .ref (fd 0), .ref (sd 0)] (fun r => ∃ z : Int, r = some (.int (ii z)) ∧ ((z = 1 ∧ okHelp F w st fr) ∨ (z = 0 ∧ ¬ okHelp F w st fr))) := by
  refine cR.of (by decide) (Nat.le_of_ble_eq_true rfl) ?_
  intro p e s m args below meth c Q hQ hx hb hr hml hown hlk hts hK hP hD hX ls hl
  have hl : lv_has ls 4 [(0, .ref md), (1, .ref (fd 0)), (2, .ref (sd 0))] := hl
  obtain ⟨hw0, hw1, hw2, hw3, hw4, hw5, h8a, h8b, h9a, h9b, h10a, h10b⟩ := id hW
  obtain ⟨hs0, hs1⟩ := id hWS
  obtain ⟨hm0, hm1, hm2, hm3, hm4, hm5, hm6, hm7⟩ := id hm
  refine li_iconst hx hb dX5_hasHelp_0 ?_
  refine lv_istore_n (lv' := [(3, .int (ii 0)), (0, .ref md), (1, .ref (fd 0)), (2, .ref (sd 0))]) hx hb dX5_hasHelp_1 rfl hl (by decide) rfl (fun ls hl => ?_)
  refine lv_iload_n hx hb dX5_hasHelp_2 rfl (lv_at hl 0 rfl) ?_
  refine lv_aload_n hx hb dX5_hasHelp_3 rfl (lv_at hl 2 rfl) ?_
  refine va_get (D := G) (fs := [.ref (fd 1), .ref (fd 2), .ref (fd 3), .ref (fd 4), .int (ii (F 8 0)), .ref (fd 5), .int (ii (F 9 0)), .ref (fd 6), .int (ii (F 10 0)), .int (ii (F 11 0)), .int (ii (F 12 0)), .int (ii (F 13 0)), .ref (fd 7)]) (ci := 1) (v := .int (ii (F 9 0))) (C := RX2) (T := TX2) (N := 13) hx hb hts in_X2 hown hK hP (fi 0) hF.1 rfl 6 (by decide) (hts _ q793) (fun _ h9 => h9) rfl dX5_hasHelp_4 ?_
  refine li_icmp_ge (tgt := 52) hx hb ⟨by decide, by decide⟩ (rgi h9a h9b) dX5_hasHelp_7 (by decide) (fun c7 => ?_) (fun c7 => ?_)
  · refine li_iconst hx hb dX5_hasHelp_52 ?_
    exact eRz hQ hx hb hr hlk dX5_hasHelp_53 (.inl rfl) (⟨_, rfl, by unfold okHelp; omega⟩)
  · refine lv_aload_n hx hb dX5_hasHelp_10 rfl (lv_at hl 1 rfl) ?_
    refine va_get (D := G) (fs := [.int (ii st), .int (ii rp), .int (ii fr), .int (ii to)]) (ci := 8) (v := .int (ii st)) (C := RX9) (T := TX9) (N := 4) hx hb hts in_X9 hown hK hP mi hM rfl 0 (by decide) (hts _ q861) (fun _ h9 => h9) rfl dX5_hasHelp_11 ?_
    refine lv_iload_n hx hb dX5_hasHelp_14 rfl (lv_at hl 0 rfl) ?_
    refine lv_ishr hx hb dX5_hasHelp_15 ?_
    refine li_topx (z := st) (ii_shr0 (by omega) (by omega)) ?_
    refine li_iconst hx hb dX5_hasHelp_16 ?_
    refine lv_iand hx hb dX5_hasHelp_17 ?_
    refine li_topx (z := st % 2) (ii_and1 (by omega) (by omega)) ?_
    have J18 : ∀ (_ : ((¬ (st % 2) = 0)) ∨ (((st % 2) = 0) ∧ (¬ (w 0) = fr)) ∨ (((st % 2) = 0) ∧ ((w 0) = fr) ∧ (((F 4) 0) = 2))) (ls : Array Slot), lv_has ls 4 [(3, .int (ii 0)), (0, .ref md), (1, .ref (fd 0)), (2, .ref (sd 0))] → W p l e (rm4 0 0 0 0) s m args below meth c s.heap [] 0 0 Q (F0 m 46 ls []) := by
      intro hj18 ls hl
      refine li_iinc (a := 0) (lv' := [(3, .int (ii 1)), (0, .ref md), (1, .ref (fd 0)), (2, .ref (sd 0))]) hx hb dX5_hasHelp_46 hl (k := 0) rfl (by decide) rfl (fun ls hl => ?_)
      refine lv_goto (tgt := 2) hx hb dX5_hasHelp_49 (by decide) ?_
      refine lv_iload_n hx hb dX5_hasHelp_2 rfl (lv_at hl 0 rfl) ?_
      refine lv_aload_n hx hb dX5_hasHelp_3 rfl (lv_at hl 2 rfl) ?_
      refine va_get (D := G) (fs := [.ref (fd 1), .ref (fd 2), .ref (fd 3), .ref (fd 4), .int (ii (F 8 0)), .ref (fd 5), .int (ii (F 9 0)), .ref (fd 6), .int (ii (F 10 0)), .int (ii (F 11 0)), .int (ii (F 12 0)), .int (ii (F 13 0)), .ref (fd 7)]) (ci := 1) (v := .int (ii (F 9 0))) (C := RX2) (T := TX2) (N := 13) hx hb hts in_X2 hown hK hP (fi 0) hF.1 rfl 6 (by decide) (hts _ q793) (fun _ h9 => h9) rfl dX5_hasHelp_4 ?_
      refine li_icmp_ge (tgt := 52) hx hb ⟨by decide, by decide⟩ (rgi h9a h9b) dX5_hasHelp_7 (by decide) (fun c7 => ?_) (fun c7 => ?_)
      · refine li_iconst hx hb dX5_hasHelp_52 ?_
        exact eRz hQ hx hb hr hlk dX5_hasHelp_53 (.inl rfl) (⟨_, rfl, by unfold okHelp; omega⟩)
      · refine lv_aload_n hx hb dX5_hasHelp_10 rfl (lv_at hl 1 rfl) ?_
        refine va_get (D := G) (fs := [.int (ii st), .int (ii rp), .int (ii fr), .int (ii to)]) (ci := 8) (v := .int (ii st)) (C := RX9) (T := TX9) (N := 4) hx hb hts in_X9 hown hK hP mi hM rfl 0 (by decide) (hts _ q861) (fun _ h9 => h9) rfl dX5_hasHelp_11 ?_
        refine lv_iload_n hx hb dX5_hasHelp_14 rfl (lv_at hl 0 rfl) ?_
        refine lv_ishr hx hb dX5_hasHelp_15 ?_
        refine li_topx (z := st / 2) (ii_shr1 (by omega) (by omega)) ?_
        refine li_iconst hx hb dX5_hasHelp_16 ?_
        refine lv_iand hx hb dX5_hasHelp_17 ?_
        refine li_topx (z := (st / 2) % 2) (ii_and1 (by omega) (by omega)) ?_
        have J18_1 : ∀ (_ : ((¬ ((st / 2) % 2) = 0)) ∨ ((((st / 2) % 2) = 0) ∧ (¬ (w 1) = fr)) ∨ ((((st / 2) % 2) = 0) ∧ ((w 1) = fr) ∧ (((F 4) 1) = 2))) (ls : Array Slot), lv_has ls 4 [(3, .int (ii 1)), (0, .ref md), (1, .ref (fd 0)), (2, .ref (sd 0))] → W p l e (rm4 0 0 0 0) s m args below meth c s.heap [] 0 0 Q (F0 m 46 ls []) := by
          intro hj18_1 ls hl
          refine li_iinc (a := 1) (lv' := [(3, .int (ii 2)), (0, .ref md), (1, .ref (fd 0)), (2, .ref (sd 0))]) hx hb dX5_hasHelp_46 hl (k := 0) rfl (by decide) rfl (fun ls hl => ?_)
          refine lv_goto (tgt := 2) hx hb dX5_hasHelp_49 (by decide) ?_
          refine lv_iload_n hx hb dX5_hasHelp_2 rfl (lv_at hl 0 rfl) ?_
          refine lv_aload_n hx hb dX5_hasHelp_3 rfl (lv_at hl 2 rfl) ?_
          refine va_get (D := G) (fs := [.ref (fd 1), .ref (fd 2), .ref (fd 3), .ref (fd 4), .int (ii (F 8 0)), .ref (fd 5), .int (ii (F 9 0)), .ref (fd 6), .int (ii (F 10 0)), .int (ii (F 11 0)), .int (ii (F 12 0)), .int (ii (F 13 0)), .ref (fd 7)]) (ci := 1) (v := .int (ii (F 9 0))) (C := RX2) (T := TX2) (N := 13) hx hb hts in_X2 hown hK hP (fi 0) hF.1 rfl 6 (by decide) (hts _ q793) (fun _ h9 => h9) rfl dX5_hasHelp_4 ?_
          refine li_icmp_ge (tgt := 52) hx hb ⟨by decide, by decide⟩ (rgi h9a h9b) dX5_hasHelp_7 (by decide) (fun c7 => ?_) (fun c7 => ?_)
          · refine li_iconst hx hb dX5_hasHelp_52 ?_
            exact eRz hQ hx hb hr hlk dX5_hasHelp_53 (.inl rfl) (⟨_, rfl, by unfold okHelp; omega⟩)
          · refine lv_aload_n hx hb dX5_hasHelp_10 rfl (lv_at hl 1 rfl) ?_
            refine va_get (D := G) (fs := [.int (ii st), .int (ii rp), .int (ii fr), .int (ii to)]) (ci := 8) (v := .int (ii st)) (C := RX9) (T := TX9) (N := 4) hx hb hts in_X9 hown hK hP mi hM rfl 0 (by decide) (hts _ q861) (fun _ h9 => h9) rfl dX5_hasHelp_11 ?_
            refine lv_iload_n hx hb dX5_hasHelp_14 rfl (lv_at hl 0 rfl) ?_
            refine lv_ishr hx hb dX5_hasHelp_15 ?_
            refine li_topx (z := st / 4) (ii_shr2 (by omega) (by omega)) ?_
            refine li_iconst hx hb dX5_hasHelp_16 ?_
            refine lv_iand hx hb dX5_hasHelp_17 ?_
            refine li_topx (z := (st / 4) % 2) (ii_and1 (by omega) (by omega)) ?_
            have J18_2 : ∀ (_ : ((¬ ((st / 4) % 2) = 0)) ∨ ((((st / 4) % 2) = 0) ∧ (¬ (w 2) = fr)) ∨ ((((st / 4) % 2) = 0) ∧ ((w 2) = fr) ∧ (((F 4) 2) = 2))) (ls : Array Slot), lv_has ls 4 [(3, .int (ii 2)), (0, .ref md), (1, .ref (fd 0)), (2, .ref (sd 0))] → W p l e (rm4 0 0 0 0) s m args below meth c s.heap [] 0 0 Q (F0 m 46 ls []) := by
              intro hj18_2 ls hl
              refine li_iinc (a := 2) (lv' := [(3, .int (ii 3)), (0, .ref md), (1, .ref (fd 0)), (2, .ref (sd 0))]) hx hb dX5_hasHelp_46 hl (k := 0) rfl (by decide) rfl (fun ls hl => ?_)
              refine lv_goto (tgt := 2) hx hb dX5_hasHelp_49 (by decide) ?_
              refine lv_iload_n hx hb dX5_hasHelp_2 rfl (lv_at hl 0 rfl) ?_
              refine lv_aload_n hx hb dX5_hasHelp_3 rfl (lv_at hl 2 rfl) ?_
              refine va_get (D := G) (fs := [.ref (fd 1), .ref (fd 2), .ref (fd 3), .ref (fd 4), .int (ii (F 8 0)), .ref (fd 5), .int (ii (F 9 0)), .ref (fd 6), .int (ii (F 10 0)), .int (ii (F 11 0)), .int (ii (F 12 0)), .int (ii (F 13 0)), .ref (fd 7)]) (ci := 1) (v := .int (ii (F 9 0))) (C := RX2) (T := TX2) (N := 13) hx hb hts in_X2 hown hK hP (fi 0) hF.1 rfl 6 (by decide) (hts _ q793) (fun _ h9 => h9) rfl dX5_hasHelp_4 ?_
              refine li_icmp_ge (tgt := 52) hx hb ⟨by decide, by decide⟩ (rgi h9a h9b) dX5_hasHelp_7 (by decide) (fun c7 => ?_) (fun c7 => ?_)
              · refine li_iconst hx hb dX5_hasHelp_52 ?_
                exact eRz hQ hx hb hr hlk dX5_hasHelp_53 (.inl rfl) (⟨_, rfl, by unfold okHelp; omega⟩)
              · exfalso
                omega
            refine li_if_ne (tgt := 46) hx hb ⟨by omega, by omega⟩ dX5_hasHelp_18 (by decide) (fun c18 => ?_) (fun c18 => ?_)
            · exact J18_2 (.inl (c18)) ls (lv_sub hl [0, 1, 2, 3] rfl)
            · refine lv_aload_n hx hb dX5_hasHelp_21 rfl (lv_at hl 3 rfl) ?_
              refine va_get (D := G) (fs := [.ref (sd 1), .ref (sd 2)]) (ci := 2) (v := .ref (sd 1)) (C := RX3) (T := TX3) (N := 2) hx hb hts in_X3 hown hK hP (si 0) hSp.1 rfl 0 (by decide) (hts _ q655) (fun _ h9 => h9) rfl dX5_hasHelp_22 ?_
              refine lv_iload_n hx hb dX5_hasHelp_25 rfl (lv_at hl 0 rfl) ?_
              refine li_iald (g := w) hx hb hK hP (si 1) 0 hSp.2.1 rfl (by decide) (by decide) (by decide) dX5_hasHelp_26 ?_
              have r27 := hs0 2
              refine lv_aload_n hx hb dX5_hasHelp_27 rfl (lv_at hl 1 rfl) ?_
              refine va_get (D := G) (fs := [.int (ii st), .int (ii rp), .int (ii fr), .int (ii to)]) (ci := 8) (v := .int (ii fr)) (C := RX9) (T := TX9) (N := 4) hx hb hts in_X9 hown hK hP mi hM rfl 2 (by decide) (hts _ q889) (fun _ h9 => h9) rfl dX5_hasHelp_28 ?_
              refine li_icmp_ne (tgt := 46) hx hb (rgi r27.1 r27.2) (rgi hm4 hm5) dX5_hasHelp_31 (by decide) (fun c31 => ?_) (fun c31 => ?_)
              · exact J18_2 (.inr (.inl (⟨c18, c31⟩))) ls (lv_sub hl [0, 1, 2, 3] rfl)
              · refine lv_aload_n hx hb dX5_hasHelp_34 rfl (lv_at hl 2 rfl) ?_
                refine va_get (D := G) (fs := [.ref (fd 1), .ref (fd 2), .ref (fd 3), .ref (fd 4), .int (ii (F 8 0)), .ref (fd 5), .int (ii (F 9 0)), .ref (fd 6), .int (ii (F 10 0)), .int (ii (F 11 0)), .int (ii (F 12 0)), .int (ii (F 13 0)), .ref (fd 7)]) (ci := 1) (v := .ref (fd 5)) (C := RX2) (T := TX2) (N := 13) hx hb hts in_X2 hown hK hP (fi 0) hF.1 rfl 5 (by decide) (hts _ q788) (fun _ h9 => h9) rfl dX5_hasHelp_35 ?_
                refine lv_iload_n hx hb dX5_hasHelp_38 rfl (lv_at hl 0 rfl) ?_
                refine li_iald (g := F 4) hx hb hK hP (fi 5) 0 hF.2.2.2.2.2.1 rfl (by decide) (by decide) (by decide) dX5_hasHelp_39 ?_
                have r40 := hw4 2
                refine li_iconst hx hb dX5_hasHelp_40 ?_
                refine li_icmp_eq (tgt := 46) hx hb (rgi r40.1 r40.2) ⟨by decide, by decide⟩ dX5_hasHelp_41 (by decide) (fun c41 => ?_) (fun c41 => ?_)
                · exact J18_2 (.inr (.inr (⟨c18, c31, c41⟩))) ls (lv_sub hl [0, 1, 2, 3] rfl)
                · refine li_iconst hx hb dX5_hasHelp_44 ?_
                  exact eRz hQ hx hb hr hlk dX5_hasHelp_45 (.inr rfl) (⟨_, rfl, by unfold okHelp; omega⟩)
        refine li_if_ne (tgt := 46) hx hb ⟨by omega, by omega⟩ dX5_hasHelp_18 (by decide) (fun c18 => ?_) (fun c18 => ?_)
        · exact J18_1 (.inl (c18)) ls (lv_sub hl [0, 1, 2, 3] rfl)
        · refine lv_aload_n hx hb dX5_hasHelp_21 rfl (lv_at hl 3 rfl) ?_
          refine va_get (D := G) (fs := [.ref (sd 1), .ref (sd 2)]) (ci := 2) (v := .ref (sd 1)) (C := RX3) (T := TX3) (N := 2) hx hb hts in_X3 hown hK hP (si 0) hSp.1 rfl 0 (by decide) (hts _ q655) (fun _ h9 => h9) rfl dX5_hasHelp_22 ?_
          refine lv_iload_n hx hb dX5_hasHelp_25 rfl (lv_at hl 0 rfl) ?_
          refine li_iald (g := w) hx hb hK hP (si 1) 0 hSp.2.1 rfl (by decide) (by decide) (by decide) dX5_hasHelp_26 ?_
          have r27 := hs0 1
          refine lv_aload_n hx hb dX5_hasHelp_27 rfl (lv_at hl 1 rfl) ?_
          refine va_get (D := G) (fs := [.int (ii st), .int (ii rp), .int (ii fr), .int (ii to)]) (ci := 8) (v := .int (ii fr)) (C := RX9) (T := TX9) (N := 4) hx hb hts in_X9 hown hK hP mi hM rfl 2 (by decide) (hts _ q889) (fun _ h9 => h9) rfl dX5_hasHelp_28 ?_
          refine li_icmp_ne (tgt := 46) hx hb (rgi r27.1 r27.2) (rgi hm4 hm5) dX5_hasHelp_31 (by decide) (fun c31 => ?_) (fun c31 => ?_)
          · exact J18_1 (.inr (.inl (⟨c18, c31⟩))) ls (lv_sub hl [0, 1, 2, 3] rfl)
          · refine lv_aload_n hx hb dX5_hasHelp_34 rfl (lv_at hl 2 rfl) ?_
            refine va_get (D := G) (fs := [.ref (fd 1), .ref (fd 2), .ref (fd 3), .ref (fd 4), .int (ii (F 8 0)), .ref (fd 5), .int (ii (F 9 0)), .ref (fd 6), .int (ii (F 10 0)), .int (ii (F 11 0)), .int (ii (F 12 0)), .int (ii (F 13 0)), .ref (fd 7)]) (ci := 1) (v := .ref (fd 5)) (C := RX2) (T := TX2) (N := 13) hx hb hts in_X2 hown hK hP (fi 0) hF.1 rfl 5 (by decide) (hts _ q788) (fun _ h9 => h9) rfl dX5_hasHelp_35 ?_
            refine lv_iload_n hx hb dX5_hasHelp_38 rfl (lv_at hl 0 rfl) ?_
            refine li_iald (g := F 4) hx hb hK hP (fi 5) 0 hF.2.2.2.2.2.1 rfl (by decide) (by decide) (by decide) dX5_hasHelp_39 ?_
            have r40 := hw4 1
            refine li_iconst hx hb dX5_hasHelp_40 ?_
            refine li_icmp_eq (tgt := 46) hx hb (rgi r40.1 r40.2) ⟨by decide, by decide⟩ dX5_hasHelp_41 (by decide) (fun c41 => ?_) (fun c41 => ?_)
            · exact J18_1 (.inr (.inr (⟨c18, c31, c41⟩))) ls (lv_sub hl [0, 1, 2, 3] rfl)
            · refine li_iconst hx hb dX5_hasHelp_44 ?_
              exact eRz hQ hx hb hr hlk dX5_hasHelp_45 (.inr rfl) (⟨_, rfl, by unfold okHelp; omega⟩)
    refine li_if_ne (tgt := 46) hx hb ⟨by omega, by omega⟩ dX5_hasHelp_18 (by decide) (fun c18 => ?_) (fun c18 => ?_)
    · exact J18 (.inl (c18)) ls (lv_sub hl [0, 1, 2, 3] rfl)
    · refine lv_aload_n hx hb dX5_hasHelp_21 rfl (lv_at hl 3 rfl) ?_
      refine va_get (D := G) (fs := [.ref (sd 1), .ref (sd 2)]) (ci := 2) (v := .ref (sd 1)) (C := RX3) (T := TX3) (N := 2) hx hb hts in_X3 hown hK hP (si 0) hSp.1 rfl 0 (by decide) (hts _ q655) (fun _ h9 => h9) rfl dX5_hasHelp_22 ?_
      refine lv_iload_n hx hb dX5_hasHelp_25 rfl (lv_at hl 0 rfl) ?_
      refine li_iald (g := w) hx hb hK hP (si 1) 0 hSp.2.1 rfl (by decide) (by decide) (by decide) dX5_hasHelp_26 ?_
      have r27 := hs0 0
      refine lv_aload_n hx hb dX5_hasHelp_27 rfl (lv_at hl 1 rfl) ?_
      refine va_get (D := G) (fs := [.int (ii st), .int (ii rp), .int (ii fr), .int (ii to)]) (ci := 8) (v := .int (ii fr)) (C := RX9) (T := TX9) (N := 4) hx hb hts in_X9 hown hK hP mi hM rfl 2 (by decide) (hts _ q889) (fun _ h9 => h9) rfl dX5_hasHelp_28 ?_
      refine li_icmp_ne (tgt := 46) hx hb (rgi r27.1 r27.2) (rgi hm4 hm5) dX5_hasHelp_31 (by decide) (fun c31 => ?_) (fun c31 => ?_)
      · exact J18 (.inr (.inl (⟨c18, c31⟩))) ls (lv_sub hl [0, 1, 2, 3] rfl)
      · refine lv_aload_n hx hb dX5_hasHelp_34 rfl (lv_at hl 2 rfl) ?_
        refine va_get (D := G) (fs := [.ref (fd 1), .ref (fd 2), .ref (fd 3), .ref (fd 4), .int (ii (F 8 0)), .ref (fd 5), .int (ii (F 9 0)), .ref (fd 6), .int (ii (F 10 0)), .int (ii (F 11 0)), .int (ii (F 12 0)), .int (ii (F 13 0)), .ref (fd 7)]) (ci := 1) (v := .ref (fd 5)) (C := RX2) (T := TX2) (N := 13) hx hb hts in_X2 hown hK hP (fi 0) hF.1 rfl 5 (by decide) (hts _ q788) (fun _ h9 => h9) rfl dX5_hasHelp_35 ?_
        refine lv_iload_n hx hb dX5_hasHelp_38 rfl (lv_at hl 0 rfl) ?_
        refine li_iald (g := F 4) hx hb hK hP (fi 5) 0 hF.2.2.2.2.2.1 rfl (by decide) (by decide) (by decide) dX5_hasHelp_39 ?_
        have r40 := hw4 0
        refine li_iconst hx hb dX5_hasHelp_40 ?_
        refine li_icmp_eq (tgt := 46) hx hb (rgi r40.1 r40.2) ⟨by decide, by decide⟩ dX5_hasHelp_41 (by decide) (fun c41 => ?_) (fun c41 => ?_)
        · exact J18 (.inr (.inr (⟨c18, c31, c41⟩))) ls (lv_sub hl [0, 1, 2, 3] rfl)
        · refine li_iconst hx hb dX5_hasHelp_44 ?_
          exact eRz hQ hx hb hr hlk dX5_hasHelp_45 (.inr rfl) (⟨_, rfl, by unfold okHelp; omega⟩)
set_option maxHeartbeats 4000000 in
theorem m_hasHelp_11 (l : Launch) (G : va_G) (ty : Nat → ClassId) (ws : va_W) (fi fd : Nat → Nat) (F : mem) (si sd : Nat → Nat) (w q : Int → Int) (mi md : Nat) (st rp fr to : Int)  (hF : faceAt ty ws fi fd F) (hW : wfF F) (hSp : spotAt ty ws si sd w q) (hWS : wfS w q) (hM : moveAt ws 10 mi md st rp fr to) (hm : 0 ≤ st ∧ st ≤ 7 ∧ 0 ≤ rp ∧ rp ≤ 1 ∧ 0 ≤ fr ∧ fr ≤ 4 ∧ 0 ≤ to ∧ to ≤ 4) : cR l yX5_hasHelp (ws_ yX5_hasHelp cX5_hasHelp 4 (some .boolean)) (rm4 0 0 0 0) G ty (ws) [.ref md, .ref (fd 0), .ref (sd 0)] (fun r => ∃ z : Int, r = some (.int (ii z)) ∧ ((z = 1 ∧ okHelp F w st fr) ∨ (z = 0 ∧ ¬ okHelp F w st fr))) := by
  refine cR.of (by decide) (Nat.le_of_ble_eq_true rfl) ?_
  intro p e s m args below meth c Q hQ hx hb hr hml hown hlk hts hK hP hD hX ls hl
  have hl : lv_has ls 4 [(0, .ref md), (1, .ref (fd 0)), (2, .ref (sd 0))] := hl
  obtain ⟨hw0, hw1, hw2, hw3, hw4, hw5, h8a, h8b, h9a, h9b, h10a, h10b⟩ := id hW
  obtain ⟨hs0, hs1⟩ := id hWS
  obtain ⟨hm0, hm1, hm2, hm3, hm4, hm5, hm6, hm7⟩ := id hm
  refine li_iconst hx hb dX5_hasHelp_0 ?_
  refine lv_istore_n (lv' := [(3, .int (ii 0)), (0, .ref md), (1, .ref (fd 0)), (2, .ref (sd 0))]) hx hb dX5_hasHelp_1 rfl hl (by decide) rfl (fun ls hl => ?_)
  refine lv_iload_n hx hb dX5_hasHelp_2 rfl (lv_at hl 0 rfl) ?_
  refine lv_aload_n hx hb dX5_hasHelp_3 rfl (lv_at hl 2 rfl) ?_
  refine va_get (D := G) (fs := [.ref (fd 1), .ref (fd 2), .ref (fd 3), .ref (fd 4), .int (ii (F 8 0)), .ref (fd 5), .int (ii (F 9 0)), .ref (fd 6), .int (ii (F 10 0)), .int (ii (F 11 0)), .int (ii (F 12 0)), .int (ii (F 13 0)), .ref (fd 7)]) (ci := 1) (v := .int (ii (F 9 0))) (C := RX2) (T := TX2) (N := 13) hx hb hts in_X2 hown hK hP (fi 0) hF.1 rfl 6 (by decide) (hts _ q793) (fun _ h9 => h9) rfl dX5_hasHelp_4 ?_
  refine li_icmp_ge (tgt := 52) hx hb ⟨by decide, by decide⟩ (rgi h9a h9b) dX5_hasHelp_7 (by decide) (fun c7 => ?_) (fun c7 => ?_)
  · refine li_iconst hx hb dX5_hasHelp_52 ?_
    exact eRz hQ hx hb hr hlk dX5_hasHelp_53 (.inl rfl) (⟨_, rfl, by unfold okHelp; omega⟩)
  · refine lv_aload_n hx hb dX5_hasHelp_10 rfl (lv_at hl 1 rfl) ?_
    refine va_get (D := G) (fs := [.int (ii st), .int (ii rp), .int (ii fr), .int (ii to)]) (ci := 10) (v := .int (ii st)) (C := RX11) (T := TX11) (N := 4) hx hb hts in_X11 hown hK hP mi hM rfl 0 (by decide) (hts _ q861) (fun _ h9 => h9) rfl dX5_hasHelp_11 ?_
    refine lv_iload_n hx hb dX5_hasHelp_14 rfl (lv_at hl 0 rfl) ?_
    refine lv_ishr hx hb dX5_hasHelp_15 ?_
    refine li_topx (z := st) (ii_shr0 (by omega) (by omega)) ?_
    refine li_iconst hx hb dX5_hasHelp_16 ?_
    refine lv_iand hx hb dX5_hasHelp_17 ?_
    refine li_topx (z := st % 2) (ii_and1 (by omega) (by omega)) ?_
    have J18 : ∀ (_ : ((¬ (st % 2) = 0)) ∨ (((st % 2) = 0) ∧ (¬ (w 0) = fr)) ∨ (((st % 2) = 0) ∧ ((w 0) = fr) ∧ (((F 4) 0) = 2))) (ls : Array Slot), lv_has ls 4 [(3, .int (ii 0)), (0, .ref md), (1, .ref (fd 0)), (2, .ref (sd 0))] → W p l e (rm4 0 0 0 0) s m args below meth c s.heap [] 0 0 Q (F0 m 46 ls []) := by
      intro hj18 ls hl
      refine li_iinc (a := 0) (lv' := [(3, .int (ii 1)), (0, .ref md), (1, .ref (fd 0)), (2, .ref (sd 0))]) hx hb dX5_hasHelp_46 hl (k := 0) rfl (by decide) rfl (fun ls hl => ?_)
      refine lv_goto (tgt := 2) hx hb dX5_hasHelp_49 (by decide) ?_
      refine lv_iload_n hx hb dX5_hasHelp_2 rfl (lv_at hl 0 rfl) ?_
      refine lv_aload_n hx hb dX5_hasHelp_3 rfl (lv_at hl 2 rfl) ?_
      refine va_get (D := G) (fs := [.ref (fd 1), .ref (fd 2), .ref (fd 3), .ref (fd 4), .int (ii (F 8 0)), .ref (fd 5), .int (ii (F 9 0)), .ref (fd 6), .int (ii (F 10 0)), .int (ii (F 11 0)), .int (ii (F 12 0)), .int (ii (F 13 0)), .ref (fd 7)]) (ci := 1) (v := .int (ii (F 9 0))) (C := RX2) (T := TX2) (N := 13) hx hb hts in_X2 hown hK hP (fi 0) hF.1 rfl 6 (by decide) (hts _ q793) (fun _ h9 => h9) rfl dX5_hasHelp_4 ?_
      refine li_icmp_ge (tgt := 52) hx hb ⟨by decide, by decide⟩ (rgi h9a h9b) dX5_hasHelp_7 (by decide) (fun c7 => ?_) (fun c7 => ?_)
      · refine li_iconst hx hb dX5_hasHelp_52 ?_
        exact eRz hQ hx hb hr hlk dX5_hasHelp_53 (.inl rfl) (⟨_, rfl, by unfold okHelp; omega⟩)
      · refine lv_aload_n hx hb dX5_hasHelp_10 rfl (lv_at hl 1 rfl) ?_
        refine va_get (D := G) (fs := [.int (ii st), .int (ii rp), .int (ii fr), .int (ii to)]) (ci := 10) (v := .int (ii st)) (C := RX11) (T := TX11) (N := 4) hx hb hts in_X11 hown hK hP mi hM rfl 0 (by decide) (hts _ q861) (fun _ h9 => h9) rfl dX5_hasHelp_11 ?_
        refine lv_iload_n hx hb dX5_hasHelp_14 rfl (lv_at hl 0 rfl) ?_
        refine lv_ishr hx hb dX5_hasHelp_15 ?_
        refine li_topx (z := st / 2) (ii_shr1 (by omega) (by omega)) ?_
        refine li_iconst hx hb dX5_hasHelp_16 ?_
        refine lv_iand hx hb dX5_hasHelp_17 ?_
        refine li_topx (z := (st / 2) % 2) (ii_and1 (by omega) (by omega)) ?_
        have J18_1 : ∀ (_ : ((¬ ((st / 2) % 2) = 0)) ∨ ((((st / 2) % 2) = 0) ∧ (¬ (w 1) = fr)) ∨ ((((st / 2) % 2) = 0) ∧ ((w 1) = fr) ∧ (((F 4) 1) = 2))) (ls : Array Slot), lv_has ls 4 [(3, .int (ii 1)), (0, .ref md), (1, .ref (fd 0)), (2, .ref (sd 0))] → W p l e (rm4 0 0 0 0) s m args below meth c s.heap [] 0 0 Q (F0 m 46 ls []) := by
          intro hj18_1 ls hl
          refine li_iinc (a := 1) (lv' := [(3, .int (ii 2)), (0, .ref md), (1, .ref (fd 0)), (2, .ref (sd 0))]) hx hb dX5_hasHelp_46 hl (k := 0) rfl (by decide) rfl (fun ls hl => ?_)
          refine lv_goto (tgt := 2) hx hb dX5_hasHelp_49 (by decide) ?_
          refine lv_iload_n hx hb dX5_hasHelp_2 rfl (lv_at hl 0 rfl) ?_
          refine lv_aload_n hx hb dX5_hasHelp_3 rfl (lv_at hl 2 rfl) ?_
          refine va_get (D := G) (fs := [.ref (fd 1), .ref (fd 2), .ref (fd 3), .ref (fd 4), .int (ii (F 8 0)), .ref (fd 5), .int (ii (F 9 0)), .ref (fd 6), .int (ii (F 10 0)), .int (ii (F 11 0)), .int (ii (F 12 0)), .int (ii (F 13 0)), .ref (fd 7)]) (ci := 1) (v := .int (ii (F 9 0))) (C := RX2) (T := TX2) (N := 13) hx hb hts in_X2 hown hK hP (fi 0) hF.1 rfl 6 (by decide) (hts _ q793) (fun _ h9 => h9) rfl dX5_hasHelp_4 ?_
          refine li_icmp_ge (tgt := 52) hx hb ⟨by decide, by decide⟩ (rgi h9a h9b) dX5_hasHelp_7 (by decide) (fun c7 => ?_) (fun c7 => ?_)
          · refine li_iconst hx hb dX5_hasHelp_52 ?_
            exact eRz hQ hx hb hr hlk dX5_hasHelp_53 (.inl rfl) (⟨_, rfl, by unfold okHelp; omega⟩)
          · refine lv_aload_n hx hb dX5_hasHelp_10 rfl (lv_at hl 1 rfl) ?_
            refine va_get (D := G) (fs := [.int (ii st), .int (ii rp), .int (ii fr), .int (ii to)]) (ci := 10) (v := .int (ii st)) (C := RX11) (T := TX11) (N := 4) hx hb hts in_X11 hown hK hP mi hM rfl 0 (by decide) (hts _ q861) (fun _ h9 => h9) rfl dX5_hasHelp_11 ?_
            refine lv_iload_n hx hb dX5_hasHelp_14 rfl (lv_at hl 0 rfl) ?_
            refine lv_ishr hx hb dX5_hasHelp_15 ?_
            refine li_topx (z := st / 4) (ii_shr2 (by omega) (by omega)) ?_
            refine li_iconst hx hb dX5_hasHelp_16 ?_
            refine lv_iand hx hb dX5_hasHelp_17 ?_
            refine li_topx (z := (st / 4) % 2) (ii_and1 (by omega) (by omega)) ?_
            have J18_2 : ∀ (_ : ((¬ ((st / 4) % 2) = 0)) ∨ ((((st / 4) % 2) = 0) ∧ (¬ (w 2) = fr)) ∨ ((((st / 4) % 2) = 0) ∧ ((w 2) = fr) ∧ (((F 4) 2) = 2))) (ls : Array Slot), lv_has ls 4 [(3, .int (ii 2)), (0, .ref md), (1, .ref (fd 0)), (2, .ref (sd 0))] → W p l e (rm4 0 0 0 0) s m args below meth c s.heap [] 0 0 Q (F0 m 46 ls []) := by
              intro hj18_2 ls hl
              refine li_iinc (a := 2) (lv' := [(3, .int (ii 3)), (0, .ref md), (1, .ref (fd 0)), (2, .ref (sd 0))]) hx hb dX5_hasHelp_46 hl (k := 0) rfl (by decide) rfl (fun ls hl => ?_)
              refine lv_goto (tgt := 2) hx hb dX5_hasHelp_49 (by decide) ?_
              refine lv_iload_n hx hb dX5_hasHelp_2 rfl (lv_at hl 0 rfl) ?_
              refine lv_aload_n hx hb dX5_hasHelp_3 rfl (lv_at hl 2 rfl) ?_
              refine va_get (D := G) (fs := [.ref (fd 1), .ref (fd 2), .ref (fd 3), .ref (fd 4), .int (ii (F 8 0)), .ref (fd 5), .int (ii (F 9 0)), .ref (fd 6), .int (ii (F 10 0)), .int (ii (F 11 0)), .int (ii (F 12 0)), .int (ii (F 13 0)), .ref (fd 7)]) (ci := 1) (v := .int (ii (F 9 0))) (C := RX2) (T := TX2) (N := 13) hx hb hts in_X2 hown hK hP (fi 0) hF.1 rfl 6 (by decide) (hts _ q793) (fun _ h9 => h9) rfl dX5_hasHelp_4 ?_
              refine li_icmp_ge (tgt := 52) hx hb ⟨by decide, by decide⟩ (rgi h9a h9b) dX5_hasHelp_7 (by decide) (fun c7 => ?_) (fun c7 => ?_)
              · refine li_iconst hx hb dX5_hasHelp_52 ?_
                exact eRz hQ hx hb hr hlk dX5_hasHelp_53 (.inl rfl) (⟨_, rfl, by unfold okHelp; omega⟩)
              · exfalso
                omega
            refine li_if_ne (tgt := 46) hx hb ⟨by omega, by omega⟩ dX5_hasHelp_18 (by decide) (fun c18 => ?_) (fun c18 => ?_)
            · exact J18_2 (.inl (c18)) ls (lv_sub hl [0, 1, 2, 3] rfl)
            · refine lv_aload_n hx hb dX5_hasHelp_21 rfl (lv_at hl 3 rfl) ?_
              refine va_get (D := G) (fs := [.ref (sd 1), .ref (sd 2)]) (ci := 2) (v := .ref (sd 1)) (C := RX3) (T := TX3) (N := 2) hx hb hts in_X3 hown hK hP (si 0) hSp.1 rfl 0 (by decide) (hts _ q655) (fun _ h9 => h9) rfl dX5_hasHelp_22 ?_
              refine lv_iload_n hx hb dX5_hasHelp_25 rfl (lv_at hl 0 rfl) ?_
              refine li_iald (g := w) hx hb hK hP (si 1) 0 hSp.2.1 rfl (by decide) (by decide) (by decide) dX5_hasHelp_26 ?_
              have r27 := hs0 2
              refine lv_aload_n hx hb dX5_hasHelp_27 rfl (lv_at hl 1 rfl) ?_
              refine va_get (D := G) (fs := [.int (ii st), .int (ii rp), .int (ii fr), .int (ii to)]) (ci := 10) (v := .int (ii fr)) (C := RX11) (T := TX11) (N := 4) hx hb hts in_X11 hown hK hP mi hM rfl 2 (by decide) (hts _ q889) (fun _ h9 => h9) rfl dX5_hasHelp_28 ?_
              refine li_icmp_ne (tgt := 46) hx hb (rgi r27.1 r27.2) (rgi hm4 hm5) dX5_hasHelp_31 (by decide) (fun c31 => ?_) (fun c31 => ?_)
              · exact J18_2 (.inr (.inl (⟨c18, c31⟩))) ls (lv_sub hl [0, 1, 2, 3] rfl)
              · refine lv_aload_n hx hb dX5_hasHelp_34 rfl (lv_at hl 2 rfl) ?_
                refine va_get (D := G) (fs := [.ref (fd 1), .ref (fd 2), .ref (fd 3), .ref (fd 4), .int (ii (F 8 0)), .ref (fd 5), .int (ii (F 9 0)), .ref (fd 6), .int (ii (F 10 0)), .int (ii (F 11 0)), .int (ii (F 12 0)), .int (ii (F 13 0)), .ref (fd 7)]) (ci := 1) (v := .ref (fd 5)) (C := RX2) (T := TX2) (N := 13) hx hb hts in_X2 hown hK hP (fi 0) hF.1 rfl 5 (by decide) (hts _ q788) (fun _ h9 => h9) rfl dX5_hasHelp_35 ?_
                refine lv_iload_n hx hb dX5_hasHelp_38 rfl (lv_at hl 0 rfl) ?_
                refine li_iald (g := F 4) hx hb hK hP (fi 5) 0 hF.2.2.2.2.2.1 rfl (by decide) (by decide) (by decide) dX5_hasHelp_39 ?_
                have r40 := hw4 2
                refine li_iconst hx hb dX5_hasHelp_40 ?_
                refine li_icmp_eq (tgt := 46) hx hb (rgi r40.1 r40.2) ⟨by decide, by decide⟩ dX5_hasHelp_41 (by decide) (fun c41 => ?_) (fun c41 => ?_)
                · exact J18_2 (.inr (.inr (⟨c18, c31, c41⟩))) ls (lv_sub hl [0, 1, 2, 3] rfl)
                · refine li_iconst hx hb dX5_hasHelp_44 ?_
                  exact eRz hQ hx hb hr hlk dX5_hasHelp_45 (.inr rfl) (⟨_, rfl, by unfold okHelp; omega⟩)
        refine li_if_ne (tgt := 46) hx hb ⟨by omega, by omega⟩ dX5_hasHelp_18 (by decide) (fun c18 => ?_) (fun c18 => ?_)
        · exact J18_1 (.inl (c18)) ls (lv_sub hl [0, 1, 2, 3] rfl)
        · refine lv_aload_n hx hb dX5_hasHelp_21 rfl (lv_at hl 3 rfl) ?_
          refine va_get (D := G) (fs := [.ref (sd 1), .ref (sd 2)]) (ci := 2) (v := .ref (sd 1)) (C := RX3) (T := TX3) (N := 2) hx hb hts in_X3 hown hK hP (si 0) hSp.1 rfl 0 (by decide) (hts _ q655) (fun _ h9 => h9) rfl dX5_hasHelp_22 ?_
          refine lv_iload_n hx hb dX5_hasHelp_25 rfl (lv_at hl 0 rfl) ?_
          refine li_iald (g := w) hx hb hK hP (si 1) 0 hSp.2.1 rfl (by decide) (by decide) (by decide) dX5_hasHelp_26 ?_
          have r27 := hs0 1
          refine lv_aload_n hx hb dX5_hasHelp_27 rfl (lv_at hl 1 rfl) ?_
          refine va_get (D := G) (fs := [.int (ii st), .int (ii rp), .int (ii fr), .int (ii to)]) (ci := 10) (v := .int (ii fr)) (C := RX11) (T := TX11) (N := 4) hx hb hts in_X11 hown hK hP mi hM rfl 2 (by decide) (hts _ q889) (fun _ h9 => h9) rfl dX5_hasHelp_28 ?_
          refine li_icmp_ne (tgt := 46) hx hb (rgi r27.1 r27.2) (rgi hm4 hm5) dX5_hasHelp_31 (by decide) (fun c31 => ?_) (fun c31 => ?_)
          · exact J18_1 (.inr (.inl (⟨c18, c31⟩))) ls (lv_sub hl [0, 1, 2, 3] rfl)
          · refine lv_aload_n hx hb dX5_hasHelp_34 rfl (lv_at hl 2 rfl) ?_
            refine va_get (D := G) (fs := [.ref (fd 1), .ref (fd 2), .ref (fd 3), .ref (fd 4), .int (ii (F 8 0)), .ref (fd 5), .int (ii (F 9 0)), .ref (fd 6), .int (ii (F 10 0)), .int (ii (F 11 0)), .int (ii (F 12 0)), .int (ii (F 13 0)), .ref (fd 7)]) (ci := 1) (v := .ref (fd 5)) (C := RX2) (T := TX2) (N := 13) hx hb hts in_X2 hown hK hP (fi 0) hF.1 rfl 5 (by decide) (hts _ q788) (fun _ h9 => h9) rfl dX5_hasHelp_35 ?_
            refine lv_iload_n hx hb dX5_hasHelp_38 rfl (lv_at hl 0 rfl) ?_
            refine li_iald (g := F 4) hx hb hK hP (fi 5) 0 hF.2.2.2.2.2.1 rfl (by decide) (by decide) (by decide) dX5_hasHelp_39 ?_
            have r40 := hw4 1
            refine li_iconst hx hb dX5_hasHelp_40 ?_
            refine li_icmp_eq (tgt := 46) hx hb (rgi r40.1 r40.2) ⟨by decide, by decide⟩ dX5_hasHelp_41 (by decide) (fun c41 => ?_) (fun c41 => ?_)
            · exact J18_1 (.inr (.inr (⟨c18, c31, c41⟩))) ls (lv_sub hl [0, 1, 2, 3] rfl)
            · refine li_iconst hx hb dX5_hasHelp_44 ?_
              exact eRz hQ hx hb hr hlk dX5_hasHelp_45 (.inr rfl) (⟨_, rfl, by unfold okHelp; omega⟩)
    refine li_if_ne (tgt := 46) hx hb ⟨by omega, by omega⟩ dX5_hasHelp_18 (by decide) (fun c18 => ?_) (fun c18 => ?_)
    · exact J18 (.inl (c18)) ls (lv_sub hl [0, 1, 2, 3] rfl)
    · refine lv_aload_n hx hb dX5_hasHelp_21 rfl (lv_at hl 3 rfl) ?_
      refine va_get (D := G) (fs := [.ref (sd 1), .ref (sd 2)]) (ci := 2) (v := .ref (sd 1)) (C := RX3) (T := TX3) (N := 2) hx hb hts in_X3 hown hK hP (si 0) hSp.1 rfl 0 (by decide) (hts _ q655) (fun _ h9 => h9) rfl dX5_hasHelp_22 ?_
      refine lv_iload_n hx hb dX5_hasHelp_25 rfl (lv_at hl 0 rfl) ?_
      refine li_iald (g := w) hx hb hK hP (si 1) 0 hSp.2.1 rfl (by decide) (by decide) (by decide) dX5_hasHelp_26 ?_
      have r27 := hs0 0
      refine lv_aload_n hx hb dX5_hasHelp_27 rfl (lv_at hl 1 rfl) ?_
      refine va_get (D := G) (fs := [.int (ii st), .int (ii rp), .int (ii fr), .int (ii to)]) (ci := 10) (v := .int (ii fr)) (C := RX11) (T := TX11) (N := 4) hx hb hts in_X11 hown hK hP mi hM rfl 2 (by decide) (hts _ q889) (fun _ h9 => h9) rfl dX5_hasHelp_28 ?_
      refine li_icmp_ne (tgt := 46) hx hb (rgi r27.1 r27.2) (rgi hm4 hm5) dX5_hasHelp_31 (by decide) (fun c31 => ?_) (fun c31 => ?_)
      · exact J18 (.inr (.inl (⟨c18, c31⟩))) ls (lv_sub hl [0, 1, 2, 3] rfl)
      · refine lv_aload_n hx hb dX5_hasHelp_34 rfl (lv_at hl 2 rfl) ?_
        refine va_get (D := G) (fs := [.ref (fd 1), .ref (fd 2), .ref (fd 3), .ref (fd 4), .int (ii (F 8 0)), .ref (fd 5), .int (ii (F 9 0)), .ref (fd 6), .int (ii (F 10 0)), .int (ii (F 11 0)), .int (ii (F 12 0)), .int (ii (F 13 0)), .ref (fd 7)]) (ci := 1) (v := .ref (fd 5)) (C := RX2) (T := TX2) (N := 13) hx hb hts in_X2 hown hK hP (fi 0) hF.1 rfl 5 (by decide) (hts _ q788) (fun _ h9 => h9) rfl dX5_hasHelp_35 ?_
        refine lv_iload_n hx hb dX5_hasHelp_38 rfl (lv_at hl 0 rfl) ?_
        refine li_iald (g := F 4) hx hb hK hP (fi 5) 0 hF.2.2.2.2.2.1 rfl (by decide) (by decide) (by decide) dX5_hasHelp_39 ?_
        have r40 := hw4 0
        refine li_iconst hx hb dX5_hasHelp_40 ?_
        refine li_icmp_eq (tgt := 46) hx hb (rgi r40.1 r40.2) ⟨by decide, by decide⟩ dX5_hasHelp_41 (by decide) (fun c41 => ?_) (fun c41 => ?_)
        · exact J18 (.inr (.inr (⟨c18, c31, c41⟩))) ls (lv_sub hl [0, 1, 2, 3] rfl)
        · refine li_iconst hx hb dX5_hasHelp_44 ?_
          exact eRz hQ hx hb hr hlk dX5_hasHelp_45 (.inr rfl) (⟨_, rfl, by unfold okHelp; omega⟩)
set_option maxHeartbeats 4000000 in
theorem m_kind_5 (l : Launch) (G : va_G) (ty : Nat → ClassId) (ws : va_W) (mi md : Nat) (st rp fr to : Int)  (hM : moveAt ws 4 mi md st rp fr to) (hm : 0 ≤ st ∧ st ≤ 7 ∧ 0 ≤ rp ∧ rp ≤ 1 ∧ 0 ≤ fr ∧ fr ≤ 4 ∧ 0 ≤ to ∧ to ≤ 4) : cR l yX5_kind (ws_ yX5_kind cX5_kind 1 (some .int)) (rm4 0 0 0 0) G ty (ws) [.ref md] (fun r => ∃ z : Int, r = some (.int (ii z)) ∧ z = 0) := by
  refine cR.of (by decide) (Nat.le_of_ble_eq_true rfl) ?_
  intro p e s m args below meth c Q hQ hx hb hr hml hown hlk hts hK hP hD hX ls hl
  have hl : lv_has ls 1 [(0, .ref md)] := hl
  refine li_iconst hx hb dX5_kind_0 ?_
  exact eRi hQ hx hb hr hlk dX5_kind_1 (⟨_, rfl, rfl⟩)
set_option maxHeartbeats 4000000 in
theorem m_kind_6 (l : Launch) (G : va_G) (ty : Nat → ClassId) (ws : va_W) (mi md : Nat) (st rp fr to : Int)  (hM : moveAt ws 5 mi md st rp fr to) (hm : 0 ≤ st ∧ st ≤ 7 ∧ 0 ≤ rp ∧ rp ≤ 1 ∧ 0 ≤ fr ∧ fr ≤ 4 ∧ 0 ≤ to ∧ to ≤ 4) : cR l yX6_kind (ws_ yX6_kind cX6_kind 1 (some .int)) (rm4 0 0 0 0) G ty (ws) [.ref md] (fun r => ∃ z : Int, r = some (.int (ii z)) ∧ z = 1) := by
  refine cR.of (by decide) (Nat.le_of_ble_eq_true rfl) ?_
  intro p e s m args below meth c Q hQ hx hb hr hml hown hlk hts hK hP hD hX ls hl
  have hl : lv_has ls 1 [(0, .ref md)] := hl
  refine li_iconst hx hb dX6_kind_0 ?_
  exact eRi hQ hx hb hr hlk dX6_kind_1 (⟨_, rfl, rfl⟩)
set_option maxHeartbeats 4000000 in
theorem m_kind_7 (l : Launch) (G : va_G) (ty : Nat → ClassId) (ws : va_W) (mi md : Nat) (st rp fr to : Int)  (hM : moveAt ws 6 mi md st rp fr to) (hm : 0 ≤ st ∧ st ≤ 7 ∧ 0 ≤ rp ∧ rp ≤ 1 ∧ 0 ≤ fr ∧ fr ≤ 4 ∧ 0 ≤ to ∧ to ≤ 4) : cR l yX7_kind (ws_ yX7_kind cX7_kind 1 (some .int)) (rm4 0 0 0 0) G ty (ws) [.ref md] (fun r => ∃ z : Int, r = some (.int (ii z)) ∧ z = 2) := by
  refine cR.of (by decide) (Nat.le_of_ble_eq_true rfl) ?_
  intro p e s m args below meth c Q hQ hx hb hr hml hown hlk hts hK hP hD hX ls hl
  have hl : lv_has ls 1 [(0, .ref md)] := hl
  refine li_iconst hx hb dX7_kind_0 ?_
  exact eRi hQ hx hb hr hlk dX7_kind_1 (⟨_, rfl, rfl⟩)
set_option maxHeartbeats 4000000 in
theorem m_kind_8 (l : Launch) (G : va_G) (ty : Nat → ClassId) (ws : va_W) (mi md : Nat) (st rp fr to : Int)  (hM : moveAt ws 7 mi md st rp fr to) (hm : 0 ≤ st ∧ st ≤ 7 ∧ 0 ≤ rp ∧ rp ≤ 1 ∧ 0 ≤ fr ∧ fr ≤ 4 ∧ 0 ≤ to ∧ to ≤ 4) : cR l yX8_kind (ws_ yX8_kind cX8_kind 1 (some .int)) (rm4 0 0 0 0) G ty (ws) [.ref md] (fun r => ∃ z : Int, r = some (.int (ii z)) ∧ z = 3) := by
  refine cR.of (by decide) (Nat.le_of_ble_eq_true rfl) ?_
  intro p e s m args below meth c Q hQ hx hb hr hml hown hlk hts hK hP hD hX ls hl
  have hl : lv_has ls 1 [(0, .ref md)] := hl
  refine li_iconst hx hb dX8_kind_0 ?_
  exact eRi hQ hx hb hr hlk dX8_kind_1 (⟨_, rfl, rfl⟩)
set_option maxHeartbeats 4000000 in
theorem m_kind_9 (l : Launch) (G : va_G) (ty : Nat → ClassId) (ws : va_W) (mi md : Nat) (st rp fr to : Int)  (hM : moveAt ws 8 mi md st rp fr to) (hm : 0 ≤ st ∧ st ≤ 7 ∧ 0 ≤ rp ∧ rp ≤ 1 ∧ 0 ≤ fr ∧ fr ≤ 4 ∧ 0 ≤ to ∧ to ≤ 4) : cR l yX9_kind (ws_ yX9_kind cX9_kind 1 (some .int)) (rm4 0 0 0 0) G ty (ws) [.ref md] (fun r => ∃ z : Int, r = some (.int (ii z)) ∧ z = 4) := by
  refine cR.of (by decide) (Nat.le_of_ble_eq_true rfl) ?_
  intro p e s m args below meth c Q hQ hx hb hr hml hown hlk hts hK hP hD hX ls hl
  have hl : lv_has ls 1 [(0, .ref md)] := hl
  refine li_iconst hx hb dX9_kind_0 ?_
  exact eRi hQ hx hb hr hlk dX9_kind_1 (⟨_, rfl, rfl⟩)
set_option maxHeartbeats 4000000 in
theorem m_kind_10 (l : Launch) (G : va_G) (ty : Nat → ClassId) (ws : va_W) (mi md : Nat) (st rp fr to : Int)  (hM : moveAt ws 9 mi md st rp fr to) (hm : 0 ≤ st ∧ st ≤ 7 ∧ 0 ≤ rp ∧ rp ≤ 1 ∧ 0 ≤ fr ∧ fr ≤ 4 ∧ 0 ≤ to ∧ to ≤ 4) : cR l yX10_kind (ws_ yX10_kind cX10_kind 1 (some .int)) (rm4 0 0 0 0) G ty (ws) [.ref md] (fun r => ∃ z : Int, r = some (.int (ii z)) ∧ z = 5) := by
  refine cR.of (by decide) (Nat.le_of_ble_eq_true rfl) ?_
  intro p e s m args below meth c Q hQ hx hb hr hml hown hlk hts hK hP hD hX ls hl
  have hl : lv_has ls 1 [(0, .ref md)] := hl
  refine li_iconst hx hb dX10_kind_0 ?_
  exact eRi hQ hx hb hr hlk dX10_kind_1 (⟨_, rfl, rfl⟩)
set_option maxHeartbeats 4000000 in
theorem m_kind_11 (l : Launch) (G : va_G) (ty : Nat → ClassId) (ws : va_W) (mi md : Nat) (st rp fr to : Int)  (hM : moveAt ws 10 mi md st rp fr to) (hm : 0 ≤ st ∧ st ≤ 7 ∧ 0 ≤ rp ∧ rp ≤ 1 ∧ 0 ≤ fr ∧ fr ≤ 4 ∧ 0 ≤ to ∧ to ≤ 4) : cR l yX11_kind (ws_ yX11_kind cX11_kind 1 (some .int)) (rm4 0 0 0 0) G ty (ws) [.ref md] (fun r => ∃ z : Int, r = some (.int (ii z)) ∧ z = 6) := by
  refine cR.of (by decide) (Nat.le_of_ble_eq_true rfl) ?_
  intro p e s m args below meth c Q hQ hx hb hr hml hown hlk hts hK hP hD hX ls hl
  have hl : lv_has ls 1 [(0, .ref md)] := hl
  refine li_bipush hx hb dX11_kind_0 (by decide) ?_
  exact eRi hQ hx hb hr hlk dX11_kind_2 (⟨_, rfl, rfl⟩)
set_option maxHeartbeats 4000000 in
theorem m_told_5 (l : Launch) (G : va_G) (ty : Nat → ClassId) (ws : va_W) (mi md : Nat) (st rp fr to : Int)  (hM : moveAt ws 4 mi md st rp fr to) (hm : 0 ≤ st ∧ st ≤ 7 ∧ 0 ≤ rp ∧ rp ≤ 1 ∧ 0 ≤ fr ∧ fr ≤ 4 ∧ 0 ≤ to ∧ to ≤ 4) : cR l yX5_told (ws_ yX5_told cX5_told 1 (some .int)) (rm4 1 0 0 20) G ty (ws) [.ref md] (fun r => ∃ z : Int, r = some (.int (ii z)) ∧ z = 0 + 1000 * st + 100 * rp + 10 * fr + to) := by
  refine cR.of (by decide) (Nat.le_of_ble_eq_true rfl) ?_
  intro p e s m args below meth c Q hQ hx hb hr hml hown hlk hts hK hP hD hX ls hl
  have hl : lv_has ls 1 [(0, .ref md)] := hl
  refine li_sipush hx hb dX5_told_0 (by decide) ?_
  refine lv_aload_n hx hb dX5_told_3 rfl (lv_at hl 0 rfl) ?_
  refine kR (va_runV (As := []) (rest := [.int (ii 10000)]) ⟨hx, hb, hml, hown, hts⟩ (m_kind_5 l G ty ws mi md st rp fr to  hM hm) (cwV 0 hts (lw_V q568 q569 q570 q80 q590) rfl rfl rfl (by decide +kernel) ⟨Nat.le_of_ble_eq_true rfl, Nat.le_of_ble_eq_true rfl⟩) (pvR (r := (RX5, TX5, 4)) hK hP hD hX mi hM rfl) rfl rfl hl.1 rfl (lv_room (Nat.le_of_ble_eq_true rfl)) dX5_told_4 ⟨Nat.le_of_ble_eq_true rfl, Nat.le_of_ble_eq_true rfl⟩) (fun v hv => ?_)
  obtain ⟨z4, rfl, rfl⟩ := hv
  refine li_mul hx hb dX5_told_7 ?_
  refine li_top (b := 0) (by decide) ?_
  refine li_sipush hx hb dX5_told_8 (by decide) ?_
  refine lv_aload_n hx hb dX5_told_11 rfl (lv_at hl 0 rfl) ?_
  refine va_get (D := G) (fs := [.int (ii st), .int (ii rp), .int (ii fr), .int (ii to)]) (ci := 4) (v := .int (ii st)) (C := RX5) (T := TX5) (N := 4) hx hb hts in_X5 hown hK hP mi hM rfl 0 (by decide) (hts _ q861) (fun _ h9 => h9) rfl dX5_told_12 ?_
  refine li_mul hx hb dX5_told_15 ?_
  refine li_add hx hb dX5_told_16 ?_
  refine li_bipush hx hb dX5_told_17 (by decide) ?_
  refine lv_aload_n hx hb dX5_told_19 rfl (lv_at hl 0 rfl) ?_
  refine va_get (D := G) (fs := [.int (ii st), .int (ii rp), .int (ii fr), .int (ii to)]) (ci := 4) (v := .int (ii rp)) (C := RX5) (T := TX5) (N := 4) hx hb hts in_X5 hown hK hP mi hM rfl 1 (by decide) (hts _ q874) (fun _ h9 => h9) rfl dX5_told_20 ?_
  refine li_mul hx hb dX5_told_23 ?_
  refine li_add hx hb dX5_told_24 ?_
  refine li_bipush hx hb dX5_told_25 (by decide) ?_
  refine lv_aload_n hx hb dX5_told_27 rfl (lv_at hl 0 rfl) ?_
  refine va_get (D := G) (fs := [.int (ii st), .int (ii rp), .int (ii fr), .int (ii to)]) (ci := 4) (v := .int (ii fr)) (C := RX5) (T := TX5) (N := 4) hx hb hts in_X5 hown hK hP mi hM rfl 2 (by decide) (hts _ q889) (fun _ h9 => h9) rfl dX5_told_28 ?_
  refine li_mul hx hb dX5_told_31 ?_
  refine li_add hx hb dX5_told_32 ?_
  refine lv_aload_n hx hb dX5_told_33 rfl (lv_at hl 0 rfl) ?_
  refine va_get (D := G) (fs := [.int (ii st), .int (ii rp), .int (ii fr), .int (ii to)]) (ci := 4) (v := .int (ii to)) (C := RX5) (T := TX5) (N := 4) hx hb hts in_X5 hown hK hP mi hM rfl 3 (by decide) (hts _ q900) (fun _ h9 => h9) rfl dX5_told_34 ?_
  refine li_add hx hb dX5_told_37 ?_
  exact eRi hQ hx hb hr hlk dX5_told_38 (⟨_, rfl, by omega⟩)
set_option maxHeartbeats 4000000 in
theorem m_told_6 (l : Launch) (G : va_G) (ty : Nat → ClassId) (ws : va_W) (mi md : Nat) (st rp fr to : Int)  (hM : moveAt ws 5 mi md st rp fr to) (hm : 0 ≤ st ∧ st ≤ 7 ∧ 0 ≤ rp ∧ rp ≤ 1 ∧ 0 ≤ fr ∧ fr ≤ 4 ∧ 0 ≤ to ∧ to ≤ 4) : cR l yX5_told (ws_ yX5_told cX5_told 1 (some .int)) (rm4 1 0 0 20) G ty (ws) [.ref md] (fun r => ∃ z : Int, r = some (.int (ii z)) ∧ z = 10000 + 1000 * st + 100 * rp + 10 * fr + to) := by
  refine cR.of (by decide) (Nat.le_of_ble_eq_true rfl) ?_
  intro p e s m args below meth c Q hQ hx hb hr hml hown hlk hts hK hP hD hX ls hl
  have hl : lv_has ls 1 [(0, .ref md)] := hl
  refine li_sipush hx hb dX5_told_0 (by decide) ?_
  refine lv_aload_n hx hb dX5_told_3 rfl (lv_at hl 0 rfl) ?_
  refine kR (va_runU (x := yX5_kind) (As := []) (rest := [.int (ii 10000)]) ⟨hx, hb, hml, hown, hts⟩ (m_kind_6 l G ty ws mi md st rp fr to  hM hm) (va_cwO (own := "DownRope$Move") (index := 24) (C := "DownRope$Doubled") (owner := "DownRope$Move") (x := yX5_kind) (y := yX6_kind) 0 hts (lw_app (lw_in _ [568, 571, 569, 575, 576, 81] (by decide +kernel) (by decide +kernel)) (lw_meth q577)) rfl rfl rfl q590 (by decide +kernel) ⟨Nat.le_of_ble_eq_true rfl, Nat.le_of_ble_eq_true rfl⟩) (pvR (r := (RX6, TX6, 4)) hK hP hD hX mi hM rfl) rfl rfl hl.1 rfl (lv_room (Nat.le_of_ble_eq_true rfl)) dX5_told_4 ⟨Nat.le_of_ble_eq_true rfl, Nat.le_of_ble_eq_true rfl⟩) (fun v hv => ?_)
  obtain ⟨z4, rfl, rfl⟩ := hv
  refine li_mul hx hb dX5_told_7 ?_
  refine li_top (b := 10000) (by decide) ?_
  refine li_sipush hx hb dX5_told_8 (by decide) ?_
  refine lv_aload_n hx hb dX5_told_11 rfl (lv_at hl 0 rfl) ?_
  refine va_get (D := G) (fs := [.int (ii st), .int (ii rp), .int (ii fr), .int (ii to)]) (ci := 5) (v := .int (ii st)) (C := RX6) (T := TX6) (N := 4) hx hb hts in_X6 hown hK hP mi hM rfl 0 (by decide) (hts _ q861) (fun _ h9 => h9) rfl dX5_told_12 ?_
  refine li_mul hx hb dX5_told_15 ?_
  refine li_add hx hb dX5_told_16 ?_
  refine li_bipush hx hb dX5_told_17 (by decide) ?_
  refine lv_aload_n hx hb dX5_told_19 rfl (lv_at hl 0 rfl) ?_
  refine va_get (D := G) (fs := [.int (ii st), .int (ii rp), .int (ii fr), .int (ii to)]) (ci := 5) (v := .int (ii rp)) (C := RX6) (T := TX6) (N := 4) hx hb hts in_X6 hown hK hP mi hM rfl 1 (by decide) (hts _ q874) (fun _ h9 => h9) rfl dX5_told_20 ?_
  refine li_mul hx hb dX5_told_23 ?_
  refine li_add hx hb dX5_told_24 ?_
  refine li_bipush hx hb dX5_told_25 (by decide) ?_
  refine lv_aload_n hx hb dX5_told_27 rfl (lv_at hl 0 rfl) ?_
  refine va_get (D := G) (fs := [.int (ii st), .int (ii rp), .int (ii fr), .int (ii to)]) (ci := 5) (v := .int (ii fr)) (C := RX6) (T := TX6) (N := 4) hx hb hts in_X6 hown hK hP mi hM rfl 2 (by decide) (hts _ q889) (fun _ h9 => h9) rfl dX5_told_28 ?_
  refine li_mul hx hb dX5_told_31 ?_
  refine li_add hx hb dX5_told_32 ?_
  refine lv_aload_n hx hb dX5_told_33 rfl (lv_at hl 0 rfl) ?_
  refine va_get (D := G) (fs := [.int (ii st), .int (ii rp), .int (ii fr), .int (ii to)]) (ci := 5) (v := .int (ii to)) (C := RX6) (T := TX6) (N := 4) hx hb hts in_X6 hown hK hP mi hM rfl 3 (by decide) (hts _ q900) (fun _ h9 => h9) rfl dX5_told_34 ?_
  refine li_add hx hb dX5_told_37 ?_
  exact eRi hQ hx hb hr hlk dX5_told_38 (⟨_, rfl, by omega⟩)
set_option maxHeartbeats 4000000 in
theorem m_told_7 (l : Launch) (G : va_G) (ty : Nat → ClassId) (ws : va_W) (mi md : Nat) (st rp fr to : Int)  (hM : moveAt ws 6 mi md st rp fr to) (hm : 0 ≤ st ∧ st ≤ 7 ∧ 0 ≤ rp ∧ rp ≤ 1 ∧ 0 ≤ fr ∧ fr ≤ 4 ∧ 0 ≤ to ∧ to ≤ 4) : cR l yX5_told (ws_ yX5_told cX5_told 1 (some .int)) (rm4 1 0 0 20) G ty (ws) [.ref md] (fun r => ∃ z : Int, r = some (.int (ii z)) ∧ z = 20000 + 1000 * st + 100 * rp + 10 * fr + to) := by
  refine cR.of (by decide) (Nat.le_of_ble_eq_true rfl) ?_
  intro p e s m args below meth c Q hQ hx hb hr hml hown hlk hts hK hP hD hX ls hl
  have hl : lv_has ls 1 [(0, .ref md)] := hl
  refine li_sipush hx hb dX5_told_0 (by decide) ?_
  refine lv_aload_n hx hb dX5_told_3 rfl (lv_at hl 0 rfl) ?_
  refine kR (va_runU (x := yX5_kind) (As := []) (rest := [.int (ii 10000)]) ⟨hx, hb, hml, hown, hts⟩ (m_kind_7 l G ty ws mi md st rp fr to  hM hm) (va_cwO (own := "DownRope$Move") (index := 24) (C := "DownRope$Single") (owner := "DownRope$Move") (x := yX5_kind) (y := yX7_kind) 0 hts (lw_app (lw_in _ [568, 571, 569, 584, 585, 82] (by decide +kernel) (by decide +kernel)) (lw_meth q586)) rfl rfl rfl q590 (by decide +kernel) ⟨Nat.le_of_ble_eq_true rfl, Nat.le_of_ble_eq_true rfl⟩) (pvR (r := (RX7, TX7, 4)) hK hP hD hX mi hM rfl) rfl rfl hl.1 rfl (lv_room (Nat.le_of_ble_eq_true rfl)) dX5_told_4 ⟨Nat.le_of_ble_eq_true rfl, Nat.le_of_ble_eq_true rfl⟩) (fun v hv => ?_)
  obtain ⟨z4, rfl, rfl⟩ := hv
  refine li_mul hx hb dX5_told_7 ?_
  refine li_top (b := 20000) (by decide) ?_
  refine li_sipush hx hb dX5_told_8 (by decide) ?_
  refine lv_aload_n hx hb dX5_told_11 rfl (lv_at hl 0 rfl) ?_
  refine va_get (D := G) (fs := [.int (ii st), .int (ii rp), .int (ii fr), .int (ii to)]) (ci := 6) (v := .int (ii st)) (C := RX7) (T := TX7) (N := 4) hx hb hts in_X7 hown hK hP mi hM rfl 0 (by decide) (hts _ q861) (fun _ h9 => h9) rfl dX5_told_12 ?_
  refine li_mul hx hb dX5_told_15 ?_
  refine li_add hx hb dX5_told_16 ?_
  refine li_bipush hx hb dX5_told_17 (by decide) ?_
  refine lv_aload_n hx hb dX5_told_19 rfl (lv_at hl 0 rfl) ?_
  refine va_get (D := G) (fs := [.int (ii st), .int (ii rp), .int (ii fr), .int (ii to)]) (ci := 6) (v := .int (ii rp)) (C := RX7) (T := TX7) (N := 4) hx hb hts in_X7 hown hK hP mi hM rfl 1 (by decide) (hts _ q874) (fun _ h9 => h9) rfl dX5_told_20 ?_
  refine li_mul hx hb dX5_told_23 ?_
  refine li_add hx hb dX5_told_24 ?_
  refine li_bipush hx hb dX5_told_25 (by decide) ?_
  refine lv_aload_n hx hb dX5_told_27 rfl (lv_at hl 0 rfl) ?_
  refine va_get (D := G) (fs := [.int (ii st), .int (ii rp), .int (ii fr), .int (ii to)]) (ci := 6) (v := .int (ii fr)) (C := RX7) (T := TX7) (N := 4) hx hb hts in_X7 hown hK hP mi hM rfl 2 (by decide) (hts _ q889) (fun _ h9 => h9) rfl dX5_told_28 ?_
  refine li_mul hx hb dX5_told_31 ?_
  refine li_add hx hb dX5_told_32 ?_
  refine lv_aload_n hx hb dX5_told_33 rfl (lv_at hl 0 rfl) ?_
  refine va_get (D := G) (fs := [.int (ii st), .int (ii rp), .int (ii fr), .int (ii to)]) (ci := 6) (v := .int (ii to)) (C := RX7) (T := TX7) (N := 4) hx hb hts in_X7 hown hK hP mi hM rfl 3 (by decide) (hts _ q900) (fun _ h9 => h9) rfl dX5_told_34 ?_
  refine li_add hx hb dX5_told_37 ?_
  exact eRi hQ hx hb hr hlk dX5_told_38 (⟨_, rfl, by omega⟩)
set_option maxHeartbeats 4000000 in
theorem m_told_8 (l : Launch) (G : va_G) (ty : Nat → ClassId) (ws : va_W) (mi md : Nat) (st rp fr to : Int)  (hM : moveAt ws 7 mi md st rp fr to) (hm : 0 ≤ st ∧ st ≤ 7 ∧ 0 ≤ rp ∧ rp ≤ 1 ∧ 0 ≤ fr ∧ fr ≤ 4 ∧ 0 ≤ to ∧ to ≤ 4) : cR l yX5_told (ws_ yX5_told cX5_told 1 (some .int)) (rm4 1 0 0 20) G ty (ws) [.ref md] (fun r => ∃ z : Int, r = some (.int (ii z)) ∧ z = 30000 + 1000 * st + 100 * rp + 10 * fr + to) := by
  refine cR.of (by decide) (Nat.le_of_ble_eq_true rfl) ?_
  intro p e s m args below meth c Q hQ hx hb hr hml hown hlk hts hK hP hD hX ls hl
  have hl : lv_has ls 1 [(0, .ref md)] := hl
  refine li_sipush hx hb dX5_told_0 (by decide) ?_
  refine lv_aload_n hx hb dX5_told_3 rfl (lv_at hl 0 rfl) ?_
  refine kR (va_runU (x := yX5_kind) (As := []) (rest := [.int (ii 10000)]) ⟨hx, hb, hml, hown, hts⟩ (m_kind_8 l G ty ws mi md st rp fr to  hM hm) (va_cwO (own := "DownRope$Move") (index := 24) (C := "DownRope$Joined") (owner := "DownRope$Move") (x := yX5_kind) (y := yX8_kind) 0 hts (lw_app (lw_in _ [568, 571, 569, 578, 579, 83] (by decide +kernel) (by decide +kernel)) (lw_meth q580)) rfl rfl rfl q590 (by decide +kernel) ⟨Nat.le_of_ble_eq_true rfl, Nat.le_of_ble_eq_true rfl⟩) (pvR (r := (RX8, TX8, 4)) hK hP hD hX mi hM rfl) rfl rfl hl.1 rfl (lv_room (Nat.le_of_ble_eq_true rfl)) dX5_told_4 ⟨Nat.le_of_ble_eq_true rfl, Nat.le_of_ble_eq_true rfl⟩) (fun v hv => ?_)
  obtain ⟨z4, rfl, rfl⟩ := hv
  refine li_mul hx hb dX5_told_7 ?_
  refine li_top (b := 30000) (by decide) ?_
  refine li_sipush hx hb dX5_told_8 (by decide) ?_
  refine lv_aload_n hx hb dX5_told_11 rfl (lv_at hl 0 rfl) ?_
  refine va_get (D := G) (fs := [.int (ii st), .int (ii rp), .int (ii fr), .int (ii to)]) (ci := 7) (v := .int (ii st)) (C := RX8) (T := TX8) (N := 4) hx hb hts in_X8 hown hK hP mi hM rfl 0 (by decide) (hts _ q861) (fun _ h9 => h9) rfl dX5_told_12 ?_
  refine li_mul hx hb dX5_told_15 ?_
  refine li_add hx hb dX5_told_16 ?_
  refine li_bipush hx hb dX5_told_17 (by decide) ?_
  refine lv_aload_n hx hb dX5_told_19 rfl (lv_at hl 0 rfl) ?_
  refine va_get (D := G) (fs := [.int (ii st), .int (ii rp), .int (ii fr), .int (ii to)]) (ci := 7) (v := .int (ii rp)) (C := RX8) (T := TX8) (N := 4) hx hb hts in_X8 hown hK hP mi hM rfl 1 (by decide) (hts _ q874) (fun _ h9 => h9) rfl dX5_told_20 ?_
  refine li_mul hx hb dX5_told_23 ?_
  refine li_add hx hb dX5_told_24 ?_
  refine li_bipush hx hb dX5_told_25 (by decide) ?_
  refine lv_aload_n hx hb dX5_told_27 rfl (lv_at hl 0 rfl) ?_
  refine va_get (D := G) (fs := [.int (ii st), .int (ii rp), .int (ii fr), .int (ii to)]) (ci := 7) (v := .int (ii fr)) (C := RX8) (T := TX8) (N := 4) hx hb hts in_X8 hown hK hP mi hM rfl 2 (by decide) (hts _ q889) (fun _ h9 => h9) rfl dX5_told_28 ?_
  refine li_mul hx hb dX5_told_31 ?_
  refine li_add hx hb dX5_told_32 ?_
  refine lv_aload_n hx hb dX5_told_33 rfl (lv_at hl 0 rfl) ?_
  refine va_get (D := G) (fs := [.int (ii st), .int (ii rp), .int (ii fr), .int (ii to)]) (ci := 7) (v := .int (ii to)) (C := RX8) (T := TX8) (N := 4) hx hb hts in_X8 hown hK hP mi hM rfl 3 (by decide) (hts _ q900) (fun _ h9 => h9) rfl dX5_told_34 ?_
  refine li_add hx hb dX5_told_37 ?_
  exact eRi hQ hx hb hr hlk dX5_told_38 (⟨_, rfl, by omega⟩)
set_option maxHeartbeats 4000000 in
theorem m_told_9 (l : Launch) (G : va_G) (ty : Nat → ClassId) (ws : va_W) (mi md : Nat) (st rp fr to : Int)  (hM : moveAt ws 8 mi md st rp fr to) (hm : 0 ≤ st ∧ st ≤ 7 ∧ 0 ≤ rp ∧ rp ≤ 1 ∧ 0 ≤ fr ∧ fr ≤ 4 ∧ 0 ≤ to ∧ to ≤ 4) : cR l yX5_told (ws_ yX5_told cX5_told 1 (some .int)) (rm4 1 0 0 20) G ty (ws) [.ref md] (fun r => ∃ z : Int, r = some (.int (ii z)) ∧ z = 40000 + 1000 * st + 100 * rp + 10 * fr + to) := by
  refine cR.of (by decide) (Nat.le_of_ble_eq_true rfl) ?_
  intro p e s m args below meth c Q hQ hx hb hr hml hown hlk hts hK hP hD hX ls hl
  have hl : lv_has ls 1 [(0, .ref md)] := hl
  refine li_sipush hx hb dX5_told_0 (by decide) ?_
  refine lv_aload_n hx hb dX5_told_3 rfl (lv_at hl 0 rfl) ?_
  refine kR (va_runU (x := yX5_kind) (As := []) (rest := [.int (ii 10000)]) ⟨hx, hb, hml, hown, hts⟩ (m_kind_9 l G ty ws mi md st rp fr to  hM hm) (va_cwO (own := "DownRope$Move") (index := 24) (C := "DownRope$Let") (owner := "DownRope$Move") (x := yX5_kind) (y := yX9_kind) 0 hts (lw_app (lw_in _ [568, 571, 569, 581, 582, 84] (by decide +kernel) (by decide +kernel)) (lw_meth q583)) rfl rfl rfl q590 (by decide +kernel) ⟨Nat.le_of_ble_eq_true rfl, Nat.le_of_ble_eq_true rfl⟩) (pvR (r := (RX9, TX9, 4)) hK hP hD hX mi hM rfl) rfl rfl hl.1 rfl (lv_room (Nat.le_of_ble_eq_true rfl)) dX5_told_4 ⟨Nat.le_of_ble_eq_true rfl, Nat.le_of_ble_eq_true rfl⟩) (fun v hv => ?_)
  obtain ⟨z4, rfl, rfl⟩ := hv
  refine li_mul hx hb dX5_told_7 ?_
  refine li_top (b := 40000) (by decide) ?_
  refine li_sipush hx hb dX5_told_8 (by decide) ?_
  refine lv_aload_n hx hb dX5_told_11 rfl (lv_at hl 0 rfl) ?_
  refine va_get (D := G) (fs := [.int (ii st), .int (ii rp), .int (ii fr), .int (ii to)]) (ci := 8) (v := .int (ii st)) (C := RX9) (T := TX9) (N := 4) hx hb hts in_X9 hown hK hP mi hM rfl 0 (by decide) (hts _ q861) (fun _ h9 => h9) rfl dX5_told_12 ?_
  refine li_mul hx hb dX5_told_15 ?_
  refine li_add hx hb dX5_told_16 ?_
  refine li_bipush hx hb dX5_told_17 (by decide) ?_
  refine lv_aload_n hx hb dX5_told_19 rfl (lv_at hl 0 rfl) ?_
  refine va_get (D := G) (fs := [.int (ii st), .int (ii rp), .int (ii fr), .int (ii to)]) (ci := 8) (v := .int (ii rp)) (C := RX9) (T := TX9) (N := 4) hx hb hts in_X9 hown hK hP mi hM rfl 1 (by decide) (hts _ q874) (fun _ h9 => h9) rfl dX5_told_20 ?_
  refine li_mul hx hb dX5_told_23 ?_
  refine li_add hx hb dX5_told_24 ?_
  refine li_bipush hx hb dX5_told_25 (by decide) ?_
  refine lv_aload_n hx hb dX5_told_27 rfl (lv_at hl 0 rfl) ?_
  refine va_get (D := G) (fs := [.int (ii st), .int (ii rp), .int (ii fr), .int (ii to)]) (ci := 8) (v := .int (ii fr)) (C := RX9) (T := TX9) (N := 4) hx hb hts in_X9 hown hK hP mi hM rfl 2 (by decide) (hts _ q889) (fun _ h9 => h9) rfl dX5_told_28 ?_
  refine li_mul hx hb dX5_told_31 ?_
  refine li_add hx hb dX5_told_32 ?_
  refine lv_aload_n hx hb dX5_told_33 rfl (lv_at hl 0 rfl) ?_
  refine va_get (D := G) (fs := [.int (ii st), .int (ii rp), .int (ii fr), .int (ii to)]) (ci := 8) (v := .int (ii to)) (C := RX9) (T := TX9) (N := 4) hx hb hts in_X9 hown hK hP mi hM rfl 3 (by decide) (hts _ q900) (fun _ h9 => h9) rfl dX5_told_34 ?_
  refine li_add hx hb dX5_told_37 ?_
  exact eRi hQ hx hb hr hlk dX5_told_38 (⟨_, rfl, by omega⟩)
set_option maxHeartbeats 4000000 in
theorem m_told_10 (l : Launch) (G : va_G) (ty : Nat → ClassId) (ws : va_W) (mi md : Nat) (st rp fr to : Int)  (hM : moveAt ws 9 mi md st rp fr to) (hm : 0 ≤ st ∧ st ≤ 7 ∧ 0 ≤ rp ∧ rp ≤ 1 ∧ 0 ≤ fr ∧ fr ≤ 4 ∧ 0 ≤ to ∧ to ≤ 4) : cR l yX5_told (ws_ yX5_told cX5_told 1 (some .int)) (rm4 1 0 0 20) G ty (ws) [.ref md] (fun r => ∃ z : Int, r = some (.int (ii z)) ∧ z = 50000 + 1000 * st + 100 * rp + 10 * fr + to) := by
  refine cR.of (by decide) (Nat.le_of_ble_eq_true rfl) ?_
  intro p e s m args below meth c Q hQ hx hb hr hml hown hlk hts hK hP hD hX ls hl
  have hl : lv_has ls 1 [(0, .ref md)] := hl
  refine li_sipush hx hb dX5_told_0 (by decide) ?_
  refine lv_aload_n hx hb dX5_told_3 rfl (lv_at hl 0 rfl) ?_
  refine kR (va_runU (x := yX5_kind) (As := []) (rest := [.int (ii 10000)]) ⟨hx, hb, hml, hown, hts⟩ (m_kind_10 l G ty ws mi md st rp fr to  hM hm) (va_cwO (own := "DownRope$Move") (index := 24) (C := "DownRope$Climb") (owner := "DownRope$Move") (x := yX5_kind) (y := yX10_kind) 0 hts (lw_app (lw_in _ [568, 571, 569, 572, 573, 85] (by decide +kernel) (by decide +kernel)) (lw_meth q574)) rfl rfl rfl q590 (by decide +kernel) ⟨Nat.le_of_ble_eq_true rfl, Nat.le_of_ble_eq_true rfl⟩) (pvR (r := (RX10, TX10, 4)) hK hP hD hX mi hM rfl) rfl rfl hl.1 rfl (lv_room (Nat.le_of_ble_eq_true rfl)) dX5_told_4 ⟨Nat.le_of_ble_eq_true rfl, Nat.le_of_ble_eq_true rfl⟩) (fun v hv => ?_)
  obtain ⟨z4, rfl, rfl⟩ := hv
  refine li_mul hx hb dX5_told_7 ?_
  refine li_top (b := 50000) (by decide) ?_
  refine li_sipush hx hb dX5_told_8 (by decide) ?_
  refine lv_aload_n hx hb dX5_told_11 rfl (lv_at hl 0 rfl) ?_
  refine va_get (D := G) (fs := [.int (ii st), .int (ii rp), .int (ii fr), .int (ii to)]) (ci := 9) (v := .int (ii st)) (C := RX10) (T := TX10) (N := 4) hx hb hts in_X10 hown hK hP mi hM rfl 0 (by decide) (hts _ q861) (fun _ h9 => h9) rfl dX5_told_12 ?_
  refine li_mul hx hb dX5_told_15 ?_
  refine li_add hx hb dX5_told_16 ?_
  refine li_bipush hx hb dX5_told_17 (by decide) ?_
  refine lv_aload_n hx hb dX5_told_19 rfl (lv_at hl 0 rfl) ?_
  refine va_get (D := G) (fs := [.int (ii st), .int (ii rp), .int (ii fr), .int (ii to)]) (ci := 9) (v := .int (ii rp)) (C := RX10) (T := TX10) (N := 4) hx hb hts in_X10 hown hK hP mi hM rfl 1 (by decide) (hts _ q874) (fun _ h9 => h9) rfl dX5_told_20 ?_
  refine li_mul hx hb dX5_told_23 ?_
  refine li_add hx hb dX5_told_24 ?_
  refine li_bipush hx hb dX5_told_25 (by decide) ?_
  refine lv_aload_n hx hb dX5_told_27 rfl (lv_at hl 0 rfl) ?_
  refine va_get (D := G) (fs := [.int (ii st), .int (ii rp), .int (ii fr), .int (ii to)]) (ci := 9) (v := .int (ii fr)) (C := RX10) (T := TX10) (N := 4) hx hb hts in_X10 hown hK hP mi hM rfl 2 (by decide) (hts _ q889) (fun _ h9 => h9) rfl dX5_told_28 ?_
  refine li_mul hx hb dX5_told_31 ?_
  refine li_add hx hb dX5_told_32 ?_
  refine lv_aload_n hx hb dX5_told_33 rfl (lv_at hl 0 rfl) ?_
  refine va_get (D := G) (fs := [.int (ii st), .int (ii rp), .int (ii fr), .int (ii to)]) (ci := 9) (v := .int (ii to)) (C := RX10) (T := TX10) (N := 4) hx hb hts in_X10 hown hK hP mi hM rfl 3 (by decide) (hts _ q900) (fun _ h9 => h9) rfl dX5_told_34 ?_
  refine li_add hx hb dX5_told_37 ?_
  exact eRi hQ hx hb hr hlk dX5_told_38 (⟨_, rfl, by omega⟩)
set_option maxHeartbeats 4000000 in
theorem m_told_11 (l : Launch) (G : va_G) (ty : Nat → ClassId) (ws : va_W) (mi md : Nat) (st rp fr to : Int)  (hM : moveAt ws 10 mi md st rp fr to) (hm : 0 ≤ st ∧ st ≤ 7 ∧ 0 ≤ rp ∧ rp ≤ 1 ∧ 0 ≤ fr ∧ fr ≤ 4 ∧ 0 ≤ to ∧ to ≤ 4) : cR l yX5_told (ws_ yX5_told cX5_told 1 (some .int)) (rm4 1 0 0 20) G ty (ws) [.ref md] (fun r => ∃ z : Int, r = some (.int (ii z)) ∧ z = 60000 + 1000 * st + 100 * rp + 10 * fr + to) := by
  refine cR.of (by decide) (Nat.le_of_ble_eq_true rfl) ?_
  intro p e s m args below meth c Q hQ hx hb hr hml hown hlk hts hK hP hD hX ls hl
  have hl : lv_has ls 1 [(0, .ref md)] := hl
  refine li_sipush hx hb dX5_told_0 (by decide) ?_
  refine lv_aload_n hx hb dX5_told_3 rfl (lv_at hl 0 rfl) ?_
  refine kR (va_runU (x := yX5_kind) (As := []) (rest := [.int (ii 10000)]) ⟨hx, hb, hml, hown, hts⟩ (m_kind_11 l G ty ws mi md st rp fr to  hM hm) (va_cwO (own := "DownRope$Move") (index := 24) (C := "DownRope$Throw") (owner := "DownRope$Move") (x := yX5_kind) (y := yX11_kind) 0 hts (lw_app (lw_in _ [568, 571, 569, 587, 588, 86] (by decide +kernel) (by decide +kernel)) (lw_meth q589)) rfl rfl rfl q590 (by decide +kernel) ⟨Nat.le_of_ble_eq_true rfl, Nat.le_of_ble_eq_true rfl⟩) (pvR (r := (RX11, TX11, 4)) hK hP hD hX mi hM rfl) rfl rfl hl.1 rfl (lv_room (Nat.le_of_ble_eq_true rfl)) dX5_told_4 ⟨Nat.le_of_ble_eq_true rfl, Nat.le_of_ble_eq_true rfl⟩) (fun v hv => ?_)
  obtain ⟨z4, rfl, rfl⟩ := hv
  refine li_mul hx hb dX5_told_7 ?_
  refine li_top (b := 60000) (by decide) ?_
  refine li_sipush hx hb dX5_told_8 (by decide) ?_
  refine lv_aload_n hx hb dX5_told_11 rfl (lv_at hl 0 rfl) ?_
  refine va_get (D := G) (fs := [.int (ii st), .int (ii rp), .int (ii fr), .int (ii to)]) (ci := 10) (v := .int (ii st)) (C := RX11) (T := TX11) (N := 4) hx hb hts in_X11 hown hK hP mi hM rfl 0 (by decide) (hts _ q861) (fun _ h9 => h9) rfl dX5_told_12 ?_
  refine li_mul hx hb dX5_told_15 ?_
  refine li_add hx hb dX5_told_16 ?_
  refine li_bipush hx hb dX5_told_17 (by decide) ?_
  refine lv_aload_n hx hb dX5_told_19 rfl (lv_at hl 0 rfl) ?_
  refine va_get (D := G) (fs := [.int (ii st), .int (ii rp), .int (ii fr), .int (ii to)]) (ci := 10) (v := .int (ii rp)) (C := RX11) (T := TX11) (N := 4) hx hb hts in_X11 hown hK hP mi hM rfl 1 (by decide) (hts _ q874) (fun _ h9 => h9) rfl dX5_told_20 ?_
  refine li_mul hx hb dX5_told_23 ?_
  refine li_add hx hb dX5_told_24 ?_
  refine li_bipush hx hb dX5_told_25 (by decide) ?_
  refine lv_aload_n hx hb dX5_told_27 rfl (lv_at hl 0 rfl) ?_
  refine va_get (D := G) (fs := [.int (ii st), .int (ii rp), .int (ii fr), .int (ii to)]) (ci := 10) (v := .int (ii fr)) (C := RX11) (T := TX11) (N := 4) hx hb hts in_X11 hown hK hP mi hM rfl 2 (by decide) (hts _ q889) (fun _ h9 => h9) rfl dX5_told_28 ?_
  refine li_mul hx hb dX5_told_31 ?_
  refine li_add hx hb dX5_told_32 ?_
  refine lv_aload_n hx hb dX5_told_33 rfl (lv_at hl 0 rfl) ?_
  refine va_get (D := G) (fs := [.int (ii st), .int (ii rp), .int (ii fr), .int (ii to)]) (ci := 10) (v := .int (ii to)) (C := RX11) (T := TX11) (N := 4) hx hb hts in_X11 hown hK hP mi hM rfl 3 (by decide) (hts _ q900) (fun _ h9 => h9) rfl dX5_told_34 ?_
  refine li_add hx hb dX5_told_37 ?_
  exact eRi hQ hx hb hr hlk dX5_told_38 (⟨_, rfl, by omega⟩)
set_option maxHeartbeats 4000000 in
theorem m_moreD_6 (l : Launch) (G : va_G) (ty : Nat → ClassId) (ws : va_W) (mi md : Nat) (st rp fr to : Int)  (hM : moveAt ws 5 mi md st rp fr to) (hm : 0 ≤ st ∧ st ≤ 7 ∧ 0 ≤ rp ∧ rp ≤ 1 ∧ 0 ≤ fr ∧ fr ≤ 4 ∧ 0 ≤ to ∧ to ≤ 4) : cR l yX6_more (ws_ yX6_more cX6_more 1 (some .int)) (rm4 0 0 0 0) G ty (ws) [.ref md] (fun r => ∃ z : Int, r = some (.int (ii z)) ∧ z = 4) := by
  refine cR.of (by decide) (Nat.le_of_ble_eq_true rfl) ?_
  intro p e s m args below meth c Q hQ hx hb hr hml hown hlk hts hK hP hD hX ls hl
  have hl : lv_has ls 1 [(0, .ref md)] := hl
  refine li_iconst hx hb dX6_more_0 ?_
  exact eRi hQ hx hb hr hlk dX6_more_1 (⟨_, rfl, rfl⟩)
set_option maxHeartbeats 4000000 in
theorem m_moreD_8 (l : Launch) (G : va_G) (ty : Nat → ClassId) (ws : va_W) (mi md : Nat) (st rp fr to : Int)  (hM : moveAt ws 7 mi md st rp fr to) (hm : 0 ≤ st ∧ st ≤ 7 ∧ 0 ≤ rp ∧ rp ≤ 1 ∧ 0 ≤ fr ∧ fr ≤ 4 ∧ 0 ≤ to ∧ to ≤ 4) : cR l yX6_more (ws_ yX6_more cX6_more 1 (some .int)) (rm4 0 0 0 0) G ty (ws) [.ref md] (fun r => ∃ z : Int, r = some (.int (ii z)) ∧ z = 4) := by
  refine cR.of (by decide) (Nat.le_of_ble_eq_true rfl) ?_
  intro p e s m args below meth c Q hQ hx hb hr hml hown hlk hts hK hP hD hX ls hl
  have hl : lv_has ls 1 [(0, .ref md)] := hl
  refine li_iconst hx hb dX6_more_0 ?_
  exact eRi hQ hx hb hr hlk dX6_more_1 (⟨_, rfl, rfl⟩)
set_option maxHeartbeats 4000000 in
theorem m_moreJ_8 (l : Launch) (G : va_G) (ty : Nat → ClassId) (ws : va_W) (mi md : Nat) (st rp fr to : Int)  (hM : moveAt ws 7 mi md st rp fr to) (hm : 0 ≤ st ∧ st ≤ 7 ∧ 0 ≤ rp ∧ rp ≤ 1 ∧ 0 ≤ fr ∧ fr ≤ 4 ∧ 0 ≤ to ∧ to ≤ 4) : cR l yX8_more (ws_ yX8_more cX8_more 1 (some .int)) (rm4 1 0 0 20) G ty (ws) [.ref md] (fun r => ∃ z : Int, r = some (.int (ii z)) ∧ z = 9) := by
  refine cR.of (by decide) (Nat.le_of_ble_eq_true rfl) ?_
  intro p e s m args below meth c Q hQ hx hb hr hml hown hlk hts hK hP hD hX ls hl
  have hl : lv_has ls 1 [(0, .ref md)] := hl
  refine lv_aload_n hx hb dX8_more_0 rfl (lv_at hl 0 rfl) ?_
  refine kR (va_runSU (hK.1 7 _ rfl).2 (As := []) (rest := []) ⟨hx, hb, hml, hown, hts⟩ (m_moreD_8 l G ty ws mi md st rp fr to  hM hm) (va_cwSU 0 hts (lw_app (lw_in _ [456, 452, 457, 450, 81] (by decide +kernel) (by decide +kernel)) (lw_meth q458)) rfl rfl rfl (by decide +kernel) ⟨Nat.le_of_ble_eq_true rfl, Nat.le_of_ble_eq_true rfl⟩) (pvR (r := (RX8, TX8, 4)) hK hP hD hX mi hM rfl) rfl rfl hl.1 rfl (lv_room (Nat.le_of_ble_eq_true rfl)) dX8_more_1 ⟨Nat.le_of_ble_eq_true rfl, Nat.le_of_ble_eq_true rfl⟩) (fun v hv => ?_)
  obtain ⟨z1, rfl, rfl⟩ := hv
  refine li_iconst hx hb dX8_more_4 ?_
  refine li_add hx hb dX8_more_5 ?_
  refine li_top (b := 9) (by decide) ?_
  exact eRi hQ hx hb hr hlk dX8_more_6 (⟨_, rfl, rfl⟩)
set_option maxHeartbeats 4000000 in
theorem m_reaches_6 (l : Launch) (G : va_G) (ty : Nat → ClassId) (ws : va_W) (fi fd : Nat → Nat) (F : mem) (si sd : Nat → Nat) (w q : Int → Int) (mi md : Nat) (st rp fr to : Int) (x : Int) (hF : faceAt ty ws fi fd F) (hW : wfF F) (hSp : spotAt ty ws si sd w q) (hWS : wfS w q) (hM : moveAt ws 5 mi md st rp fr to) (hm : 0 ≤ st ∧ st ≤ 7 ∧ 0 ≤ rp ∧ rp ≤ 1 ∧ 0 ≤ fr ∧ fr ≤ 4 ∧ 0 ≤ to ∧ to ≤ 4) (hx0 : 0 ≤ x ∧ x ≤ 1000) : cR l yX6_reaches (ws_ yX6_reaches cX6_reaches 4 (some .boolean)) (rm4 1 0 0 23) G ty (ws) [.ref md, .ref (fd 0), .ref (sd 0), .int (ii x)] (fun r => ∃ z : Int, r = some (.int (ii z)) ∧ ((z = 1 ∧ okRope F q rp fr ∧ 2 * x ≤ F 5 rp) ∨ (z = 0 ∧ ¬ (okRope F q rp fr ∧ 2 * x ≤ F 5 rp)))) := by
  refine cR.of (by decide) (Nat.le_of_ble_eq_true rfl) ?_
  intro p e s m args below meth c Q hQ hx hb hr hml hown hlk hts hK hP hD hX ls hl
  have hl : lv_has ls 4 [(0, .ref md), (1, .ref (fd 0)), (2, .ref (sd 0)), (3, .int (ii x))] := hl
  obtain ⟨hw0, hw1, hw2, hw3, hw4, hw5, h8a, h8b, h9a, h9b, h10a, h10b⟩ := id hW
  obtain ⟨hs0, hs1⟩ := id hWS
  obtain ⟨hm0, hm1, hm2, hm3, hm4, hm5, hm6, hm7⟩ := id hm
  refine lv_aload_n hx hb dX6_reaches_0 rfl (lv_at hl 0 rfl) ?_
  refine lv_aload_n hx hb dX6_reaches_1 rfl (lv_at hl 1 rfl) ?_
  refine lv_aload_n hx hb dX6_reaches_2 rfl (lv_at hl 2 rfl) ?_
  refine lv_aload_n hx hb dX6_reaches_3 rfl (lv_at hl 0 rfl) ?_
  refine va_get (D := G) (fs := [.int (ii st), .int (ii rp), .int (ii fr), .int (ii to)]) (ci := 5) (v := .int (ii rp)) (C := RX6) (T := TX6) (N := 4) hx hb hts in_X6 hown hK hP mi hM rfl 1 (by decide) (hts _ q872) (fun x h9 => sf_X6_rope hts x h9) rfl dX6_reaches_4 ?_
  refine kR (va_runU (x := (⟨"DownRope$Doubled", "hasRope", "(LDownRope$Face;LDownRope$Spot;I)Z"⟩ : MethodName)) (As := [.ref (fd 0), .ref (sd 0), .int (ii rp)]) (rest := []) ⟨hx, hb, hml, hown, hts⟩ (m_hasRope_6 l G ty ws fi fd F si sd w q mi md st rp fr to rp hF hW hSp hWS hM hm (by omega)) (va_cwU (own := "DownRope$Doubled") (index := 15) (C := "DownRope$Doubled") (owner := "DownRope$Move") (x := (⟨"DownRope$Doubled", "hasRope", "(LDownRope$Face;LDownRope$Spot;I)Z"⟩ : MethodName)) (y := yX5_hasRope) 3 hts (lw_app (lw_in _ [445, 446, 447, 441, 80] (by decide +kernel) (by decide +kernel)) (lw_meth q442)) rfl rfl rfl rfl (by decide +kernel) ⟨Nat.le_of_ble_eq_true rfl, Nat.le_of_ble_eq_true rfl⟩) (pvR (r := (RX6, TX6, 4)) hK hP hD hX mi hM rfl) rfl rfl hl.1 rfl (lv_room (Nat.le_of_ble_eq_true rfl)) dX6_reaches_7 ⟨Nat.le_of_ble_eq_true rfl, Nat.le_of_ble_eq_true rfl⟩) (fun v hv => ?_)
  obtain ⟨z7, rfl, ⟨rfl, h7⟩ | ⟨rfl, h7⟩⟩ := hv
  · refine li_if_eq (tgt := 32) hx hb ⟨by decide, by decide⟩ dX6_reaches_10 (by decide) (fun c10 => ?_) (fun c10 => ?_)
    · exact absurd c10 (by decide)
    · refine li_iconst hx hb dX6_reaches_13 ?_
      refine lv_iload_n hx hb dX6_reaches_14 rfl (lv_at hl 3 rfl) ?_
      refine li_mul hx hb dX6_reaches_15 ?_
      refine lv_aload_n hx hb dX6_reaches_16 rfl (lv_at hl 1 rfl) ?_
      refine va_get (D := G) (fs := [.ref (fd 1), .ref (fd 2), .ref (fd 3), .ref (fd 4), .int (ii (F 8 0)), .ref (fd 5), .int (ii (F 9 0)), .ref (fd 6), .int (ii (F 10 0)), .int (ii (F 11 0)), .int (ii (F 12 0)), .int (ii (F 13 0)), .ref (fd 7)]) (ci := 1) (v := .ref (fd 6)) (C := RX2) (T := TX2) (N := 13) hx hb hts in_X2 hown hK hP (fi 0) hF.1 rfl 7 (by decide) (hts _ q795) (fun _ h9 => h9) rfl dX6_reaches_17 ?_
      refine lv_aload_n hx hb dX6_reaches_20 rfl (lv_at hl 0 rfl) ?_
      refine va_get (D := G) (fs := [.int (ii st), .int (ii rp), .int (ii fr), .int (ii to)]) (ci := 5) (v := .int (ii rp)) (C := RX6) (T := TX6) (N := 4) hx hb hts in_X6 hown hK hP mi hM rfl 1 (by decide) (hts _ q872) (fun x h9 => sf_X6_rope hts x h9) rfl dX6_reaches_21 ?_
      refine li_iald (g := F 5) hx hb hK hP (fi 6) 0 hF.2.2.2.2.2.2 rfl (by omega) (by omega) (by decide) dX6_reaches_24 ?_
      have r25 := hw5 rp
      refine li_icmp_gt (tgt := 32) hx hb ⟨by omega, by omega⟩ (rgi r25.1 r25.2) dX6_reaches_25 (by decide) (fun c25 => ?_) (fun c25 => ?_)
      · refine li_iconst hx hb dX6_reaches_32 ?_
        exact eRz hQ hx hb hr hlk dX6_reaches_33 (.inl rfl) (⟨_, rfl, .inr ⟨rfl, fun h => by first | exact h7 h.1 | (have := h.2; omega)⟩⟩)
      · refine li_iconst hx hb dX6_reaches_28 ?_
        refine lv_goto (tgt := 33) hx hb dX6_reaches_29 (by decide) ?_
        exact eRz hQ hx hb hr hlk dX6_reaches_33 (.inr rfl) (⟨_, rfl, .inl ⟨rfl, h7, c25⟩⟩)
  · refine li_if_eq (tgt := 32) hx hb ⟨by decide, by decide⟩ dX6_reaches_10 (by decide) (fun c10 => ?_) (fun c10 => ?_)
    · refine li_iconst hx hb dX6_reaches_32 ?_
      exact eRz hQ hx hb hr hlk dX6_reaches_33 (.inl rfl) (⟨_, rfl, .inr ⟨rfl, fun h => by first | exact h7 h.1 | (have := h.2; omega)⟩⟩)
    · exact absurd c10 (by decide)
set_option maxHeartbeats 4000000 in
theorem m_reaches_8 (l : Launch) (G : va_G) (ty : Nat → ClassId) (ws : va_W) (fi fd : Nat → Nat) (F : mem) (si sd : Nat → Nat) (w q : Int → Int) (mi md : Nat) (st rp fr to : Int) (x : Int) (hF : faceAt ty ws fi fd F) (hW : wfF F) (hSp : spotAt ty ws si sd w q) (hWS : wfS w q) (hM : moveAt ws 7 mi md st rp fr to) (hm : 0 ≤ st ∧ st ≤ 7 ∧ 0 ≤ rp ∧ rp ≤ 1 ∧ 0 ≤ fr ∧ fr ≤ 4 ∧ 0 ≤ to ∧ to ≤ 4) (hx0 : 0 ≤ x ∧ x ≤ 1000) : cR l yX8_reaches (ws_ yX8_reaches cX8_reaches 4 (some .boolean)) (rm4 1 0 0 23) G ty (ws) [.ref md, .ref (fd 0), .ref (sd 0), .int (ii x)] (fun r => ∃ z : Int, r = some (.int (ii z)) ∧ ((z = 1 ∧ rp = 0 ∧ okRope F q 0 fr ∧ okRope F q 1 fr ∧ x ≤ F 5 0 ∧ x ≤ F 5 1) ∨ (z = 0 ∧ ¬ (rp = 0 ∧ okRope F q 0 fr ∧ okRope F q 1 fr ∧ x ≤ F 5 0 ∧ x ≤ F 5 1)))) := by
  refine cR.of (by decide) (Nat.le_of_ble_eq_true rfl) ?_
  intro p e s m args below meth c Q hQ hx hb hr hml hown hlk hts hK hP hD hX ls hl
  have hl : lv_has ls 4 [(0, .ref md), (1, .ref (fd 0)), (2, .ref (sd 0)), (3, .int (ii x))] := hl
  obtain ⟨hw0, hw1, hw2, hw3, hw4, hw5, h8a, h8b, h9a, h9b, h10a, h10b⟩ := id hW
  obtain ⟨hs0, hs1⟩ := id hWS
  obtain ⟨hm0, hm1, hm2, hm3, hm4, hm5, hm6, hm7⟩ := id hm
  refine lv_aload_n hx hb dX8_reaches_0 rfl (lv_at hl 0 rfl) ?_
  refine va_get (D := G) (fs := [.int (ii st), .int (ii rp), .int (ii fr), .int (ii to)]) (ci := 7) (v := .int (ii rp)) (C := RX8) (T := TX8) (N := 4) hx hb hts in_X8 hown hK hP mi hM rfl 1 (by decide) (hts _ q870) (fun x h9 => sf_X8_rope hts x h9) rfl dX8_reaches_1 ?_
  refine li_if_ne (tgt := 50) hx hb (rgi hm2 hm3) dX8_reaches_4 (by decide) (fun c4 => ?_) (fun c4 => ?_)
  · refine li_iconst hx hb dX8_reaches_50 ?_
    exact eRz hQ hx hb hr hlk dX8_reaches_51 (.inl rfl) (⟨_, rfl, .inr ⟨rfl, fun h => by first | exact c4 h.1 | exact h11 h.2.1 | exact h21 h.2.2.1 | (have := h.2.2.2; unfold lower at c43; omega)⟩⟩)
  · refine lv_aload_n hx hb dX8_reaches_7 rfl (lv_at hl 0 rfl) ?_
    refine lv_aload_n hx hb dX8_reaches_8 rfl (lv_at hl 1 rfl) ?_
    refine lv_aload_n hx hb dX8_reaches_9 rfl (lv_at hl 2 rfl) ?_
    refine li_iconst hx hb dX8_reaches_10 ?_
    refine kR (va_runU (x := (⟨"DownRope$Joined", "hasRope", "(LDownRope$Face;LDownRope$Spot;I)Z"⟩ : MethodName)) (As := [.ref (fd 0), .ref (sd 0), .int (ii 0)]) (rest := []) ⟨hx, hb, hml, hown, hts⟩ (m_hasRope_8 l G ty ws fi fd F si sd w q mi md st rp fr to 0 hF hW hSp hWS hM hm (by omega)) (va_cwU (own := "DownRope$Joined") (index := 15) (C := "DownRope$Joined") (owner := "DownRope$Move") (x := (⟨"DownRope$Joined", "hasRope", "(LDownRope$Face;LDownRope$Spot;I)Z"⟩ : MethodName)) (y := yX5_hasRope) 3 hts (lw_app (lw_in _ [437, 438, 440, 441, 80] (by decide +kernel) (by decide +kernel)) (lw_meth q442)) rfl rfl rfl rfl (by decide +kernel) ⟨Nat.le_of_ble_eq_true rfl, Nat.le_of_ble_eq_true rfl⟩) (pvR (r := (RX8, TX8, 4)) hK hP hD hX mi hM rfl) rfl rfl hl.1 rfl (lv_room (Nat.le_of_ble_eq_true rfl)) dX8_reaches_11 ⟨Nat.le_of_ble_eq_true rfl, Nat.le_of_ble_eq_true rfl⟩) (fun v hv => ?_)
    obtain ⟨z11, rfl, ⟨rfl, h11⟩ | ⟨rfl, h11⟩⟩ := hv
    · refine li_if_eq (tgt := 50) hx hb ⟨by decide, by decide⟩ dX8_reaches_14 (by decide) (fun c14 => ?_) (fun c14 => ?_)
      · exact absurd c14 (by decide)
      · refine lv_aload_n hx hb dX8_reaches_17 rfl (lv_at hl 0 rfl) ?_
        refine lv_aload_n hx hb dX8_reaches_18 rfl (lv_at hl 1 rfl) ?_
        refine lv_aload_n hx hb dX8_reaches_19 rfl (lv_at hl 2 rfl) ?_
        refine li_iconst hx hb dX8_reaches_20 ?_
        refine kR (va_runU (x := (⟨"DownRope$Joined", "hasRope", "(LDownRope$Face;LDownRope$Spot;I)Z"⟩ : MethodName)) (As := [.ref (fd 0), .ref (sd 0), .int (ii 1)]) (rest := []) ⟨hx, hb, hml, hown, hts⟩ (m_hasRope_8 l G ty ws fi fd F si sd w q mi md st rp fr to 1 hF hW hSp hWS hM hm (by omega)) (va_cwU (own := "DownRope$Joined") (index := 15) (C := "DownRope$Joined") (owner := "DownRope$Move") (x := (⟨"DownRope$Joined", "hasRope", "(LDownRope$Face;LDownRope$Spot;I)Z"⟩ : MethodName)) (y := yX5_hasRope) 3 hts (lw_app (lw_in _ [437, 438, 440, 441, 80] (by decide +kernel) (by decide +kernel)) (lw_meth q442)) rfl rfl rfl rfl (by decide +kernel) ⟨Nat.le_of_ble_eq_true rfl, Nat.le_of_ble_eq_true rfl⟩) (pvR (r := (RX8, TX8, 4)) hK hP hD hX mi hM rfl) rfl rfl hl.1 rfl (lv_room (Nat.le_of_ble_eq_true rfl)) dX8_reaches_21 ⟨Nat.le_of_ble_eq_true rfl, Nat.le_of_ble_eq_true rfl⟩) (fun v hv => ?_)
        obtain ⟨z21, rfl, ⟨rfl, h21⟩ | ⟨rfl, h21⟩⟩ := hv
        · refine li_if_eq (tgt := 50) hx hb ⟨by decide, by decide⟩ dX8_reaches_24 (by decide) (fun c24 => ?_) (fun c24 => ?_)
          · exact absurd c24 (by decide)
          · refine lv_iload_n hx hb dX8_reaches_27 rfl (lv_at hl 3 rfl) ?_
            refine lv_aload_n hx hb dX8_reaches_28 rfl (lv_at hl 1 rfl) ?_
            refine va_get (D := G) (fs := [.ref (fd 1), .ref (fd 2), .ref (fd 3), .ref (fd 4), .int (ii (F 8 0)), .ref (fd 5), .int (ii (F 9 0)), .ref (fd 6), .int (ii (F 10 0)), .int (ii (F 11 0)), .int (ii (F 12 0)), .int (ii (F 13 0)), .ref (fd 7)]) (ci := 1) (v := .ref (fd 6)) (C := RX2) (T := TX2) (N := 13) hx hb hts in_X2 hown hK hP (fi 0) hF.1 rfl 7 (by decide) (hts _ q796) (fun _ h9 => h9) rfl dX8_reaches_29 ?_
            refine li_iconst hx hb dX8_reaches_32 ?_
            refine li_iald (g := F 5) hx hb hK hP (fi 6) 0 hF.2.2.2.2.2.2 rfl (by decide) (by decide) (by decide) dX8_reaches_33 ?_
            have r34 := hw5 0
            refine lv_aload_n hx hb dX8_reaches_34 rfl (lv_at hl 1 rfl) ?_
            refine va_get (D := G) (fs := [.ref (fd 1), .ref (fd 2), .ref (fd 3), .ref (fd 4), .int (ii (F 8 0)), .ref (fd 5), .int (ii (F 9 0)), .ref (fd 6), .int (ii (F 10 0)), .int (ii (F 11 0)), .int (ii (F 12 0)), .int (ii (F 13 0)), .ref (fd 7)]) (ci := 1) (v := .ref (fd 6)) (C := RX2) (T := TX2) (N := 13) hx hb hts in_X2 hown hK hP (fi 0) hF.1 rfl 7 (by decide) (hts _ q796) (fun _ h9 => h9) rfl dX8_reaches_35 ?_
            refine li_iconst hx hb dX8_reaches_38 ?_
            refine li_iald (g := F 5) hx hb hK hP (fi 6) 0 hF.2.2.2.2.2.2 rfl (by decide) (by decide) (by decide) dX8_reaches_39 ?_
            have r40 := hw5 1
            refine va_mmin hx hb (hml.trans hl.1.symm) hown (hts _ q443) (hts _ q401) (hts _ q94) (hts _ q402) (Nat.le_of_ble_eq_true rfl) (Nat.le_of_ble_eq_true rfl) (Nat.le_of_ble_eq_true rfl) (Nat.le_of_ble_eq_true rfl) dX8_reaches_40 ?_
            refine li_topx (z := lower ((F 5) 0) ((F 5) 1)) (ii_min (rgi r34.1 r34.2) (rgi r40.1 r40.2)) ?_
            refine li_icmp_gt (tgt := 50) hx hb ⟨by omega, by omega⟩ ⟨by unfold lower; omega, by unfold lower; omega⟩ dX8_reaches_43 (by decide) (fun c43 => ?_) (fun c43 => ?_)
            · refine li_iconst hx hb dX8_reaches_50 ?_
              exact eRz hQ hx hb hr hlk dX8_reaches_51 (.inl rfl) (⟨_, rfl, .inr ⟨rfl, fun h => by first | exact c4 h.1 | exact h11 h.2.1 | exact h21 h.2.2.1 | (have := h.2.2.2; unfold lower at c43; omega)⟩⟩)
            · refine li_iconst hx hb dX8_reaches_46 ?_
              refine lv_goto (tgt := 51) hx hb dX8_reaches_47 (by decide) ?_
              exact eRz hQ hx hb hr hlk dX8_reaches_51 (.inr rfl) (⟨_, rfl, .inl ⟨rfl, c4, h11, h21, by unfold lower at c43; omega, by unfold lower at c43; omega⟩⟩)
        · refine li_if_eq (tgt := 50) hx hb ⟨by decide, by decide⟩ dX8_reaches_24 (by decide) (fun c24 => ?_) (fun c24 => ?_)
          · refine li_iconst hx hb dX8_reaches_50 ?_
            exact eRz hQ hx hb hr hlk dX8_reaches_51 (.inl rfl) (⟨_, rfl, .inr ⟨rfl, fun h => by first | exact c4 h.1 | exact h11 h.2.1 | exact h21 h.2.2.1 | (have := h.2.2.2; unfold lower at c43; omega)⟩⟩)
          · exact absurd c24 (by decide)
    · refine li_if_eq (tgt := 50) hx hb ⟨by decide, by decide⟩ dX8_reaches_14 (by decide) (fun c14 => ?_) (fun c14 => ?_)
      · refine li_iconst hx hb dX8_reaches_50 ?_
        exact eRz hQ hx hb hr hlk dX8_reaches_51 (.inl rfl) (⟨_, rfl, .inr ⟨rfl, fun h => by first | exact c4 h.1 | exact h11 h.2.1 | exact h21 h.2.2.1 | (have := h.2.2.2; unfold lower at c43; omega)⟩⟩)
      · exact absurd c14 (by decide)
set_option maxHeartbeats 4000000 in
theorem m_minutes_5 (l : Launch) (G : va_G) (ty : Nat → ClassId) (ws : va_W) (fi fd : Nat → Nat) (F : mem) (si sd : Nat → Nat) (w q : Int → Int) (mi md : Nat) (st rp fr to : Int)  (hF : faceAt ty ws fi fd F) (hW : wfF F) (hSp : spotAt ty ws si sd w q) (hWS : wfS w q) (hM : moveAt ws 4 mi md st rp fr to) (hm : 0 ≤ st ∧ st ≤ 7 ∧ 0 ≤ rp ∧ rp ≤ 1 ∧ 0 ≤ fr ∧ fr ≤ 4 ∧ 0 ≤ to ∧ to ≤ 4) : cR l yX5_minutes (ws_ yX5_minutes cX5_minutes 3 (some .int)) (rm4 0 0 0 0) G ty (ws) [.ref md, .ref (fd 0), .ref (sd 0)] (fun r => ∃ z : Int, r = some (.int (ii z)) ∧ ((mnOk F w q 0 st rp fr to ∧ z = mnV F 0 st fr to) ∨ (¬ mnOk F w q 0 st rp fr to ∧ z = -3))) := by
  refine cR.of (by decide) (Nat.le_of_ble_eq_true rfl) ?_
  intro p e s m args below meth c Q hQ hx hb hr hml hown hlk hts hK hP hD hX ls hl
  have hl : lv_has ls 3 [(0, .ref md), (1, .ref (fd 0)), (2, .ref (sd 0))] := hl
  obtain ⟨hw0, hw1, hw2, hw3, hw4, hw5, h8a, h8b, h9a, h9b, h10a, h10b⟩ := id hW
  obtain ⟨hs0, hs1⟩ := id hWS
  obtain ⟨hm0, hm1, hm2, hm3, hm4, hm5, hm6, hm7⟩ := id hm
  have hfs := fs_le (F 2) (a := fr) (b := to) hw2 (by omega) (by omega)
  refine li_bipush hx hb dX5_minutes_0 (by decide) ?_
  exact eRi hQ hx hb hr hlk dX5_minutes_2 (⟨_, rfl, .inr ⟨fun h => by simp [mnOk] at h, rfl⟩⟩)
set_option maxHeartbeats 4000000 in
theorem m_minutes_6 (l : Launch) (G : va_G) (ty : Nat → ClassId) (ws : va_W) (fi fd : Nat → Nat) (F : mem) (si sd : Nat → Nat) (w q : Int → Int) (mi md : Nat) (st rp fr to : Int)  (hF : faceAt ty ws fi fd F) (hW : wfF F) (hSp : spotAt ty ws si sd w q) (hWS : wfS w q) (hM : moveAt ws 5 mi md st rp fr to) (hm : 0 ≤ st ∧ st ≤ 7 ∧ 0 ≤ rp ∧ rp ≤ 1 ∧ 0 ≤ fr ∧ fr ≤ 4 ∧ 0 ≤ to ∧ to ≤ 4) : cR l yX6_minutes (ws_ yX6_minutes cX6_minutes 4 (some .int)) (rm4 2 0 0 47) G ty (ws) [.ref md, .ref (fd 0), .ref (sd 0)] (fun r => ∃ z : Int, r = some (.int (ii z)) ∧ ((mnOk F w q 1 st rp fr to ∧ z = mnV F 1 st fr to) ∨ (¬ mnOk F w q 1 st rp fr to ∧ z = -3))) := by
  refine cR.of (by decide) (Nat.le_of_ble_eq_true rfl) ?_
  intro p e s m args below meth c Q hQ hx hb hr hml hown hlk hts hK hP hD hX ls hl
  have hl : lv_has ls 4 [(0, .ref md), (1, .ref (fd 0)), (2, .ref (sd 0))] := hl
  obtain ⟨hw0, hw1, hw2, hw3, hw4, hw5, h8a, h8b, h9a, h9b, h10a, h10b⟩ := id hW
  obtain ⟨hs0, hs1⟩ := id hWS
  obtain ⟨hm0, hm1, hm2, hm3, hm4, hm5, hm6, hm7⟩ := id hm
  have hfs := fs_le (F 2) (a := fr) (b := to) hw2 (by omega) (by omega)
  refine lv_aload_n hx hb dX6_minutes_0 rfl (lv_at hl 1 rfl) ?_
  refine lv_aload_n hx hb dX6_minutes_1 rfl (lv_at hl 0 rfl) ?_
  refine va_get (D := G) (fs := [.int (ii st), .int (ii rp), .int (ii fr), .int (ii to)]) (ci := 5) (v := .int (ii fr)) (C := RX6) (T := TX6) (N := 4) hx hb hts in_X6 hown hK hP mi hM rfl 2 (by decide) (hts _ q892) (fun x h9 => sf_X6_from hts x h9) rfl dX6_minutes_2 ?_
  refine lv_aload_n hx hb dX6_minutes_5 rfl (lv_at hl 0 rfl) ?_
  refine va_get (D := G) (fs := [.int (ii st), .int (ii rp), .int (ii fr), .int (ii to)]) (ci := 5) (v := .int (ii to)) (C := RX6) (T := TX6) (N := 4) hx hb hts in_X6 hown hK hP mi hM rfl 3 (by decide) (hts _ q903) (fun x h9 => sf_X6_to hts x h9) rfl dX6_minutes_6 ?_
  refine kR (va_runV (As := [.int (ii fr), .int (ii to)]) (rest := []) ⟨hx, hb, hml, hown, hts⟩ (m_farF l G ty ws fi fd F fr to hF hW (rgi hm4 hm5) (rgi hm6 hm7)) (cwV 2 hts (lw_V q425 q366 q367 q77 q368) rfl rfl rfl (by decide +kernel) ⟨Nat.le_of_ble_eq_true rfl, Nat.le_of_ble_eq_true rfl⟩) (pvR (r := (RX2, TX2, 13)) hK hP hD hX (fi 0) hF.1 rfl) rfl rfl hl.1 rfl (lv_room (Nat.le_of_ble_eq_true rfl)) dX6_minutes_9 ⟨Nat.le_of_ble_eq_true rfl, Nat.le_of_ble_eq_true rfl⟩) (fun v hv => ?_)
  obtain ⟨z9, rfl, ⟨h9, rfl⟩ | ⟨h9, rfl⟩⟩ := hv
  · refine lv_istore_n (lv' := [(3, .int (ii (fs (F 2) fr to))), (0, .ref md), (1, .ref (fd 0)), (2, .ref (sd 0))]) hx hb dX6_minutes_12 rfl hl (by decide) rfl (fun ls hl => ?_)
    refine lv_iload_n hx hb dX6_minutes_13 rfl (lv_at hl 0 rfl) ?_
    refine li_bipush hx hb dX6_minutes_14 (by decide) ?_
    refine li_icmp_eq (tgt := 51) hx hb (rgi hfs.1 hfs.2) ⟨by decide, by decide⟩ dX6_minutes_16 (by decide) (fun c16 => ?_) (fun c16 => ?_)
    · exfalso
      omega
    · refine lv_aload_n hx hb dX6_minutes_19 rfl (lv_at hl 2 rfl) ?_
      refine va_get (D := G) (fs := [.ref (fd 1), .ref (fd 2), .ref (fd 3), .ref (fd 4), .int (ii (F 8 0)), .ref (fd 5), .int (ii (F 9 0)), .ref (fd 6), .int (ii (F 10 0)), .int (ii (F 11 0)), .int (ii (F 12 0)), .int (ii (F 13 0)), .ref (fd 7)]) (ci := 1) (v := .ref (fd 2)) (C := RX2) (T := TX2) (N := 13) hx hb hts in_X2 hown hK hP (fi 0) hF.1 rfl 1 (by decide) (hts _ q776) (fun _ h9 => h9) rfl dX6_minutes_20 ?_
      refine lv_aload_n hx hb dX6_minutes_23 rfl (lv_at hl 1 rfl) ?_
      refine va_get (D := G) (fs := [.int (ii st), .int (ii rp), .int (ii fr), .int (ii to)]) (ci := 5) (v := .int (ii fr)) (C := RX6) (T := TX6) (N := 4) hx hb hts in_X6 hown hK hP mi hM rfl 2 (by decide) (hts _ q892) (fun x h9 => sf_X6_from hts x h9) rfl dX6_minutes_24 ?_
      refine li_iald (g := F 1) hx hb hK hP (fi 2) 0 hF.2.2.1 rfl (by omega) (by omega) (by decide) dX6_minutes_27 ?_
      have r28 := hw1 fr
      refine li_if_eq (tgt := 51) hx hb (rgi r28.1 r28.2) dX6_minutes_28 (by decide) (fun c28 => ?_) (fun c28 => ?_)
      · refine li_bipush hx hb dX6_minutes_51 (by decide) ?_
        exact eRi hQ hx hb hr hlk dX6_minutes_53 (⟨_, rfl, .inr ⟨fun h => by have h := mnOk_1.mp h; first | exact h9 h.1 | exact h.2.1 c28 | exact h35 h.2.2.1 | exact h45 h.2.2.2, rfl⟩⟩)
      · refine lv_aload_n hx hb dX6_minutes_31 rfl (lv_at hl 1 rfl) ?_
        refine lv_aload_n hx hb dX6_minutes_32 rfl (lv_at hl 2 rfl) ?_
        refine lv_aload_n hx hb dX6_minutes_33 rfl (lv_at hl 3 rfl) ?_
        refine li_iconst hx hb dX6_minutes_34 ?_
        refine kR (va_runU (x := (⟨"DownRope$Doubled", "canGo", "(LDownRope$Face;LDownRope$Spot;Z)Z"⟩ : MethodName)) (As := [.ref (fd 0), .ref (sd 0), .int (ii 1)]) (rest := []) ⟨hx, hb, hml, hown, hts⟩ (m_canGo_6 l G ty ws fi fd F si sd w q mi md st rp fr to 1 hF hW hSp hWS hM hm (by omega)) (va_cwU (own := "DownRope$Doubled") (index := 38) (C := "DownRope$Doubled") (owner := "DownRope$Move") (x := (⟨"DownRope$Doubled", "canGo", "(LDownRope$Face;LDownRope$Spot;Z)Z"⟩ : MethodName)) (y := yX5_canGo) 3 hts (lw_app (lw_in _ [426, 427, 428, 413, 80] (by decide +kernel) (by decide +kernel)) (lw_meth q414)) rfl rfl rfl rfl (by decide +kernel) ⟨Nat.le_of_ble_eq_true rfl, Nat.le_of_ble_eq_true rfl⟩) (pvR (r := (RX6, TX6, 4)) hK hP hD hX mi hM rfl) rfl rfl hl.1 rfl (lv_room (Nat.le_of_ble_eq_true rfl)) dX6_minutes_35 ⟨Nat.le_of_ble_eq_true rfl, Nat.le_of_ble_eq_true rfl⟩) (fun v hv => ?_)
        obtain ⟨z35, rfl, ⟨rfl, h35⟩ | ⟨rfl, h35⟩⟩ := hv
        · refine li_if_eq (tgt := 51) hx hb ⟨by decide, by decide⟩ dX6_minutes_38 (by decide) (fun c38 => ?_) (fun c38 => ?_)
          · exact absurd c38 (by decide)
          · refine lv_aload_n hx hb dX6_minutes_41 rfl (lv_at hl 1 rfl) ?_
            refine lv_aload_n hx hb dX6_minutes_42 rfl (lv_at hl 2 rfl) ?_
            refine lv_aload_n hx hb dX6_minutes_43 rfl (lv_at hl 3 rfl) ?_
            refine lv_iload_n hx hb dX6_minutes_44 rfl (lv_at hl 0 rfl) ?_
            refine kR (va_runV (As := [.ref (fd 0), .ref (sd 0), .int (ii (fs (F 2) fr to))]) (rest := []) ⟨hx, hb, hml, hown, hts⟩ (m_reaches_6 l G ty ws fi fd F si sd w q mi md st rp fr to (fs (F 2) fr to) hF hW hSp hWS hM hm (by omega)) (cwV 3 hts (lw_V q430 q431 q432 q81 q444) rfl rfl rfl (by decide +kernel) ⟨Nat.le_of_ble_eq_true rfl, Nat.le_of_ble_eq_true rfl⟩) (pvR (r := (RX6, TX6, 4)) hK hP hD hX mi hM rfl) rfl rfl hl.1 rfl (lv_room (Nat.le_of_ble_eq_true rfl)) dX6_minutes_45 ⟨Nat.le_of_ble_eq_true rfl, Nat.le_of_ble_eq_true rfl⟩) (fun v hv => ?_)
            obtain ⟨z45, rfl, ⟨rfl, h45⟩ | ⟨rfl, h45⟩⟩ := hv
            · refine li_if_ne (tgt := 54) hx hb ⟨by decide, by decide⟩ dX6_minutes_48 (by decide) (fun c48 => ?_) (fun c48 => ?_)
              · refine lv_aload_n hx hb dX6_minutes_54 rfl (lv_at hl 1 rfl) ?_
                refine kR (va_runV (As := []) (rest := []) ⟨hx, hb, hml, hown, hts⟩ (m_moreD_6 l G ty ws mi md st rp fr to  hM hm) (cwV 0 hts (lw_V q449 q450 q451 q81 q458) rfl rfl rfl (by decide +kernel) ⟨Nat.le_of_ble_eq_true rfl, Nat.le_of_ble_eq_true rfl⟩) (pvR (r := (RX6, TX6, 4)) hK hP hD hX mi hM rfl) rfl rfl hl.1 rfl (lv_room (Nat.le_of_ble_eq_true rfl)) dX6_minutes_55 ⟨Nat.le_of_ble_eq_true rfl, Nat.le_of_ble_eq_true rfl⟩) (fun v hv => ?_)
                obtain ⟨z55, rfl, rfl⟩ := hv
                refine lv_aload_n hx hb dX6_minutes_58 rfl (lv_at hl 1 rfl) ?_
                refine va_get (D := G) (fs := [.int (ii st), .int (ii rp), .int (ii fr), .int (ii to)]) (ci := 5) (v := .int (ii st)) (C := RX6) (T := TX6) (N := 4) hx hb hts in_X6 hown hK hP mi hM rfl 0 (by decide) (hts _ q868) (fun x h9 => sf_X6_set hts x h9) rfl dX6_minutes_59 ?_
                refine kR (va_runSN (As := [.int (ii st)]) (rest := [.int (ii 4)]) ⟨hx, hb, hml, hown, hts⟩ (m_bits l G ty ws st ⟨by omega, by omega⟩) ⟨va_cnB 1 hts (lw_meth q405) rfl rfl rfl (hX.nest 2 rfl) (hts _ q76) (by decide +kernel) ⟨Nat.le_of_ble_eq_true rfl, Nat.le_of_ble_eq_true rfl⟩, hts _ q404, trivial⟩ (psR hK hP hD hX) rfl rfl hl.1 rfl (lv_room (Nat.le_of_ble_eq_true rfl)) dX6_minutes_62 ⟨Nat.le_of_ble_eq_true rfl, Nat.le_of_ble_eq_true rfl⟩) (fun v hv => ?_)
                obtain ⟨z62, rfl, h62⟩ := hv
                refine lv_iload_n hx hb dX6_minutes_65 rfl (lv_at hl 0 rfl) ?_
                refine li_bipush hx hb dX6_minutes_66 (by decide) ?_
                refine li_div hx hb (by omega) (by omega) (by omega) (by omega) dX6_minutes_68 ?_
                refine li_iconst hx hb dX6_minutes_69 ?_
                refine li_add hx hb dX6_minutes_70 ?_
                refine li_mul hx hb dX6_minutes_71 ?_
                refine li_add hx hb dX6_minutes_72 ?_
                exact eRi hQ hx hb hr hlk dX6_minutes_73 (⟨_, rfl, .inl ⟨mnOk_1.mpr ⟨h9, c28, h35, h45.1, h45.2⟩, by rw [h62]; exact mnV_1.symm⟩⟩)
              · exact absurd c48 (by decide)
            · refine li_if_ne (tgt := 54) hx hb ⟨by decide, by decide⟩ dX6_minutes_48 (by decide) (fun c48 => ?_) (fun c48 => ?_)
              · exact absurd c48 (by decide)
              · refine li_bipush hx hb dX6_minutes_51 (by decide) ?_
                exact eRi hQ hx hb hr hlk dX6_minutes_53 (⟨_, rfl, .inr ⟨fun h => by have h := mnOk_1.mp h; first | exact h9 h.1 | exact h.2.1 c28 | exact h35 h.2.2.1 | exact h45 h.2.2.2, rfl⟩⟩)
        · refine li_if_eq (tgt := 51) hx hb ⟨by decide, by decide⟩ dX6_minutes_38 (by decide) (fun c38 => ?_) (fun c38 => ?_)
          · refine li_bipush hx hb dX6_minutes_51 (by decide) ?_
            exact eRi hQ hx hb hr hlk dX6_minutes_53 (⟨_, rfl, .inr ⟨fun h => by have h := mnOk_1.mp h; first | exact h9 h.1 | exact h.2.1 c28 | exact h35 h.2.2.1 | exact h45 h.2.2.2, rfl⟩⟩)
          · exact absurd c38 (by decide)
  · refine lv_istore_n (lv' := [(3, .int (ii (-4))), (0, .ref md), (1, .ref (fd 0)), (2, .ref (sd 0))]) hx hb dX6_minutes_12 rfl hl (by decide) rfl (fun ls hl => ?_)
    refine lv_iload_n hx hb dX6_minutes_13 rfl (lv_at hl 0 rfl) ?_
    refine li_bipush hx hb dX6_minutes_14 (by decide) ?_
    refine li_icmp_eq (tgt := 51) hx hb ⟨by decide, by decide⟩ ⟨by decide, by decide⟩ dX6_minutes_16 (by decide) (fun c16 => ?_) (fun c16 => ?_)
    · refine li_bipush hx hb dX6_minutes_51 (by decide) ?_
      exact eRi hQ hx hb hr hlk dX6_minutes_53 (⟨_, rfl, .inr ⟨fun h => by have h := mnOk_1.mp h; first | exact h9 h.1 | exact h.2.1 c28 | exact h35 h.2.2.1 | exact h45 h.2.2.2, rfl⟩⟩)
    · exact absurd c16 (by decide)
set_option maxHeartbeats 4000000 in
theorem m_minutes_8 (l : Launch) (G : va_G) (ty : Nat → ClassId) (ws : va_W) (fi fd : Nat → Nat) (F : mem) (si sd : Nat → Nat) (w q : Int → Int) (mi md : Nat) (st rp fr to : Int)  (hF : faceAt ty ws fi fd F) (hW : wfF F) (hSp : spotAt ty ws si sd w q) (hWS : wfS w q) (hM : moveAt ws 7 mi md st rp fr to) (hm : 0 ≤ st ∧ st ≤ 7 ∧ 0 ≤ rp ∧ rp ≤ 1 ∧ 0 ≤ fr ∧ fr ≤ 4 ∧ 0 ≤ to ∧ to ≤ 4) : cR l yX6_minutes (ws_ yX6_minutes cX6_minutes 4 (some .int)) (rm4 2 0 0 47) G ty (ws) [.ref md, .ref (fd 0), .ref (sd 0)] (fun r => ∃ z : Int, r = some (.int (ii z)) ∧ ((mnOk F w q 3 st rp fr to ∧ z = mnV F 3 st fr to) ∨ (¬ mnOk F w q 3 st rp fr to ∧ z = -3))) := by
  refine cR.of (by decide) (Nat.le_of_ble_eq_true rfl) ?_
  intro p e s m args below meth c Q hQ hx hb hr hml hown hlk hts hK hP hD hX ls hl
  have hl : lv_has ls 4 [(0, .ref md), (1, .ref (fd 0)), (2, .ref (sd 0))] := hl
  obtain ⟨hw0, hw1, hw2, hw3, hw4, hw5, h8a, h8b, h9a, h9b, h10a, h10b⟩ := id hW
  obtain ⟨hs0, hs1⟩ := id hWS
  obtain ⟨hm0, hm1, hm2, hm3, hm4, hm5, hm6, hm7⟩ := id hm
  have hfs := fs_le (F 2) (a := fr) (b := to) hw2 (by omega) (by omega)
  refine lv_aload_n hx hb dX6_minutes_0 rfl (lv_at hl 1 rfl) ?_
  refine lv_aload_n hx hb dX6_minutes_1 rfl (lv_at hl 0 rfl) ?_
  refine va_get (D := G) (fs := [.int (ii st), .int (ii rp), .int (ii fr), .int (ii to)]) (ci := 7) (v := .int (ii fr)) (C := RX8) (T := TX8) (N := 4) hx hb hts in_X8 hown hK hP mi hM rfl 2 (by decide) (hts _ q892) (fun x h9 => sf_X6_from hts x h9) rfl dX6_minutes_2 ?_
  refine lv_aload_n hx hb dX6_minutes_5 rfl (lv_at hl 0 rfl) ?_
  refine va_get (D := G) (fs := [.int (ii st), .int (ii rp), .int (ii fr), .int (ii to)]) (ci := 7) (v := .int (ii to)) (C := RX8) (T := TX8) (N := 4) hx hb hts in_X8 hown hK hP mi hM rfl 3 (by decide) (hts _ q903) (fun x h9 => sf_X6_to hts x h9) rfl dX6_minutes_6 ?_
  refine kR (va_runV (As := [.int (ii fr), .int (ii to)]) (rest := []) ⟨hx, hb, hml, hown, hts⟩ (m_farF l G ty ws fi fd F fr to hF hW (rgi hm4 hm5) (rgi hm6 hm7)) (cwV 2 hts (lw_V q425 q366 q367 q77 q368) rfl rfl rfl (by decide +kernel) ⟨Nat.le_of_ble_eq_true rfl, Nat.le_of_ble_eq_true rfl⟩) (pvR (r := (RX2, TX2, 13)) hK hP hD hX (fi 0) hF.1 rfl) rfl rfl hl.1 rfl (lv_room (Nat.le_of_ble_eq_true rfl)) dX6_minutes_9 ⟨Nat.le_of_ble_eq_true rfl, Nat.le_of_ble_eq_true rfl⟩) (fun v hv => ?_)
  obtain ⟨z9, rfl, ⟨h9, rfl⟩ | ⟨h9, rfl⟩⟩ := hv
  · refine lv_istore_n (lv' := [(3, .int (ii (fs (F 2) fr to))), (0, .ref md), (1, .ref (fd 0)), (2, .ref (sd 0))]) hx hb dX6_minutes_12 rfl hl (by decide) rfl (fun ls hl => ?_)
    refine lv_iload_n hx hb dX6_minutes_13 rfl (lv_at hl 0 rfl) ?_
    refine li_bipush hx hb dX6_minutes_14 (by decide) ?_
    refine li_icmp_eq (tgt := 51) hx hb (rgi hfs.1 hfs.2) ⟨by decide, by decide⟩ dX6_minutes_16 (by decide) (fun c16 => ?_) (fun c16 => ?_)
    · exfalso
      omega
    · refine lv_aload_n hx hb dX6_minutes_19 rfl (lv_at hl 2 rfl) ?_
      refine va_get (D := G) (fs := [.ref (fd 1), .ref (fd 2), .ref (fd 3), .ref (fd 4), .int (ii (F 8 0)), .ref (fd 5), .int (ii (F 9 0)), .ref (fd 6), .int (ii (F 10 0)), .int (ii (F 11 0)), .int (ii (F 12 0)), .int (ii (F 13 0)), .ref (fd 7)]) (ci := 1) (v := .ref (fd 2)) (C := RX2) (T := TX2) (N := 13) hx hb hts in_X2 hown hK hP (fi 0) hF.1 rfl 1 (by decide) (hts _ q776) (fun _ h9 => h9) rfl dX6_minutes_20 ?_
      refine lv_aload_n hx hb dX6_minutes_23 rfl (lv_at hl 1 rfl) ?_
      refine va_get (D := G) (fs := [.int (ii st), .int (ii rp), .int (ii fr), .int (ii to)]) (ci := 7) (v := .int (ii fr)) (C := RX8) (T := TX8) (N := 4) hx hb hts in_X8 hown hK hP mi hM rfl 2 (by decide) (hts _ q892) (fun x h9 => sf_X6_from hts x h9) rfl dX6_minutes_24 ?_
      refine li_iald (g := F 1) hx hb hK hP (fi 2) 0 hF.2.2.1 rfl (by omega) (by omega) (by decide) dX6_minutes_27 ?_
      have r28 := hw1 fr
      refine li_if_eq (tgt := 51) hx hb (rgi r28.1 r28.2) dX6_minutes_28 (by decide) (fun c28 => ?_) (fun c28 => ?_)
      · refine li_bipush hx hb dX6_minutes_51 (by decide) ?_
        exact eRi hQ hx hb hr hlk dX6_minutes_53 (⟨_, rfl, .inr ⟨fun h => by have h := mnOk_3.mp h; first | exact h9 h.1 | exact h.2.1 c28 | exact h35 h.2.2.1 | exact h45 h.2.2.2, rfl⟩⟩)
      · refine lv_aload_n hx hb dX6_minutes_31 rfl (lv_at hl 1 rfl) ?_
        refine lv_aload_n hx hb dX6_minutes_32 rfl (lv_at hl 2 rfl) ?_
        refine lv_aload_n hx hb dX6_minutes_33 rfl (lv_at hl 3 rfl) ?_
        refine li_iconst hx hb dX6_minutes_34 ?_
        refine kR (va_runU (x := (⟨"DownRope$Doubled", "canGo", "(LDownRope$Face;LDownRope$Spot;Z)Z"⟩ : MethodName)) (As := [.ref (fd 0), .ref (sd 0), .int (ii 1)]) (rest := []) ⟨hx, hb, hml, hown, hts⟩ (m_canGo_8 l G ty ws fi fd F si sd w q mi md st rp fr to 1 hF hW hSp hWS hM hm (by omega)) (va_cwU (own := "DownRope$Doubled") (index := 38) (C := "DownRope$Joined") (owner := "DownRope$Move") (x := (⟨"DownRope$Doubled", "canGo", "(LDownRope$Face;LDownRope$Spot;Z)Z"⟩ : MethodName)) (y := yX5_canGo) 3 hts (lw_app (lw_in _ [426, 427, 429, 413, 80] (by decide +kernel) (by decide +kernel)) (lw_meth q414)) rfl rfl rfl rfl (by decide +kernel) ⟨Nat.le_of_ble_eq_true rfl, Nat.le_of_ble_eq_true rfl⟩) (pvR (r := (RX8, TX8, 4)) hK hP hD hX mi hM rfl) rfl rfl hl.1 rfl (lv_room (Nat.le_of_ble_eq_true rfl)) dX6_minutes_35 ⟨Nat.le_of_ble_eq_true rfl, Nat.le_of_ble_eq_true rfl⟩) (fun v hv => ?_)
        obtain ⟨z35, rfl, ⟨rfl, h35⟩ | ⟨rfl, h35⟩⟩ := hv
        · refine li_if_eq (tgt := 51) hx hb ⟨by decide, by decide⟩ dX6_minutes_38 (by decide) (fun c38 => ?_) (fun c38 => ?_)
          · exact absurd c38 (by decide)
          · refine lv_aload_n hx hb dX6_minutes_41 rfl (lv_at hl 1 rfl) ?_
            refine lv_aload_n hx hb dX6_minutes_42 rfl (lv_at hl 2 rfl) ?_
            refine lv_aload_n hx hb dX6_minutes_43 rfl (lv_at hl 3 rfl) ?_
            refine lv_iload_n hx hb dX6_minutes_44 rfl (lv_at hl 0 rfl) ?_
            refine kR (va_runU (x := yX6_reaches) (As := [.ref (fd 0), .ref (sd 0), .int (ii (fs (F 2) fr to))]) (rest := []) ⟨hx, hb, hml, hown, hts⟩ (m_reaches_8 l G ty ws fi fd F si sd w q mi md st rp fr to (fs (F 2) fr to) hF hW hSp hWS hM hm (by omega)) (va_cwO (own := "DownRope$Doubled") (index := 42) (C := "DownRope$Joined") (owner := "DownRope$Doubled") (x := yX6_reaches) (y := yX8_reaches) 3 hts (lw_app (lw_in _ [430, 433, 431, 434, 435, 83] (by decide +kernel) (by decide +kernel)) (lw_meth q436)) rfl rfl rfl q444 (by decide +kernel) ⟨Nat.le_of_ble_eq_true rfl, Nat.le_of_ble_eq_true rfl⟩) (pvR (r := (RX8, TX8, 4)) hK hP hD hX mi hM rfl) rfl rfl hl.1 rfl (lv_room (Nat.le_of_ble_eq_true rfl)) dX6_minutes_45 ⟨Nat.le_of_ble_eq_true rfl, Nat.le_of_ble_eq_true rfl⟩) (fun v hv => ?_)
            obtain ⟨z45, rfl, ⟨rfl, h45⟩ | ⟨rfl, h45⟩⟩ := hv
            · refine li_if_ne (tgt := 54) hx hb ⟨by decide, by decide⟩ dX6_minutes_48 (by decide) (fun c48 => ?_) (fun c48 => ?_)
              · refine lv_aload_n hx hb dX6_minutes_54 rfl (lv_at hl 1 rfl) ?_
                refine kR (va_runU (x := yX6_more) (As := []) (rest := []) ⟨hx, hb, hml, hown, hts⟩ (m_moreJ_8 l G ty ws mi md st rp fr to  hM hm) (va_cwO (own := "DownRope$Doubled") (index := 45) (C := "DownRope$Joined") (owner := "DownRope$Doubled") (x := yX6_more) (y := yX8_more) 0 hts (lw_app (lw_in _ [449, 452, 450, 453, 454, 83] (by decide +kernel) (by decide +kernel)) (lw_meth q455)) rfl rfl rfl q458 (by decide +kernel) ⟨Nat.le_of_ble_eq_true rfl, Nat.le_of_ble_eq_true rfl⟩) (pvR (r := (RX8, TX8, 4)) hK hP hD hX mi hM rfl) rfl rfl hl.1 rfl (lv_room (Nat.le_of_ble_eq_true rfl)) dX6_minutes_55 ⟨Nat.le_of_ble_eq_true rfl, Nat.le_of_ble_eq_true rfl⟩) (fun v hv => ?_)
                obtain ⟨z55, rfl, rfl⟩ := hv
                refine lv_aload_n hx hb dX6_minutes_58 rfl (lv_at hl 1 rfl) ?_
                refine va_get (D := G) (fs := [.int (ii st), .int (ii rp), .int (ii fr), .int (ii to)]) (ci := 7) (v := .int (ii st)) (C := RX8) (T := TX8) (N := 4) hx hb hts in_X8 hown hK hP mi hM rfl 0 (by decide) (hts _ q868) (fun x h9 => sf_X6_set hts x h9) rfl dX6_minutes_59 ?_
                refine kR (va_runSN (As := [.int (ii st)]) (rest := [.int (ii 9)]) ⟨hx, hb, hml, hown, hts⟩ (m_bits l G ty ws st ⟨by omega, by omega⟩) ⟨va_cnB 1 hts (lw_meth q405) rfl rfl rfl (hX.nest 2 rfl) (hts _ q76) (by decide +kernel) ⟨Nat.le_of_ble_eq_true rfl, Nat.le_of_ble_eq_true rfl⟩, hts _ q404, trivial⟩ (psR hK hP hD hX) rfl rfl hl.1 rfl (lv_room (Nat.le_of_ble_eq_true rfl)) dX6_minutes_62 ⟨Nat.le_of_ble_eq_true rfl, Nat.le_of_ble_eq_true rfl⟩) (fun v hv => ?_)
                obtain ⟨z62, rfl, h62⟩ := hv
                refine lv_iload_n hx hb dX6_minutes_65 rfl (lv_at hl 0 rfl) ?_
                refine li_bipush hx hb dX6_minutes_66 (by decide) ?_
                refine li_div hx hb (by omega) (by omega) (by omega) (by omega) dX6_minutes_68 ?_
                refine li_iconst hx hb dX6_minutes_69 ?_
                refine li_add hx hb dX6_minutes_70 ?_
                refine li_mul hx hb dX6_minutes_71 ?_
                refine li_add hx hb dX6_minutes_72 ?_
                exact eRi hQ hx hb hr hlk dX6_minutes_73 (⟨_, rfl, .inl ⟨mnOk_3.mpr ⟨h9, c28, h35, h45.1, h45.2.1, h45.2.2.1, h45.2.2.2.1, h45.2.2.2.2⟩, by rw [h62]; exact mnV_3.symm⟩⟩)
              · exact absurd c48 (by decide)
            · refine li_if_ne (tgt := 54) hx hb ⟨by decide, by decide⟩ dX6_minutes_48 (by decide) (fun c48 => ?_) (fun c48 => ?_)
              · exact absurd c48 (by decide)
              · refine li_bipush hx hb dX6_minutes_51 (by decide) ?_
                exact eRi hQ hx hb hr hlk dX6_minutes_53 (⟨_, rfl, .inr ⟨fun h => by have h := mnOk_3.mp h; first | exact h9 h.1 | exact h.2.1 c28 | exact h35 h.2.2.1 | exact h45 h.2.2.2, rfl⟩⟩)
        · refine li_if_eq (tgt := 51) hx hb ⟨by decide, by decide⟩ dX6_minutes_38 (by decide) (fun c38 => ?_) (fun c38 => ?_)
          · refine li_bipush hx hb dX6_minutes_51 (by decide) ?_
            exact eRi hQ hx hb hr hlk dX6_minutes_53 (⟨_, rfl, .inr ⟨fun h => by have h := mnOk_3.mp h; first | exact h9 h.1 | exact h.2.1 c28 | exact h35 h.2.2.1 | exact h45 h.2.2.2, rfl⟩⟩)
          · exact absurd c38 (by decide)
  · refine lv_istore_n (lv' := [(3, .int (ii (-4))), (0, .ref md), (1, .ref (fd 0)), (2, .ref (sd 0))]) hx hb dX6_minutes_12 rfl hl (by decide) rfl (fun ls hl => ?_)
    refine lv_iload_n hx hb dX6_minutes_13 rfl (lv_at hl 0 rfl) ?_
    refine li_bipush hx hb dX6_minutes_14 (by decide) ?_
    refine li_icmp_eq (tgt := 51) hx hb ⟨by decide, by decide⟩ ⟨by decide, by decide⟩ dX6_minutes_16 (by decide) (fun c16 => ?_) (fun c16 => ?_)
    · refine li_bipush hx hb dX6_minutes_51 (by decide) ?_
      exact eRi hQ hx hb hr hlk dX6_minutes_53 (⟨_, rfl, .inr ⟨fun h => by have h := mnOk_3.mp h; first | exact h9 h.1 | exact h.2.1 c28 | exact h35 h.2.2.1 | exact h45 h.2.2.2, rfl⟩⟩)
    · exact absurd c16 (by decide)
set_option maxHeartbeats 4000000 in
theorem m_minutes_7 (l : Launch) (G : va_G) (ty : Nat → ClassId) (ws : va_W) (fi fd : Nat → Nat) (F : mem) (si sd : Nat → Nat) (w q : Int → Int) (mi md : Nat) (st rp fr to : Int)  (hF : faceAt ty ws fi fd F) (hW : wfF F) (hSp : spotAt ty ws si sd w q) (hWS : wfS w q) (hM : moveAt ws 6 mi md st rp fr to) (hm : 0 ≤ st ∧ st ≤ 7 ∧ 0 ≤ rp ∧ rp ≤ 1 ∧ 0 ≤ fr ∧ fr ≤ 4 ∧ 0 ≤ to ∧ to ≤ 4) : cR l yX7_minutes (ws_ yX7_minutes cX7_minutes 4 (some .int)) (rm4 2 0 0 47) G ty (ws) [.ref md, .ref (fd 0), .ref (sd 0)] (fun r => ∃ z : Int, r = some (.int (ii z)) ∧ ((mnOk F w q 2 st rp fr to ∧ z = mnV F 2 st fr to) ∨ (¬ mnOk F w q 2 st rp fr to ∧ z = -3))) := by
  refine cR.of (by decide) (Nat.le_of_ble_eq_true rfl) ?_
  intro p e s m args below meth c Q hQ hx hb hr hml hown hlk hts hK hP hD hX ls hl
  have hl : lv_has ls 4 [(0, .ref md), (1, .ref (fd 0)), (2, .ref (sd 0))] := hl
  obtain ⟨hw0, hw1, hw2, hw3, hw4, hw5, h8a, h8b, h9a, h9b, h10a, h10b⟩ := id hW
  obtain ⟨hs0, hs1⟩ := id hWS
  obtain ⟨hm0, hm1, hm2, hm3, hm4, hm5, hm6, hm7⟩ := id hm
  have hfs := fs_le (F 2) (a := fr) (b := to) hw2 (by omega) (by omega)
  refine lv_aload_n hx hb dX7_minutes_0 rfl (lv_at hl 1 rfl) ?_
  refine lv_aload_n hx hb dX7_minutes_1 rfl (lv_at hl 0 rfl) ?_
  refine va_get (D := G) (fs := [.int (ii st), .int (ii rp), .int (ii fr), .int (ii to)]) (ci := 6) (v := .int (ii fr)) (C := RX7) (T := TX7) (N := 4) hx hb hts in_X7 hown hK hP mi hM rfl 2 (by decide) (hts _ q885) (fun x h9 => sf_X7_from hts x h9) rfl dX7_minutes_2 ?_
  refine lv_aload_n hx hb dX7_minutes_5 rfl (lv_at hl 0 rfl) ?_
  refine va_get (D := G) (fs := [.int (ii st), .int (ii rp), .int (ii fr), .int (ii to)]) (ci := 6) (v := .int (ii to)) (C := RX7) (T := TX7) (N := 4) hx hb hts in_X7 hown hK hP mi hM rfl 3 (by decide) (hts _ q896) (fun x h9 => sf_X7_to hts x h9) rfl dX7_minutes_6 ?_
  refine kR (va_runV (As := [.int (ii fr), .int (ii to)]) (rest := []) ⟨hx, hb, hml, hown, hts⟩ (m_farF l G ty ws fi fd F fr to hF hW (rgi hm4 hm5) (rgi hm6 hm7)) (cwV 2 hts (lw_V q481 q366 q367 q77 q368) rfl rfl rfl (by decide +kernel) ⟨Nat.le_of_ble_eq_true rfl, Nat.le_of_ble_eq_true rfl⟩) (pvR (r := (RX2, TX2, 13)) hK hP hD hX (fi 0) hF.1 rfl) rfl rfl hl.1 rfl (lv_room (Nat.le_of_ble_eq_true rfl)) dX7_minutes_9 ⟨Nat.le_of_ble_eq_true rfl, Nat.le_of_ble_eq_true rfl⟩) (fun v hv => ?_)
  obtain ⟨z9, rfl, ⟨h9, rfl⟩ | ⟨h9, rfl⟩⟩ := hv
  · refine lv_istore_n (lv' := [(3, .int (ii (fs (F 2) fr to))), (0, .ref md), (1, .ref (fd 0)), (2, .ref (sd 0))]) hx hb dX7_minutes_12 rfl hl (by decide) rfl (fun ls hl => ?_)
    refine lv_iload_n hx hb dX7_minutes_13 rfl (lv_at hl 0 rfl) ?_
    refine li_bipush hx hb dX7_minutes_14 (by decide) ?_
    refine li_icmp_eq (tgt := 67) hx hb (rgi hfs.1 hfs.2) ⟨by decide, by decide⟩ dX7_minutes_16 (by decide) (fun c16 => ?_) (fun c16 => ?_)
    · exfalso
      omega
    · refine lv_aload_n hx hb dX7_minutes_19 rfl (lv_at hl 2 rfl) ?_
      refine va_get (D := G) (fs := [.ref (fd 1), .ref (fd 2), .ref (fd 3), .ref (fd 4), .int (ii (F 8 0)), .ref (fd 5), .int (ii (F 9 0)), .ref (fd 6), .int (ii (F 10 0)), .int (ii (F 11 0)), .int (ii (F 12 0)), .int (ii (F 13 0)), .ref (fd 7)]) (ci := 1) (v := .ref (fd 2)) (C := RX2) (T := TX2) (N := 13) hx hb hts in_X2 hown hK hP (fi 0) hF.1 rfl 1 (by decide) (hts _ q775) (fun _ h9 => h9) rfl dX7_minutes_20 ?_
      refine lv_aload_n hx hb dX7_minutes_23 rfl (lv_at hl 1 rfl) ?_
      refine va_get (D := G) (fs := [.int (ii st), .int (ii rp), .int (ii fr), .int (ii to)]) (ci := 6) (v := .int (ii fr)) (C := RX7) (T := TX7) (N := 4) hx hb hts in_X7 hown hK hP mi hM rfl 2 (by decide) (hts _ q885) (fun x h9 => sf_X7_from hts x h9) rfl dX7_minutes_24 ?_
      refine li_iald (g := F 1) hx hb hK hP (fi 2) 0 hF.2.2.1 rfl (by omega) (by omega) (by decide) dX7_minutes_27 ?_
      have r28 := hw1 fr
      refine li_if_eq (tgt := 67) hx hb (rgi r28.1 r28.2) dX7_minutes_28 (by decide) (fun c28 => ?_) (fun c28 => ?_)
      · refine li_bipush hx hb dX7_minutes_67 (by decide) ?_
        exact eRi hQ hx hb hr hlk dX7_minutes_69 (⟨_, rfl, .inr ⟨fun h => by have h := mnOk_2.mp h; first | exact h9 h.1 | exact h.2.1 c28 | exact h35 h.2.2.1 | exact h48 h.2.2.2.1 | (have := h.2.2.2.2; omega), rfl⟩⟩)
      · refine lv_aload_n hx hb dX7_minutes_31 rfl (lv_at hl 1 rfl) ?_
        refine lv_aload_n hx hb dX7_minutes_32 rfl (lv_at hl 2 rfl) ?_
        refine lv_aload_n hx hb dX7_minutes_33 rfl (lv_at hl 3 rfl) ?_
        refine li_iconst hx hb dX7_minutes_34 ?_
        refine kR (va_runU (x := (⟨"DownRope$Single", "canGo", "(LDownRope$Face;LDownRope$Spot;Z)Z"⟩ : MethodName)) (As := [.ref (fd 0), .ref (sd 0), .int (ii 1)]) (rest := []) ⟨hx, hb, hml, hown, hts⟩ (m_canGo_7 l G ty ws fi fd F si sd w q mi md st rp fr to 1 hF hW hSp hWS hM hm (by omega)) (va_cwU (own := "DownRope$Single") (index := 28) (C := "DownRope$Single") (owner := "DownRope$Move") (x := (⟨"DownRope$Single", "canGo", "(LDownRope$Face;LDownRope$Spot;Z)Z"⟩ : MethodName)) (y := yX5_canGo) 3 hts (lw_app (lw_in _ [482, 483, 484, 413, 80] (by decide +kernel) (by decide +kernel)) (lw_meth q414)) rfl rfl rfl rfl (by decide +kernel) ⟨Nat.le_of_ble_eq_true rfl, Nat.le_of_ble_eq_true rfl⟩) (pvR (r := (RX7, TX7, 4)) hK hP hD hX mi hM rfl) rfl rfl hl.1 rfl (lv_room (Nat.le_of_ble_eq_true rfl)) dX7_minutes_35 ⟨Nat.le_of_ble_eq_true rfl, Nat.le_of_ble_eq_true rfl⟩) (fun v hv => ?_)
        obtain ⟨z35, rfl, ⟨rfl, h35⟩ | ⟨rfl, h35⟩⟩ := hv
        · refine li_if_eq (tgt := 67) hx hb ⟨by decide, by decide⟩ dX7_minutes_38 (by decide) (fun c38 => ?_) (fun c38 => ?_)
          · exact absurd c38 (by decide)
          · refine lv_aload_n hx hb dX7_minutes_41 rfl (lv_at hl 1 rfl) ?_
            refine lv_aload_n hx hb dX7_minutes_42 rfl (lv_at hl 2 rfl) ?_
            refine lv_aload_n hx hb dX7_minutes_43 rfl (lv_at hl 3 rfl) ?_
            refine lv_aload_n hx hb dX7_minutes_44 rfl (lv_at hl 1 rfl) ?_
            refine va_get (D := G) (fs := [.int (ii st), .int (ii rp), .int (ii fr), .int (ii to)]) (ci := 6) (v := .int (ii rp)) (C := RX7) (T := TX7) (N := 4) hx hb hts in_X7 hown hK hP mi hM rfl 1 (by decide) (hts _ q877) (fun x h9 => sf_X7_rope hts x h9) rfl dX7_minutes_45 ?_
            refine kR (va_runU (x := (⟨"DownRope$Single", "hasRope", "(LDownRope$Face;LDownRope$Spot;I)Z"⟩ : MethodName)) (As := [.ref (fd 0), .ref (sd 0), .int (ii rp)]) (rest := []) ⟨hx, hb, hml, hown, hts⟩ (m_hasRope_7 l G ty ws fi fd F si sd w q mi md st rp fr to rp hF hW hSp hWS hM hm (by omega)) (va_cwU (own := "DownRope$Single") (index := 35) (C := "DownRope$Single") (owner := "DownRope$Move") (x := (⟨"DownRope$Single", "hasRope", "(LDownRope$Face;LDownRope$Spot;I)Z"⟩ : MethodName)) (y := yX5_hasRope) 3 hts (lw_app (lw_in _ [485, 486, 487, 441, 80] (by decide +kernel) (by decide +kernel)) (lw_meth q442)) rfl rfl rfl rfl (by decide +kernel) ⟨Nat.le_of_ble_eq_true rfl, Nat.le_of_ble_eq_true rfl⟩) (pvR (r := (RX7, TX7, 4)) hK hP hD hX mi hM rfl) rfl rfl hl.1 rfl (lv_room (Nat.le_of_ble_eq_true rfl)) dX7_minutes_48 ⟨Nat.le_of_ble_eq_true rfl, Nat.le_of_ble_eq_true rfl⟩) (fun v hv => ?_)
            obtain ⟨z48, rfl, ⟨rfl, h48⟩ | ⟨rfl, h48⟩⟩ := hv
            · refine li_if_eq (tgt := 67) hx hb ⟨by decide, by decide⟩ dX7_minutes_51 (by decide) (fun c51 => ?_) (fun c51 => ?_)
              · exact absurd c51 (by decide)
              · refine lv_iload_n hx hb dX7_minutes_54 rfl (lv_at hl 0 rfl) ?_
                refine lv_aload_n hx hb dX7_minutes_55 rfl (lv_at hl 2 rfl) ?_
                refine va_get (D := G) (fs := [.ref (fd 1), .ref (fd 2), .ref (fd 3), .ref (fd 4), .int (ii (F 8 0)), .ref (fd 5), .int (ii (F 9 0)), .ref (fd 6), .int (ii (F 10 0)), .int (ii (F 11 0)), .int (ii (F 12 0)), .int (ii (F 13 0)), .ref (fd 7)]) (ci := 1) (v := .ref (fd 6)) (C := RX2) (T := TX2) (N := 13) hx hb hts in_X2 hown hK hP (fi 0) hF.1 rfl 7 (by decide) (hts _ q797) (fun _ h9 => h9) rfl dX7_minutes_56 ?_
                refine lv_aload_n hx hb dX7_minutes_59 rfl (lv_at hl 1 rfl) ?_
                refine va_get (D := G) (fs := [.int (ii st), .int (ii rp), .int (ii fr), .int (ii to)]) (ci := 6) (v := .int (ii rp)) (C := RX7) (T := TX7) (N := 4) hx hb hts in_X7 hown hK hP mi hM rfl 1 (by decide) (hts _ q877) (fun x h9 => sf_X7_rope hts x h9) rfl dX7_minutes_60 ?_
                refine li_iald (g := F 5) hx hb hK hP (fi 6) 0 hF.2.2.2.2.2.2 rfl (by omega) (by omega) (by decide) dX7_minutes_63 ?_
                have r64 := hw5 rp
                refine li_icmp_le (tgt := 70) hx hb (rgi hfs.1 hfs.2) (rgi r64.1 r64.2) dX7_minutes_64 (by decide) (fun c64 => ?_) (fun c64 => ?_)
                · refine li_iconst hx hb dX7_minutes_70 ?_
                  refine lv_aload_n hx hb dX7_minutes_71 rfl (lv_at hl 1 rfl) ?_
                  refine va_get (D := G) (fs := [.int (ii st), .int (ii rp), .int (ii fr), .int (ii to)]) (ci := 6) (v := .int (ii st)) (C := RX7) (T := TX7) (N := 4) hx hb hts in_X7 hown hK hP mi hM rfl 0 (by decide) (hts _ q866) (fun x h9 => sf_X7_set hts x h9) rfl dX7_minutes_72 ?_
                  refine kR (va_runSN (As := [.int (ii st)]) (rest := [.int (ii 2)]) ⟨hx, hb, hml, hown, hts⟩ (m_bits l G ty ws st ⟨by omega, by omega⟩) ⟨va_cnB 1 hts (lw_meth q405) rfl rfl rfl (hX.nest 4 rfl) (hts _ q76) (by decide +kernel) ⟨Nat.le_of_ble_eq_true rfl, Nat.le_of_ble_eq_true rfl⟩, hts _ q404, trivial⟩ (psR hK hP hD hX) rfl rfl hl.1 rfl (lv_room (Nat.le_of_ble_eq_true rfl)) dX7_minutes_75 ⟨Nat.le_of_ble_eq_true rfl, Nat.le_of_ble_eq_true rfl⟩) (fun v hv => ?_)
                  obtain ⟨z75, rfl, h75⟩ := hv
                  refine lv_iload_n hx hb dX7_minutes_78 rfl (lv_at hl 0 rfl) ?_
                  refine li_bipush hx hb dX7_minutes_79 (by decide) ?_
                  refine li_div hx hb (by omega) (by omega) (by omega) (by omega) dX7_minutes_81 ?_
                  refine li_iconst hx hb dX7_minutes_82 ?_
                  refine li_add hx hb dX7_minutes_83 ?_
                  refine li_mul hx hb dX7_minutes_84 ?_
                  refine li_add hx hb dX7_minutes_85 ?_
                  exact eRi hQ hx hb hr hlk dX7_minutes_86 (⟨_, rfl, .inl ⟨mnOk_2.mpr ⟨h9, c28, h35, h48, c64⟩, by rw [h75]; exact mnV_2.symm⟩⟩)
                · refine li_bipush hx hb dX7_minutes_67 (by decide) ?_
                  exact eRi hQ hx hb hr hlk dX7_minutes_69 (⟨_, rfl, .inr ⟨fun h => by have h := mnOk_2.mp h; first | exact h9 h.1 | exact h.2.1 c28 | exact h35 h.2.2.1 | exact h48 h.2.2.2.1 | (have := h.2.2.2.2; omega), rfl⟩⟩)
            · refine li_if_eq (tgt := 67) hx hb ⟨by decide, by decide⟩ dX7_minutes_51 (by decide) (fun c51 => ?_) (fun c51 => ?_)
              · refine li_bipush hx hb dX7_minutes_67 (by decide) ?_
                exact eRi hQ hx hb hr hlk dX7_minutes_69 (⟨_, rfl, .inr ⟨fun h => by have h := mnOk_2.mp h; first | exact h9 h.1 | exact h.2.1 c28 | exact h35 h.2.2.1 | exact h48 h.2.2.2.1 | (have := h.2.2.2.2; omega), rfl⟩⟩)
              · exact absurd c51 (by decide)
        · refine li_if_eq (tgt := 67) hx hb ⟨by decide, by decide⟩ dX7_minutes_38 (by decide) (fun c38 => ?_) (fun c38 => ?_)
          · refine li_bipush hx hb dX7_minutes_67 (by decide) ?_
            exact eRi hQ hx hb hr hlk dX7_minutes_69 (⟨_, rfl, .inr ⟨fun h => by have h := mnOk_2.mp h; first | exact h9 h.1 | exact h.2.1 c28 | exact h35 h.2.2.1 | exact h48 h.2.2.2.1 | (have := h.2.2.2.2; omega), rfl⟩⟩)
          · exact absurd c38 (by decide)
  · refine lv_istore_n (lv' := [(3, .int (ii (-4))), (0, .ref md), (1, .ref (fd 0)), (2, .ref (sd 0))]) hx hb dX7_minutes_12 rfl hl (by decide) rfl (fun ls hl => ?_)
    refine lv_iload_n hx hb dX7_minutes_13 rfl (lv_at hl 0 rfl) ?_
    refine li_bipush hx hb dX7_minutes_14 (by decide) ?_
    refine li_icmp_eq (tgt := 67) hx hb ⟨by decide, by decide⟩ ⟨by decide, by decide⟩ dX7_minutes_16 (by decide) (fun c16 => ?_) (fun c16 => ?_)
    · refine li_bipush hx hb dX7_minutes_67 (by decide) ?_
      exact eRi hQ hx hb hr hlk dX7_minutes_69 (⟨_, rfl, .inr ⟨fun h => by have h := mnOk_2.mp h; first | exact h9 h.1 | exact h.2.1 c28 | exact h35 h.2.2.1 | exact h48 h.2.2.2.1 | (have := h.2.2.2.2; omega), rfl⟩⟩)
    · exact absurd c16 (by decide)
set_option maxHeartbeats 4000000 in
theorem m_minutes_9 (l : Launch) (G : va_G) (ty : Nat → ClassId) (ws : va_W) (fi fd : Nat → Nat) (F : mem) (si sd : Nat → Nat) (w q : Int → Int) (mi md : Nat) (st rp fr to : Int)  (hF : faceAt ty ws fi fd F) (hW : wfF F) (hSp : spotAt ty ws si sd w q) (hWS : wfS w q) (hM : moveAt ws 8 mi md st rp fr to) (hm : 0 ≤ st ∧ st ≤ 7 ∧ 0 ≤ rp ∧ rp ≤ 1 ∧ 0 ≤ fr ∧ fr ≤ 4 ∧ 0 ≤ to ∧ to ≤ 4) : cR l yX9_minutes (ws_ yX9_minutes cX9_minutes 4 (some .int)) (rm4 2 0 0 47) G ty (ws) [.ref md, .ref (fd 0), .ref (sd 0)] (fun r => ∃ z : Int, r = some (.int (ii z)) ∧ ((mnOk F w q 4 st rp fr to ∧ z = mnV F 4 st fr to) ∨ (¬ mnOk F w q 4 st rp fr to ∧ z = -3))) := by
  refine cR.of (by decide) (Nat.le_of_ble_eq_true rfl) ?_
  intro p e s m args below meth c Q hQ hx hb hr hml hown hlk hts hK hP hD hX ls hl
  have hl : lv_has ls 4 [(0, .ref md), (1, .ref (fd 0)), (2, .ref (sd 0))] := hl
  obtain ⟨hw0, hw1, hw2, hw3, hw4, hw5, h8a, h8b, h9a, h9b, h10a, h10b⟩ := id hW
  obtain ⟨hs0, hs1⟩ := id hWS
  obtain ⟨hm0, hm1, hm2, hm3, hm4, hm5, hm6, hm7⟩ := id hm
  have hfs := fs_le (F 2) (a := fr) (b := to) hw2 (by omega) (by omega)
  refine lv_aload_n hx hb dX9_minutes_0 rfl (lv_at hl 1 rfl) ?_
  refine lv_aload_n hx hb dX9_minutes_1 rfl (lv_at hl 0 rfl) ?_
  refine va_get (D := G) (fs := [.int (ii st), .int (ii rp), .int (ii fr), .int (ii to)]) (ci := 8) (v := .int (ii fr)) (C := RX9) (T := TX9) (N := 4) hx hb hts in_X9 hown hK hP mi hM rfl 2 (by decide) (hts _ q883) (fun x h9 => sf_X9_from hts x h9) rfl dX9_minutes_2 ?_
  refine lv_aload_n hx hb dX9_minutes_5 rfl (lv_at hl 0 rfl) ?_
  refine va_get (D := G) (fs := [.int (ii st), .int (ii rp), .int (ii fr), .int (ii to)]) (ci := 8) (v := .int (ii to)) (C := RX9) (T := TX9) (N := 4) hx hb hts in_X9 hown hK hP mi hM rfl 3 (by decide) (hts _ q894) (fun x h9 => sf_X9_to hts x h9) rfl dX9_minutes_6 ?_
  refine kR (va_runV (As := [.int (ii fr), .int (ii to)]) (rest := []) ⟨hx, hb, hml, hown, hts⟩ (m_farF l G ty ws fi fd F fr to hF hW (rgi hm4 hm5) (rgi hm6 hm7)) (cwV 2 hts (lw_V q464 q366 q367 q77 q368) rfl rfl rfl (by decide +kernel) ⟨Nat.le_of_ble_eq_true rfl, Nat.le_of_ble_eq_true rfl⟩) (pvR (r := (RX2, TX2, 13)) hK hP hD hX (fi 0) hF.1 rfl) rfl rfl hl.1 rfl (lv_room (Nat.le_of_ble_eq_true rfl)) dX9_minutes_9 ⟨Nat.le_of_ble_eq_true rfl, Nat.le_of_ble_eq_true rfl⟩) (fun v hv => ?_)
  obtain ⟨z9, rfl, ⟨h9, rfl⟩ | ⟨h9, rfl⟩⟩ := hv
  · refine lv_istore_n (lv' := [(3, .int (ii (fs (F 2) fr to))), (0, .ref md), (1, .ref (fd 0)), (2, .ref (sd 0))]) hx hb dX9_minutes_12 rfl hl (by decide) rfl (fun ls hl => ?_)
    refine lv_iload_n hx hb dX9_minutes_13 rfl (lv_at hl 0 rfl) ?_
    refine li_bipush hx hb dX9_minutes_14 (by decide) ?_
    refine li_icmp_eq (tgt := 75) hx hb (rgi hfs.1 hfs.2) ⟨by decide, by decide⟩ dX9_minutes_16 (by decide) (fun c16 => ?_) (fun c16 => ?_)
    · exfalso
      omega
    · refine lv_aload_n hx hb dX9_minutes_19 rfl (lv_at hl 1 rfl) ?_
      refine va_get (D := G) (fs := [.int (ii st), .int (ii rp), .int (ii fr), .int (ii to)]) (ci := 8) (v := .int (ii st)) (C := RX9) (T := TX9) (N := 4) hx hb hts in_X9 hown hK hP mi hM rfl 0 (by decide) (hts _ q864) (fun x h9 => sf_X9_set hts x h9) rfl dX9_minutes_20 ?_
      refine kR (va_runSN (As := [.int (ii st)]) (rest := []) ⟨hx, hb, hml, hown, hts⟩ (m_bits l G ty ws st ⟨by omega, by omega⟩) ⟨va_cnB 1 hts (lw_meth q405) rfl rfl rfl (hX.nest 3 rfl) (hts _ q76) (by decide +kernel) ⟨Nat.le_of_ble_eq_true rfl, Nat.le_of_ble_eq_true rfl⟩, hts _ q404, trivial⟩ (psR hK hP hD hX) rfl rfl hl.1 rfl (lv_room (Nat.le_of_ble_eq_true rfl)) dX9_minutes_23 ⟨Nat.le_of_ble_eq_true rfl, Nat.le_of_ble_eq_true rfl⟩) (fun v hv => ?_)
      obtain ⟨z23, rfl, h23⟩ := hv
      refine li_iconst hx hb dX9_minutes_26 ?_
      refine li_icmp_ne (tgt := 75) hx hb ⟨by rw [h23]; unfold ones; omega, by rw [h23]; unfold ones; omega⟩ ⟨by decide, by decide⟩ dX9_minutes_27 (by decide) (fun c27 => ?_) (fun c27 => ?_)
      · refine li_bipush hx hb dX9_minutes_75 (by decide) ?_
        exact eRi hQ hx hb hr hlk dX9_minutes_77 (⟨_, rfl, .inr ⟨fun h => by have h := mnOk_4.mp h; first | exact h9 h.1 | exact c27 (h23.trans h.2.1) | exact h34 h.2.2.1 | exact h43 h.2.2.2.1 | exact h56 h.2.2.2.2.1 | (have := h.2.2.2.2.2; omega), rfl⟩⟩)
      · refine lv_aload_n hx hb dX9_minutes_30 rfl (lv_at hl 1 rfl) ?_
        refine lv_aload_n hx hb dX9_minutes_31 rfl (lv_at hl 2 rfl) ?_
        refine lv_aload_n hx hb dX9_minutes_32 rfl (lv_at hl 3 rfl) ?_
        refine li_iconst hx hb dX9_minutes_33 ?_
        refine kR (va_runU (x := (⟨"DownRope$Let", "canGo", "(LDownRope$Face;LDownRope$Spot;Z)Z"⟩ : MethodName)) (As := [.ref (fd 0), .ref (sd 0), .int (ii 0)]) (rest := []) ⟨hx, hb, hml, hown, hts⟩ (m_canGo_9 l G ty ws fi fd F si sd w q mi md st rp fr to 0 hF hW hSp hWS hM hm (by omega)) (va_cwU (own := "DownRope$Let") (index := 31) (C := "DownRope$Let") (owner := "DownRope$Move") (x := (⟨"DownRope$Let", "canGo", "(LDownRope$Face;LDownRope$Spot;Z)Z"⟩ : MethodName)) (y := yX5_canGo) 3 hts (lw_app (lw_in _ [466, 467, 468, 413, 80] (by decide +kernel) (by decide +kernel)) (lw_meth q414)) rfl rfl rfl rfl (by decide +kernel) ⟨Nat.le_of_ble_eq_true rfl, Nat.le_of_ble_eq_true rfl⟩) (pvR (r := (RX9, TX9, 4)) hK hP hD hX mi hM rfl) rfl rfl hl.1 rfl (lv_room (Nat.le_of_ble_eq_true rfl)) dX9_minutes_34 ⟨Nat.le_of_ble_eq_true rfl, Nat.le_of_ble_eq_true rfl⟩) (fun v hv => ?_)
        obtain ⟨z34, rfl, ⟨rfl, h34⟩ | ⟨rfl, h34⟩⟩ := hv
        · refine li_if_eq (tgt := 75) hx hb ⟨by decide, by decide⟩ dX9_minutes_37 (by decide) (fun c37 => ?_) (fun c37 => ?_)
          · exact absurd c37 (by decide)
          · refine lv_aload_n hx hb dX9_minutes_40 rfl (lv_at hl 1 rfl) ?_
            refine lv_aload_n hx hb dX9_minutes_41 rfl (lv_at hl 2 rfl) ?_
            refine lv_aload_n hx hb dX9_minutes_42 rfl (lv_at hl 3 rfl) ?_
            refine kR (va_runU (x := (⟨"DownRope$Let", "hasHelp", "(LDownRope$Face;LDownRope$Spot;)Z"⟩ : MethodName)) (As := [.ref (fd 0), .ref (sd 0)]) (rest := []) ⟨hx, hb, hml, hown, hts⟩ (m_hasHelp_9 l G ty ws fi fd F si sd w q mi md st rp fr to  hF hW hSp hWS hM hm) (va_cwU (own := "DownRope$Let") (index := 35) (C := "DownRope$Let") (owner := "DownRope$Move") (x := (⟨"DownRope$Let", "hasHelp", "(LDownRope$Face;LDownRope$Spot;)Z"⟩ : MethodName)) (y := yX5_hasHelp) 2 hts (lw_app (lw_in _ [469, 470, 472, 473, 80] (by decide +kernel) (by decide +kernel)) (lw_meth q474)) rfl rfl rfl rfl (by decide +kernel) ⟨Nat.le_of_ble_eq_true rfl, Nat.le_of_ble_eq_true rfl⟩) (pvR (r := (RX9, TX9, 4)) hK hP hD hX mi hM rfl) rfl rfl hl.1 rfl (lv_room (Nat.le_of_ble_eq_true rfl)) dX9_minutes_43 ⟨Nat.le_of_ble_eq_true rfl, Nat.le_of_ble_eq_true rfl⟩) (fun v hv => ?_)
            obtain ⟨z43, rfl, ⟨rfl, h43⟩ | ⟨rfl, h43⟩⟩ := hv
            · refine li_if_eq (tgt := 75) hx hb ⟨by decide, by decide⟩ dX9_minutes_46 (by decide) (fun c46 => ?_) (fun c46 => ?_)
              · exact absurd c46 (by decide)
              · refine lv_aload_n hx hb dX9_minutes_49 rfl (lv_at hl 1 rfl) ?_
                refine lv_aload_n hx hb dX9_minutes_50 rfl (lv_at hl 2 rfl) ?_
                refine lv_aload_n hx hb dX9_minutes_51 rfl (lv_at hl 3 rfl) ?_
                refine lv_aload_n hx hb dX9_minutes_52 rfl (lv_at hl 1 rfl) ?_
                refine va_get (D := G) (fs := [.int (ii st), .int (ii rp), .int (ii fr), .int (ii to)]) (ci := 8) (v := .int (ii rp)) (C := RX9) (T := TX9) (N := 4) hx hb hts in_X9 hown hK hP mi hM rfl 1 (by decide) (hts _ q879) (fun x h9 => sf_X9_rope hts x h9) rfl dX9_minutes_53 ?_
                refine kR (va_runU (x := (⟨"DownRope$Let", "hasRope", "(LDownRope$Face;LDownRope$Spot;I)Z"⟩ : MethodName)) (As := [.ref (fd 0), .ref (sd 0), .int (ii rp)]) (rest := []) ⟨hx, hb, hml, hown, hts⟩ (m_hasRope_9 l G ty ws fi fd F si sd w q mi md st rp fr to rp hF hW hSp hWS hM hm (by omega)) (va_cwU (own := "DownRope$Let") (index := 42) (C := "DownRope$Let") (owner := "DownRope$Move") (x := (⟨"DownRope$Let", "hasRope", "(LDownRope$Face;LDownRope$Spot;I)Z"⟩ : MethodName)) (y := yX5_hasRope) 3 hts (lw_app (lw_in _ [475, 476, 477, 441, 80] (by decide +kernel) (by decide +kernel)) (lw_meth q442)) rfl rfl rfl rfl (by decide +kernel) ⟨Nat.le_of_ble_eq_true rfl, Nat.le_of_ble_eq_true rfl⟩) (pvR (r := (RX9, TX9, 4)) hK hP hD hX mi hM rfl) rfl rfl hl.1 rfl (lv_room (Nat.le_of_ble_eq_true rfl)) dX9_minutes_56 ⟨Nat.le_of_ble_eq_true rfl, Nat.le_of_ble_eq_true rfl⟩) (fun v hv => ?_)
                obtain ⟨z56, rfl, ⟨rfl, h56⟩ | ⟨rfl, h56⟩⟩ := hv
                · refine li_if_eq (tgt := 75) hx hb ⟨by decide, by decide⟩ dX9_minutes_59 (by decide) (fun c59 => ?_) (fun c59 => ?_)
                  · exact absurd c59 (by decide)
                  · refine lv_iload_n hx hb dX9_minutes_62 rfl (lv_at hl 0 rfl) ?_
                    refine lv_aload_n hx hb dX9_minutes_63 rfl (lv_at hl 2 rfl) ?_
                    refine va_get (D := G) (fs := [.ref (fd 1), .ref (fd 2), .ref (fd 3), .ref (fd 4), .int (ii (F 8 0)), .ref (fd 5), .int (ii (F 9 0)), .ref (fd 6), .int (ii (F 10 0)), .int (ii (F 11 0)), .int (ii (F 12 0)), .int (ii (F 13 0)), .ref (fd 7)]) (ci := 1) (v := .ref (fd 6)) (C := RX2) (T := TX2) (N := 13) hx hb hts in_X2 hown hK hP (fi 0) hF.1 rfl 7 (by decide) (hts _ q798) (fun _ h9 => h9) rfl dX9_minutes_64 ?_
                    refine lv_aload_n hx hb dX9_minutes_67 rfl (lv_at hl 1 rfl) ?_
                    refine va_get (D := G) (fs := [.int (ii st), .int (ii rp), .int (ii fr), .int (ii to)]) (ci := 8) (v := .int (ii rp)) (C := RX9) (T := TX9) (N := 4) hx hb hts in_X9 hown hK hP mi hM rfl 1 (by decide) (hts _ q879) (fun x h9 => sf_X9_rope hts x h9) rfl dX9_minutes_68 ?_
                    refine li_iald (g := F 5) hx hb hK hP (fi 6) 0 hF.2.2.2.2.2.2 rfl (by omega) (by omega) (by decide) dX9_minutes_71 ?_
                    have r72 := hw5 rp
                    refine li_icmp_le (tgt := 78) hx hb (rgi hfs.1 hfs.2) (rgi r72.1 r72.2) dX9_minutes_72 (by decide) (fun c72 => ?_) (fun c72 => ?_)
                    · refine lv_iload_n hx hb dX9_minutes_78 rfl (lv_at hl 0 rfl) ?_
                      refine li_iconst hx hb dX9_minutes_79 ?_
                      refine li_div hx hb (by omega) (by omega) (by omega) (by omega) dX9_minutes_80 ?_
                      refine li_iconst hx hb dX9_minutes_81 ?_
                      refine li_add hx hb dX9_minutes_82 ?_
                      exact eRi hQ hx hb hr hlk dX9_minutes_83 (⟨_, rfl, .inl ⟨mnOk_4.mpr ⟨h9, h23.symm.trans c27, h34, h43, h56, c72⟩, mnV_4.symm⟩⟩)
                    · refine li_bipush hx hb dX9_minutes_75 (by decide) ?_
                      exact eRi hQ hx hb hr hlk dX9_minutes_77 (⟨_, rfl, .inr ⟨fun h => by have h := mnOk_4.mp h; first | exact h9 h.1 | exact c27 (h23.trans h.2.1) | exact h34 h.2.2.1 | exact h43 h.2.2.2.1 | exact h56 h.2.2.2.2.1 | (have := h.2.2.2.2.2; omega), rfl⟩⟩)
                · refine li_if_eq (tgt := 75) hx hb ⟨by decide, by decide⟩ dX9_minutes_59 (by decide) (fun c59 => ?_) (fun c59 => ?_)
                  · refine li_bipush hx hb dX9_minutes_75 (by decide) ?_
                    exact eRi hQ hx hb hr hlk dX9_minutes_77 (⟨_, rfl, .inr ⟨fun h => by have h := mnOk_4.mp h; first | exact h9 h.1 | exact c27 (h23.trans h.2.1) | exact h34 h.2.2.1 | exact h43 h.2.2.2.1 | exact h56 h.2.2.2.2.1 | (have := h.2.2.2.2.2; omega), rfl⟩⟩)
                  · exact absurd c59 (by decide)
            · refine li_if_eq (tgt := 75) hx hb ⟨by decide, by decide⟩ dX9_minutes_46 (by decide) (fun c46 => ?_) (fun c46 => ?_)
              · refine li_bipush hx hb dX9_minutes_75 (by decide) ?_
                exact eRi hQ hx hb hr hlk dX9_minutes_77 (⟨_, rfl, .inr ⟨fun h => by have h := mnOk_4.mp h; first | exact h9 h.1 | exact c27 (h23.trans h.2.1) | exact h34 h.2.2.1 | exact h43 h.2.2.2.1 | exact h56 h.2.2.2.2.1 | (have := h.2.2.2.2.2; omega), rfl⟩⟩)
              · exact absurd c46 (by decide)
        · refine li_if_eq (tgt := 75) hx hb ⟨by decide, by decide⟩ dX9_minutes_37 (by decide) (fun c37 => ?_) (fun c37 => ?_)
          · refine li_bipush hx hb dX9_minutes_75 (by decide) ?_
            exact eRi hQ hx hb hr hlk dX9_minutes_77 (⟨_, rfl, .inr ⟨fun h => by have h := mnOk_4.mp h; first | exact h9 h.1 | exact c27 (h23.trans h.2.1) | exact h34 h.2.2.1 | exact h43 h.2.2.2.1 | exact h56 h.2.2.2.2.1 | (have := h.2.2.2.2.2; omega), rfl⟩⟩)
          · exact absurd c37 (by decide)
  · refine lv_istore_n (lv' := [(3, .int (ii (-4))), (0, .ref md), (1, .ref (fd 0)), (2, .ref (sd 0))]) hx hb dX9_minutes_12 rfl hl (by decide) rfl (fun ls hl => ?_)
    refine lv_iload_n hx hb dX9_minutes_13 rfl (lv_at hl 0 rfl) ?_
    refine li_bipush hx hb dX9_minutes_14 (by decide) ?_
    refine li_icmp_eq (tgt := 75) hx hb ⟨by decide, by decide⟩ ⟨by decide, by decide⟩ dX9_minutes_16 (by decide) (fun c16 => ?_) (fun c16 => ?_)
    · refine li_bipush hx hb dX9_minutes_75 (by decide) ?_
      exact eRi hQ hx hb hr hlk dX9_minutes_77 (⟨_, rfl, .inr ⟨fun h => by have h := mnOk_4.mp h; first | exact h9 h.1 | exact c27 (h23.trans h.2.1) | exact h34 h.2.2.1 | exact h43 h.2.2.2.1 | exact h56 h.2.2.2.2.1 | (have := h.2.2.2.2.2; omega), rfl⟩⟩)
    · exact absurd c16 (by decide)
set_option maxHeartbeats 4000000 in
theorem m_isClimber (l : Launch) (G : va_G) (ty : Nat → ClassId) (ws : va_W) (fi fd : Nat → Nat) (F : mem) (mi md : Nat) (st rp fr to : Int)  (hF : faceAt ty ws fi fd F) (hW : wfF F) (hM : moveAt ws 9 mi md st rp fr to) (hm : 0 ≤ st ∧ st ≤ 7 ∧ 0 ≤ rp ∧ rp ≤ 1 ∧ 0 ≤ fr ∧ fr ≤ 4 ∧ 0 ≤ to ∧ to ≤ 4) : cR l yX10_isClimber (ws_ yX10_isClimber cX10_isClimber 3 (some .boolean)) (rm4 0 0 0 0) G ty (ws) [.ref md, .ref (fd 0)] (fun r => ∃ z : Int, r = some (.int (ii z)) ∧ ((z = 1 ∧ okClimber F st) ∨ (z = 0 ∧ ¬ okClimber F st))) := by
  refine cR.of (by decide) (Nat.le_of_ble_eq_true rfl) ?_
  intro p e s m args below meth c Q hQ hx hb hr hml hown hlk hts hK hP hD hX ls hl
  have hl : lv_has ls 3 [(0, .ref md), (1, .ref (fd 0))] := hl
  obtain ⟨hw0, hw1, hw2, hw3, hw4, hw5, h8a, h8b, h9a, h9b, h10a, h10b⟩ := id hW
  obtain ⟨hm0, hm1, hm2, hm3, hm4, hm5, hm6, hm7⟩ := id hm
  refine li_iconst hx hb dX10_isClimber_0 ?_
  refine lv_istore_n (lv' := [(2, .int (ii 0)), (0, .ref md), (1, .ref (fd 0))]) hx hb dX10_isClimber_1 rfl hl (by decide) rfl (fun ls hl => ?_)
  refine lv_iload_n hx hb dX10_isClimber_2 rfl (lv_at hl 0 rfl) ?_
  refine lv_aload_n hx hb dX10_isClimber_3 rfl (lv_at hl 2 rfl) ?_
  refine va_get (D := G) (fs := [.ref (fd 1), .ref (fd 2), .ref (fd 3), .ref (fd 4), .int (ii (F 8 0)), .ref (fd 5), .int (ii (F 9 0)), .ref (fd 6), .int (ii (F 10 0)), .int (ii (F 11 0)), .int (ii (F 12 0)), .int (ii (F 13 0)), .ref (fd 7)]) (ci := 1) (v := .int (ii (F 9 0))) (C := RX2) (T := TX2) (N := 13) hx hb hts in_X2 hown hK hP (fi 0) hF.1 rfl 6 (by decide) (hts _ q792) (fun _ h9 => h9) rfl dX10_isClimber_4 ?_
  refine li_icmp_ge (tgt := 39) hx hb ⟨by decide, by decide⟩ (rgi h9a h9b) dX10_isClimber_7 (by decide) (fun c7 => ?_) (fun c7 => ?_)
  · refine li_iconst hx hb dX10_isClimber_39 ?_
    exact eRz hQ hx hb hr hlk dX10_isClimber_40 (.inr rfl) (⟨_, rfl, .inl ⟨rfl, ⟨fun _ q => absurd q (by omega), fun _ q => absurd q (by omega), fun _ q => absurd q (by omega)⟩⟩⟩)
  · refine lv_aload_n hx hb dX10_isClimber_10 rfl (lv_at hl 1 rfl) ?_
    refine va_get (D := G) (fs := [.int (ii st), .int (ii rp), .int (ii fr), .int (ii to)]) (ci := 9) (v := .int (ii st)) (C := RX10) (T := TX10) (N := 4) hx hb hts in_X10 hown hK hP mi hM rfl 0 (by decide) (hts _ q862) (fun x h9 => sf_X10_set hts x h9) rfl dX10_isClimber_11 ?_
    refine lv_iload_n hx hb dX10_isClimber_14 rfl (lv_at hl 0 rfl) ?_
    refine lv_ishr hx hb dX10_isClimber_15 ?_
    refine li_topx (z := st) (ii_shr0 (by omega) (by omega)) ?_
    refine li_iconst hx hb dX10_isClimber_16 ?_
    refine lv_iand hx hb dX10_isClimber_17 ?_
    refine li_topx (z := st % 2) (ii_and1 (by omega) (by omega)) ?_
    refine li_iconst hx hb dX10_isClimber_18 ?_
    have J19 : ∀ (_ : (st % 2) = 1 → F 4 0 = 0) (ls : Array Slot), lv_has ls 3 [(2, .int (ii 0)), (0, .ref md), (1, .ref (fd 0))] → W p l e (rm4 0 0 0 0) s m args below meth c s.heap [] 0 0 Q (F0 m 33 ls []) := by
      intro hj19 ls hl
      refine li_iinc (a := 0) (lv' := [(2, .int (ii 1)), (0, .ref md), (1, .ref (fd 0))]) hx hb dX10_isClimber_33 hl (k := 0) rfl (by decide) rfl (fun ls hl => ?_)
      refine lv_goto (tgt := 2) hx hb dX10_isClimber_36 (by decide) ?_
      refine lv_iload_n hx hb dX10_isClimber_2 rfl (lv_at hl 0 rfl) ?_
      refine lv_aload_n hx hb dX10_isClimber_3 rfl (lv_at hl 2 rfl) ?_
      refine va_get (D := G) (fs := [.ref (fd 1), .ref (fd 2), .ref (fd 3), .ref (fd 4), .int (ii (F 8 0)), .ref (fd 5), .int (ii (F 9 0)), .ref (fd 6), .int (ii (F 10 0)), .int (ii (F 11 0)), .int (ii (F 12 0)), .int (ii (F 13 0)), .ref (fd 7)]) (ci := 1) (v := .int (ii (F 9 0))) (C := RX2) (T := TX2) (N := 13) hx hb hts in_X2 hown hK hP (fi 0) hF.1 rfl 6 (by decide) (hts _ q792) (fun _ h9 => h9) rfl dX10_isClimber_4 ?_
      refine li_icmp_ge (tgt := 39) hx hb ⟨by decide, by decide⟩ (rgi h9a h9b) dX10_isClimber_7 (by decide) (fun c7 => ?_) (fun c7 => ?_)
      · refine li_iconst hx hb dX10_isClimber_39 ?_
        exact eRz hQ hx hb hr hlk dX10_isClimber_40 (.inr rfl) (⟨_, rfl, .inl ⟨rfl, ⟨fun q _ => hj19 q, fun _ q => absurd q (by omega), fun _ q => absurd q (by omega)⟩⟩⟩)
      · refine lv_aload_n hx hb dX10_isClimber_10 rfl (lv_at hl 1 rfl) ?_
        refine va_get (D := G) (fs := [.int (ii st), .int (ii rp), .int (ii fr), .int (ii to)]) (ci := 9) (v := .int (ii st)) (C := RX10) (T := TX10) (N := 4) hx hb hts in_X10 hown hK hP mi hM rfl 0 (by decide) (hts _ q862) (fun x h9 => sf_X10_set hts x h9) rfl dX10_isClimber_11 ?_
        refine lv_iload_n hx hb dX10_isClimber_14 rfl (lv_at hl 0 rfl) ?_
        refine lv_ishr hx hb dX10_isClimber_15 ?_
        refine li_topx (z := st / 2) (ii_shr1 (by omega) (by omega)) ?_
        refine li_iconst hx hb dX10_isClimber_16 ?_
        refine lv_iand hx hb dX10_isClimber_17 ?_
        refine li_topx (z := (st / 2) % 2) (ii_and1 (by omega) (by omega)) ?_
        refine li_iconst hx hb dX10_isClimber_18 ?_
        have J19_1 : ∀ (_ : (st / 2 % 2) = 1 → F 4 1 = 0) (ls : Array Slot), lv_has ls 3 [(2, .int (ii 1)), (0, .ref md), (1, .ref (fd 0))] → W p l e (rm4 0 0 0 0) s m args below meth c s.heap [] 0 0 Q (F0 m 33 ls []) := by
          intro hj19_1 ls hl
          refine li_iinc (a := 1) (lv' := [(2, .int (ii 2)), (0, .ref md), (1, .ref (fd 0))]) hx hb dX10_isClimber_33 hl (k := 0) rfl (by decide) rfl (fun ls hl => ?_)
          refine lv_goto (tgt := 2) hx hb dX10_isClimber_36 (by decide) ?_
          refine lv_iload_n hx hb dX10_isClimber_2 rfl (lv_at hl 0 rfl) ?_
          refine lv_aload_n hx hb dX10_isClimber_3 rfl (lv_at hl 2 rfl) ?_
          refine va_get (D := G) (fs := [.ref (fd 1), .ref (fd 2), .ref (fd 3), .ref (fd 4), .int (ii (F 8 0)), .ref (fd 5), .int (ii (F 9 0)), .ref (fd 6), .int (ii (F 10 0)), .int (ii (F 11 0)), .int (ii (F 12 0)), .int (ii (F 13 0)), .ref (fd 7)]) (ci := 1) (v := .int (ii (F 9 0))) (C := RX2) (T := TX2) (N := 13) hx hb hts in_X2 hown hK hP (fi 0) hF.1 rfl 6 (by decide) (hts _ q792) (fun _ h9 => h9) rfl dX10_isClimber_4 ?_
          refine li_icmp_ge (tgt := 39) hx hb ⟨by decide, by decide⟩ (rgi h9a h9b) dX10_isClimber_7 (by decide) (fun c7 => ?_) (fun c7 => ?_)
          · refine li_iconst hx hb dX10_isClimber_39 ?_
            exact eRz hQ hx hb hr hlk dX10_isClimber_40 (.inr rfl) (⟨_, rfl, .inl ⟨rfl, ⟨fun q _ => hj19 q, fun q _ => hj19_1 q, fun _ q => absurd q (by omega)⟩⟩⟩)
          · refine lv_aload_n hx hb dX10_isClimber_10 rfl (lv_at hl 1 rfl) ?_
            refine va_get (D := G) (fs := [.int (ii st), .int (ii rp), .int (ii fr), .int (ii to)]) (ci := 9) (v := .int (ii st)) (C := RX10) (T := TX10) (N := 4) hx hb hts in_X10 hown hK hP mi hM rfl 0 (by decide) (hts _ q862) (fun x h9 => sf_X10_set hts x h9) rfl dX10_isClimber_11 ?_
            refine lv_iload_n hx hb dX10_isClimber_14 rfl (lv_at hl 0 rfl) ?_
            refine lv_ishr hx hb dX10_isClimber_15 ?_
            refine li_topx (z := st / 4) (ii_shr2 (by omega) (by omega)) ?_
            refine li_iconst hx hb dX10_isClimber_16 ?_
            refine lv_iand hx hb dX10_isClimber_17 ?_
            refine li_topx (z := (st / 4) % 2) (ii_and1 (by omega) (by omega)) ?_
            refine li_iconst hx hb dX10_isClimber_18 ?_
            have J19_2 : ∀ (_ : (st / 4 % 2) = 1 → F 4 2 = 0) (ls : Array Slot), lv_has ls 3 [(2, .int (ii 2)), (0, .ref md), (1, .ref (fd 0))] → W p l e (rm4 0 0 0 0) s m args below meth c s.heap [] 0 0 Q (F0 m 33 ls []) := by
              intro hj19_2 ls hl
              refine li_iinc (a := 2) (lv' := [(2, .int (ii 3)), (0, .ref md), (1, .ref (fd 0))]) hx hb dX10_isClimber_33 hl (k := 0) rfl (by decide) rfl (fun ls hl => ?_)
              refine lv_goto (tgt := 2) hx hb dX10_isClimber_36 (by decide) ?_
              refine lv_iload_n hx hb dX10_isClimber_2 rfl (lv_at hl 0 rfl) ?_
              refine lv_aload_n hx hb dX10_isClimber_3 rfl (lv_at hl 2 rfl) ?_
              refine va_get (D := G) (fs := [.ref (fd 1), .ref (fd 2), .ref (fd 3), .ref (fd 4), .int (ii (F 8 0)), .ref (fd 5), .int (ii (F 9 0)), .ref (fd 6), .int (ii (F 10 0)), .int (ii (F 11 0)), .int (ii (F 12 0)), .int (ii (F 13 0)), .ref (fd 7)]) (ci := 1) (v := .int (ii (F 9 0))) (C := RX2) (T := TX2) (N := 13) hx hb hts in_X2 hown hK hP (fi 0) hF.1 rfl 6 (by decide) (hts _ q792) (fun _ h9 => h9) rfl dX10_isClimber_4 ?_
              refine li_icmp_ge (tgt := 39) hx hb ⟨by decide, by decide⟩ (rgi h9a h9b) dX10_isClimber_7 (by decide) (fun c7 => ?_) (fun c7 => ?_)
              · refine li_iconst hx hb dX10_isClimber_39 ?_
                exact eRz hQ hx hb hr hlk dX10_isClimber_40 (.inr rfl) (⟨_, rfl, .inl ⟨rfl, ⟨fun q _ => hj19 q, fun q _ => hj19_1 q, fun q _ => hj19_2 q⟩⟩⟩)
              · exfalso
                omega
            refine li_icmp_ne (tgt := 33) hx hb ⟨by omega, by omega⟩ ⟨by decide, by decide⟩ dX10_isClimber_19 (by decide) (fun c19 => ?_) (fun c19 => ?_)
            · exact J19_2 (by omega) ls (lv_sub hl [0, 1, 2] rfl)
            · refine lv_aload_n hx hb dX10_isClimber_22 rfl (lv_at hl 2 rfl) ?_
              refine va_get (D := G) (fs := [.ref (fd 1), .ref (fd 2), .ref (fd 3), .ref (fd 4), .int (ii (F 8 0)), .ref (fd 5), .int (ii (F 9 0)), .ref (fd 6), .int (ii (F 10 0)), .int (ii (F 11 0)), .int (ii (F 12 0)), .int (ii (F 13 0)), .ref (fd 7)]) (ci := 1) (v := .ref (fd 5)) (C := RX2) (T := TX2) (N := 13) hx hb hts in_X2 hown hK hP (fi 0) hF.1 rfl 5 (by decide) (hts _ q787) (fun _ h9 => h9) rfl dX10_isClimber_23 ?_
              refine lv_iload_n hx hb dX10_isClimber_26 rfl (lv_at hl 0 rfl) ?_
              refine li_iald (g := F 4) hx hb hK hP (fi 5) 0 hF.2.2.2.2.2.1 rfl (by decide) (by decide) (by decide) dX10_isClimber_27 ?_
              have r28 := hw4 2
              refine li_if_eq (tgt := 33) hx hb (rgi r28.1 r28.2) dX10_isClimber_28 (by decide) (fun c28 => ?_) (fun c28 => ?_)
              · exact J19_2 (by omega) ls (lv_sub hl [0, 1, 2] rfl)
              · refine li_iconst hx hb dX10_isClimber_31 ?_
                exact eRz hQ hx hb hr hlk dX10_isClimber_32 (.inl rfl) (⟨_, rfl, .inr ⟨rfl, fun h => by have := h.1; have := h.2.1; have := h.2.2; omega⟩⟩)
        refine li_icmp_ne (tgt := 33) hx hb ⟨by omega, by omega⟩ ⟨by decide, by decide⟩ dX10_isClimber_19 (by decide) (fun c19 => ?_) (fun c19 => ?_)
        · exact J19_1 (by omega) ls (lv_sub hl [0, 1, 2] rfl)
        · refine lv_aload_n hx hb dX10_isClimber_22 rfl (lv_at hl 2 rfl) ?_
          refine va_get (D := G) (fs := [.ref (fd 1), .ref (fd 2), .ref (fd 3), .ref (fd 4), .int (ii (F 8 0)), .ref (fd 5), .int (ii (F 9 0)), .ref (fd 6), .int (ii (F 10 0)), .int (ii (F 11 0)), .int (ii (F 12 0)), .int (ii (F 13 0)), .ref (fd 7)]) (ci := 1) (v := .ref (fd 5)) (C := RX2) (T := TX2) (N := 13) hx hb hts in_X2 hown hK hP (fi 0) hF.1 rfl 5 (by decide) (hts _ q787) (fun _ h9 => h9) rfl dX10_isClimber_23 ?_
          refine lv_iload_n hx hb dX10_isClimber_26 rfl (lv_at hl 0 rfl) ?_
          refine li_iald (g := F 4) hx hb hK hP (fi 5) 0 hF.2.2.2.2.2.1 rfl (by decide) (by decide) (by decide) dX10_isClimber_27 ?_
          have r28 := hw4 1
          refine li_if_eq (tgt := 33) hx hb (rgi r28.1 r28.2) dX10_isClimber_28 (by decide) (fun c28 => ?_) (fun c28 => ?_)
          · exact J19_1 (by omega) ls (lv_sub hl [0, 1, 2] rfl)
          · refine li_iconst hx hb dX10_isClimber_31 ?_
            exact eRz hQ hx hb hr hlk dX10_isClimber_32 (.inl rfl) (⟨_, rfl, .inr ⟨rfl, fun h => by have := h.1; have := h.2.1; have := h.2.2; omega⟩⟩)
    refine li_icmp_ne (tgt := 33) hx hb ⟨by omega, by omega⟩ ⟨by decide, by decide⟩ dX10_isClimber_19 (by decide) (fun c19 => ?_) (fun c19 => ?_)
    · exact J19 (by omega) ls (lv_sub hl [0, 1, 2] rfl)
    · refine lv_aload_n hx hb dX10_isClimber_22 rfl (lv_at hl 2 rfl) ?_
      refine va_get (D := G) (fs := [.ref (fd 1), .ref (fd 2), .ref (fd 3), .ref (fd 4), .int (ii (F 8 0)), .ref (fd 5), .int (ii (F 9 0)), .ref (fd 6), .int (ii (F 10 0)), .int (ii (F 11 0)), .int (ii (F 12 0)), .int (ii (F 13 0)), .ref (fd 7)]) (ci := 1) (v := .ref (fd 5)) (C := RX2) (T := TX2) (N := 13) hx hb hts in_X2 hown hK hP (fi 0) hF.1 rfl 5 (by decide) (hts _ q787) (fun _ h9 => h9) rfl dX10_isClimber_23 ?_
      refine lv_iload_n hx hb dX10_isClimber_26 rfl (lv_at hl 0 rfl) ?_
      refine li_iald (g := F 4) hx hb hK hP (fi 5) 0 hF.2.2.2.2.2.1 rfl (by decide) (by decide) (by decide) dX10_isClimber_27 ?_
      have r28 := hw4 0
      refine li_if_eq (tgt := 33) hx hb (rgi r28.1 r28.2) dX10_isClimber_28 (by decide) (fun c28 => ?_) (fun c28 => ?_)
      · exact J19 (by omega) ls (lv_sub hl [0, 1, 2] rfl)
      · refine li_iconst hx hb dX10_isClimber_31 ?_
        exact eRz hQ hx hb hr hlk dX10_isClimber_32 (.inl rfl) (⟨_, rfl, .inr ⟨rfl, fun h => by have := h.1; have := h.2.1; have := h.2.2; omega⟩⟩)
set_option maxHeartbeats 4000000 in
theorem m_minutes_10 (l : Launch) (G : va_G) (ty : Nat → ClassId) (ws : va_W) (fi fd : Nat → Nat) (F : mem) (si sd : Nat → Nat) (w q : Int → Int) (mi md : Nat) (st rp fr to : Int)  (hF : faceAt ty ws fi fd F) (hW : wfF F) (hSp : spotAt ty ws si sd w q) (hWS : wfS w q) (hM : moveAt ws 9 mi md st rp fr to) (hm : 0 ≤ st ∧ st ≤ 7 ∧ 0 ≤ rp ∧ rp ≤ 1 ∧ 0 ≤ fr ∧ fr ≤ 4 ∧ 0 ≤ to ∧ to ≤ 4) (hlg : (0 < F 9 0 → 0 ≤ w 0 ∧ w 0 < F 8 0) ∧ (1 < F 9 0 → 0 ≤ w 1 ∧ w 1 < F 8 0) ∧ (2 < F 9 0 → 0 ≤ w 2 ∧ w 2 < F 8 0)) : cR l yX10_minutes (ws_ yX10_minutes cX10_minutes 4 (some .int)) (rm4 2 0 0 47) G ty (ws) [.ref md, .ref (fd 0), .ref (sd 0)] (fun r => ∃ z : Int, r = some (.int (ii z)) ∧ ((mnOk F w q 5 st rp fr to ∧ z = mnV F 5 st fr to) ∨ (¬ mnOk F w q 5 st rp fr to ∧ z = -3))) := by
  refine cR.of (by decide) (Nat.le_of_ble_eq_true rfl) ?_
  intro p e s m args below meth c Q hQ hx hb hr hml hown hlk hts hK hP hD hX ls hl
  have hl : lv_has ls 4 [(0, .ref md), (1, .ref (fd 0)), (2, .ref (sd 0))] := hl
  obtain ⟨hw0, hw1, hw2, hw3, hw4, hw5, h8a, h8b, h9a, h9b, h10a, h10b⟩ := id hW
  obtain ⟨hs0, hs1⟩ := id hWS
  obtain ⟨hm0, hm1, hm2, hm3, hm4, hm5, hm6, hm7⟩ := id hm
  have hfs := fs_le (F 2) (a := fr) (b := to) hw2 (by omega) (by omega)
  refine lv_aload_n hx hb dX10_minutes_0 rfl (lv_at hl 0 rfl) ?_
  refine va_get (D := G) (fs := [.int (ii st), .int (ii rp), .int (ii fr), .int (ii to)]) (ci := 9) (v := .int (ii fr)) (C := RX10) (T := TX10) (N := 4) hx hb hts in_X10 hown hK hP mi hM rfl 2 (by decide) (hts _ q890) (fun x h9 => sf_X10_from hts x h9) rfl dX10_minutes_1 ?_
  refine lv_aload_n hx hb dX10_minutes_4 rfl (lv_at hl 0 rfl) ?_
  refine va_get (D := G) (fs := [.int (ii st), .int (ii rp), .int (ii fr), .int (ii to)]) (ci := 9) (v := .int (ii to)) (C := RX10) (T := TX10) (N := 4) hx hb hts in_X10 hown hK hP mi hM rfl 3 (by decide) (hts _ q901) (fun x h9 => sf_X10_to hts x h9) rfl dX10_minutes_5 ?_
  refine va_mmin hx hb (hml.trans hl.1.symm) hown (hts _ q400) (hts _ q401) (hts _ q94) (hts _ q402) (Nat.le_of_ble_eq_true rfl) (Nat.le_of_ble_eq_true rfl) (Nat.le_of_ble_eq_true rfl) (Nat.le_of_ble_eq_true rfl) dX10_minutes_8 ?_
  refine li_topx (z := lower fr to) (ii_min (rgi hm4 hm5) (rgi hm6 hm7)) ?_
  refine lv_istore_n (lv' := [(3, .int (ii (lower fr to))), (0, .ref md), (1, .ref (fd 0)), (2, .ref (sd 0))]) hx hb dX10_minutes_11 rfl hl (by decide) rfl (fun ls hl => ?_)
  refine lv_aload_n hx hb dX10_minutes_12 rfl (lv_at hl 1 rfl) ?_
  refine va_get (D := G) (fs := [.int (ii st), .int (ii rp), .int (ii fr), .int (ii to)]) (ci := 9) (v := .int (ii st)) (C := RX10) (T := TX10) (N := 4) hx hb hts in_X10 hown hK hP mi hM rfl 0 (by decide) (hts _ q862) (fun x h9 => sf_X10_set hts x h9) rfl dX10_minutes_13 ?_
  refine kR (va_runSN (As := [.int (ii st)]) (rest := []) ⟨hx, hb, hml, hown, hts⟩ (m_bits l G ty ws st ⟨by omega, by omega⟩) ⟨va_cnB 1 hts (lw_meth q405) rfl rfl rfl (hX.nest 1 rfl) (hts _ q76) (by decide +kernel) ⟨Nat.le_of_ble_eq_true rfl, Nat.le_of_ble_eq_true rfl⟩, hts _ q404, trivial⟩ (psR hK hP hD hX) rfl rfl hl.1 rfl (lv_room (Nat.le_of_ble_eq_true rfl)) dX10_minutes_16 ⟨Nat.le_of_ble_eq_true rfl, Nat.le_of_ble_eq_true rfl⟩) (fun v hv => ?_)
  obtain ⟨z16, rfl, h16⟩ := hv
  refine li_iconst hx hb dX10_minutes_19 ?_
  refine li_icmp_ne (tgt := 73) hx hb ⟨by rw [h16]; unfold ones; omega, by rw [h16]; unfold ones; omega⟩ ⟨by decide, by decide⟩ dX10_minutes_20 (by decide) (fun c20 => ?_) (fun c20 => ?_)
  · refine li_bipush hx hb dX10_minutes_73 (by decide) ?_
    exact eRi hQ hx hb hr hlk dX10_minutes_75 (⟨_, rfl, .inr ⟨fun h => by have h := mnOk_5.mp h; first | exact c20 (h16.trans h.1) | exact c27 h.2.1 | (have := h.2.2.1; unfold absi at c43; omega) | exact h50 h.2.2.2.1 | exact h58 h.2.2.2.2.1 | exact h.2.2.2.2.2.1 c70, rfl⟩⟩)
  · refine lv_aload_n hx hb dX10_minutes_23 rfl (lv_at hl 1 rfl) ?_
    refine va_get (D := G) (fs := [.int (ii st), .int (ii rp), .int (ii fr), .int (ii to)]) (ci := 9) (v := .int (ii rp)) (C := RX10) (T := TX10) (N := 4) hx hb hts in_X10 hown hK hP mi hM rfl 1 (by decide) (hts _ q881) (fun x h9 => sf_X10_rope hts x h9) rfl dX10_minutes_24 ?_
    refine li_if_ne (tgt := 73) hx hb (rgi hm2 hm3) dX10_minutes_27 (by decide) (fun c27 => ?_) (fun c27 => ?_)
    · refine li_bipush hx hb dX10_minutes_73 (by decide) ?_
      exact eRi hQ hx hb hr hlk dX10_minutes_75 (⟨_, rfl, .inr ⟨fun h => by have h := mnOk_5.mp h; first | exact c20 (h16.trans h.1) | exact c27 h.2.1 | (have := h.2.2.1; unfold absi at c43; omega) | exact h50 h.2.2.2.1 | exact h58 h.2.2.2.2.1 | exact h.2.2.2.2.2.1 c70, rfl⟩⟩)
    · refine lv_aload_n hx hb dX10_minutes_30 rfl (lv_at hl 1 rfl) ?_
      refine va_get (D := G) (fs := [.int (ii st), .int (ii rp), .int (ii fr), .int (ii to)]) (ci := 9) (v := .int (ii fr)) (C := RX10) (T := TX10) (N := 4) hx hb hts in_X10 hown hK hP mi hM rfl 2 (by decide) (hts _ q890) (fun x h9 => sf_X10_from hts x h9) rfl dX10_minutes_31 ?_
      refine lv_aload_n hx hb dX10_minutes_34 rfl (lv_at hl 1 rfl) ?_
      refine va_get (D := G) (fs := [.int (ii st), .int (ii rp), .int (ii fr), .int (ii to)]) (ci := 9) (v := .int (ii to)) (C := RX10) (T := TX10) (N := 4) hx hb hts in_X10 hown hK hP mi hM rfl 3 (by decide) (hts _ q901) (fun x h9 => sf_X10_to hts x h9) rfl dX10_minutes_35 ?_
      refine li_sub hx hb dX10_minutes_38 ?_
      refine va_mabs hx hb (hml.trans hl.1.symm) hown (hts _ q406) (hts _ q407) (hts _ q94) (hts _ q408) (Nat.le_of_ble_eq_true rfl) (Nat.le_of_ble_eq_true rfl) (Nat.le_of_ble_eq_true rfl) (Nat.le_of_ble_eq_true rfl) dX10_minutes_39 ?_
      refine li_topx (z := absi (fr - to)) (ii_abs ⟨by omega, by omega⟩) ?_
      refine li_iconst hx hb dX10_minutes_42 ?_
      refine li_icmp_ne (tgt := 73) hx hb ⟨by unfold absi; omega, by unfold absi; omega⟩ ⟨by decide, by decide⟩ dX10_minutes_43 (by decide) (fun c43 => ?_) (fun c43 => ?_)
      · refine li_bipush hx hb dX10_minutes_73 (by decide) ?_
        exact eRi hQ hx hb hr hlk dX10_minutes_75 (⟨_, rfl, .inr ⟨fun h => by have h := mnOk_5.mp h; first | exact c20 (h16.trans h.1) | exact c27 h.2.1 | (have := h.2.2.1; unfold absi at c43; omega) | exact h50 h.2.2.2.1 | exact h58 h.2.2.2.2.1 | exact h.2.2.2.2.2.1 c70, rfl⟩⟩)
      · refine lv_aload_n hx hb dX10_minutes_46 rfl (lv_at hl 1 rfl) ?_
        refine lv_aload_n hx hb dX10_minutes_47 rfl (lv_at hl 2 rfl) ?_
        refine lv_aload_n hx hb dX10_minutes_48 rfl (lv_at hl 3 rfl) ?_
        refine li_iconst hx hb dX10_minutes_49 ?_
        refine kR (va_runU (x := (⟨"DownRope$Climb", "canGo", "(LDownRope$Face;LDownRope$Spot;Z)Z"⟩ : MethodName)) (As := [.ref (fd 0), .ref (sd 0), .int (ii 1)]) (rest := []) ⟨hx, hb, hml, hown, hts⟩ (m_canGo_10 l G ty ws fi fd F si sd w q mi md st rp fr to 1 hF hW hSp hWS hM hm (by omega)) (va_cwU (own := "DownRope$Climb") (index := 46) (C := "DownRope$Climb") (owner := "DownRope$Move") (x := (⟨"DownRope$Climb", "canGo", "(LDownRope$Face;LDownRope$Spot;Z)Z"⟩ : MethodName)) (y := yX5_canGo) 3 hts (lw_app (lw_in _ [409, 410, 412, 413, 80] (by decide +kernel) (by decide +kernel)) (lw_meth q414)) rfl rfl rfl rfl (by decide +kernel) ⟨Nat.le_of_ble_eq_true rfl, Nat.le_of_ble_eq_true rfl⟩) (pvR (r := (RX10, TX10, 4)) hK hP hD hX mi hM rfl) rfl rfl hl.1 rfl (lv_room (Nat.le_of_ble_eq_true rfl)) dX10_minutes_50 ⟨Nat.le_of_ble_eq_true rfl, Nat.le_of_ble_eq_true rfl⟩) (fun v hv => ?_)
        obtain ⟨z50, rfl, ⟨rfl, h50⟩ | ⟨rfl, h50⟩⟩ := hv
        · refine li_if_eq (tgt := 73) hx hb ⟨by decide, by decide⟩ dX10_minutes_53 (by decide) (fun c53 => ?_) (fun c53 => ?_)
          · exact absurd c53 (by decide)
          · refine lv_aload_n hx hb dX10_minutes_56 rfl (lv_at hl 1 rfl) ?_
            refine lv_aload_n hx hb dX10_minutes_57 rfl (lv_at hl 2 rfl) ?_
            refine kR (va_runV (As := [.ref (fd 0)]) (rest := []) ⟨hx, hb, hml, hown, hts⟩ (m_isClimber l G ty ws fi fd F mi md st rp fr to  hF hW hM hm) (cwV 1 hts (lw_V q417 q419 qs18 q85 q421) rfl rfl rfl (by decide +kernel) ⟨Nat.le_of_ble_eq_true rfl, Nat.le_of_ble_eq_true rfl⟩) (pvR (r := (RX10, TX10, 4)) hK hP hD hX mi hM rfl) rfl rfl hl.1 rfl (lv_room (Nat.le_of_ble_eq_true rfl)) dX10_minutes_58 ⟨Nat.le_of_ble_eq_true rfl, Nat.le_of_ble_eq_true rfl⟩) (fun v hv => ?_)
            obtain ⟨z58, rfl, ⟨rfl, h58⟩ | ⟨rfl, h58⟩⟩ := hv
            · refine li_if_eq (tgt := 73) hx hb ⟨by decide, by decide⟩ dX10_minutes_61 (by decide) (fun c61 => ?_) (fun c61 => ?_)
              · exact absurd c61 (by decide)
              · refine lv_aload_n hx hb dX10_minutes_64 rfl (lv_at hl 2 rfl) ?_
                refine va_get (D := G) (fs := [.ref (fd 1), .ref (fd 2), .ref (fd 3), .ref (fd 4), .int (ii (F 8 0)), .ref (fd 5), .int (ii (F 9 0)), .ref (fd 6), .int (ii (F 10 0)), .int (ii (F 11 0)), .int (ii (F 12 0)), .int (ii (F 13 0)), .ref (fd 7)]) (ci := 1) (v := .ref (fd 4)) (C := RX2) (T := TX2) (N := 13) hx hb hts in_X2 hown hK hP (fi 0) hF.1 rfl 3 (by decide) (hts _ q782) (fun _ h9 => h9) rfl dX10_minutes_65 ?_
                refine lv_iload_n hx hb dX10_minutes_68 rfl (lv_at hl 0 rfl) ?_
                refine li_zald (g := F 3) hx hb hK hP (fi 4) 1 hF.2.2.2.2.1 rfl (by unfold lower; omega) (by unfold lower; omega) (by decide) dX10_minutes_69 ?_
                have r70 := hw3 (lower fr to)
                refine li_if_ne (tgt := 76) hx hb (rgi r70.1 r70.2) dX10_minutes_70 (by decide) (fun c70 => ?_) (fun c70 => ?_)
                · obtain ⟨hlo, hhi⟩ := okGo_at h50 (by omega) (by omega) hlg
                  refine lv_aload_n hx hb dX10_minutes_76 rfl (lv_at hl 2 rfl) ?_
                  refine va_get (D := G) (fs := [.ref (fd 1), .ref (fd 2), .ref (fd 3), .ref (fd 4), .int (ii (F 8 0)), .ref (fd 5), .int (ii (F 9 0)), .ref (fd 6), .int (ii (F 10 0)), .int (ii (F 11 0)), .int (ii (F 12 0)), .int (ii (F 13 0)), .ref (fd 7)]) (ci := 1) (v := .ref (fd 3)) (C := RX2) (T := TX2) (N := 13) hx hb hts in_X2 hown hK hP (fi 0) hF.1 rfl 2 (by decide) (hts _ q779) (fun _ h9 => h9) rfl dX10_minutes_77 ?_
                  refine lv_iload_n hx hb dX10_minutes_80 rfl (lv_at hl 0 rfl) ?_
                  refine li_iald (g := F 2) hx hb hK hP (fi 3) 0 hF.2.2.2.1 rfl (by unfold lower; omega) (by unfold lower; omega) (by decide) dX10_minutes_81 ?_
                  have r82 := hw2 (lower fr to)
                  refine li_iconst hx hb dX10_minutes_82 ?_
                  refine li_div hx hb (by omega) (by omega) (by omega) (by omega) dX10_minutes_83 ?_
                  refine li_iconst hx hb dX10_minutes_84 ?_
                  refine li_add hx hb dX10_minutes_85 ?_
                  refine lv_aload_n hx hb dX10_minutes_86 rfl (lv_at hl 1 rfl) ?_
                  refine va_get (D := G) (fs := [.int (ii st), .int (ii rp), .int (ii fr), .int (ii to)]) (ci := 9) (v := .int (ii to)) (C := RX10) (T := TX10) (N := 4) hx hb hts in_X10 hown hK hP mi hM rfl 3 (by decide) (hts _ q901) (fun x h9 => sf_X10_to hts x h9) rfl dX10_minutes_87 ?_
                  refine lv_aload_n hx hb dX10_minutes_90 rfl (lv_at hl 1 rfl) ?_
                  refine va_get (D := G) (fs := [.int (ii st), .int (ii rp), .int (ii fr), .int (ii to)]) (ci := 9) (v := .int (ii fr)) (C := RX10) (T := TX10) (N := 4) hx hb hts in_X10 hown hK hP mi hM rfl 2 (by decide) (hts _ q890) (fun x h9 => sf_X10_from hts x h9) rfl dX10_minutes_91 ?_
                  refine li_icmp_ge (tgt := 101) hx hb (rgi hm6 hm7) (rgi hm4 hm5) dX10_minutes_94 (by decide) (fun c94 => ?_) (fun c94 => ?_)
                  · refine li_iconst hx hb dX10_minutes_101 ?_
                    refine li_add hx hb dX10_minutes_102 ?_
                    exact eRi hQ hx hb hr hlk dX10_minutes_103 (⟨_, rfl, .inl ⟨mnOk_5.mpr ⟨h16 ▸ c20, c27, by unfold absi at c43; omega, h50, h58, c70, hlo, hhi⟩, by first | (rw [mnV_5, if_pos (by omega)]) | (rw [mnV_5, if_neg (by omega)])⟩⟩)
                  · refine li_iconst hx hb dX10_minutes_97 ?_
                    refine lv_goto (tgt := 102) hx hb dX10_minutes_98 (by decide) ?_
                    refine li_add hx hb dX10_minutes_102 ?_
                    exact eRi hQ hx hb hr hlk dX10_minutes_103 (⟨_, rfl, .inl ⟨mnOk_5.mpr ⟨h16 ▸ c20, c27, by unfold absi at c43; omega, h50, h58, c70, hlo, hhi⟩, by first | (rw [mnV_5, if_pos (by omega)]) | (rw [mnV_5, if_neg (by omega)])⟩⟩)
                · refine li_bipush hx hb dX10_minutes_73 (by decide) ?_
                  exact eRi hQ hx hb hr hlk dX10_minutes_75 (⟨_, rfl, .inr ⟨fun h => by have h := mnOk_5.mp h; first | exact c20 (h16.trans h.1) | exact c27 h.2.1 | (have := h.2.2.1; unfold absi at c43; omega) | exact h50 h.2.2.2.1 | exact h58 h.2.2.2.2.1 | exact h.2.2.2.2.2.1 c70, rfl⟩⟩)
            · refine li_if_eq (tgt := 73) hx hb ⟨by decide, by decide⟩ dX10_minutes_61 (by decide) (fun c61 => ?_) (fun c61 => ?_)
              · refine li_bipush hx hb dX10_minutes_73 (by decide) ?_
                exact eRi hQ hx hb hr hlk dX10_minutes_75 (⟨_, rfl, .inr ⟨fun h => by have h := mnOk_5.mp h; first | exact c20 (h16.trans h.1) | exact c27 h.2.1 | (have := h.2.2.1; unfold absi at c43; omega) | exact h50 h.2.2.2.1 | exact h58 h.2.2.2.2.1 | exact h.2.2.2.2.2.1 c70, rfl⟩⟩)
              · exact absurd c61 (by decide)
        · refine li_if_eq (tgt := 73) hx hb ⟨by decide, by decide⟩ dX10_minutes_53 (by decide) (fun c53 => ?_) (fun c53 => ?_)
          · refine li_bipush hx hb dX10_minutes_73 (by decide) ?_
            exact eRi hQ hx hb hr hlk dX10_minutes_75 (⟨_, rfl, .inr ⟨fun h => by have h := mnOk_5.mp h; first | exact c20 (h16.trans h.1) | exact c27 h.2.1 | (have := h.2.2.1; unfold absi at c43; omega) | exact h50 h.2.2.2.1 | exact h58 h.2.2.2.2.1 | exact h.2.2.2.2.2.1 c70, rfl⟩⟩)
          · exact absurd c53 (by decide)
set_option maxHeartbeats 4000000 in
theorem m_minutes_11 (l : Launch) (G : va_G) (ty : Nat → ClassId) (ws : va_W) (fi fd : Nat → Nat) (F : mem) (si sd : Nat → Nat) (w q : Int → Int) (mi md : Nat) (st rp fr to : Int)  (hF : faceAt ty ws fi fd F) (hW : wfF F) (hSp : spotAt ty ws si sd w q) (hWS : wfS w q) (hM : moveAt ws 10 mi md st rp fr to) (hm : 0 ≤ st ∧ st ≤ 7 ∧ 0 ≤ rp ∧ rp ≤ 1 ∧ 0 ≤ fr ∧ fr ≤ 4 ∧ 0 ≤ to ∧ to ≤ 4) : cR l yX11_minutes (ws_ yX11_minutes cX11_minutes 3 (some .int)) (rm4 2 0 0 45) G ty (ws) [.ref md, .ref (fd 0), .ref (sd 0)] (fun r => ∃ z : Int, r = some (.int (ii z)) ∧ ((mnOk F w q 6 st rp fr to ∧ z = mnV F 6 st fr to) ∨ (¬ mnOk F w q 6 st rp fr to ∧ z = -3))) := by
  refine cR.of (by decide) (Nat.le_of_ble_eq_true rfl) ?_
  intro p e s m args below meth c Q hQ hx hb hr hml hown hlk hts hK hP hD hX ls hl
  have hl : lv_has ls 3 [(0, .ref md), (1, .ref (fd 0)), (2, .ref (sd 0))] := hl
  obtain ⟨hw0, hw1, hw2, hw3, hw4, hw5, h8a, h8b, h9a, h9b, h10a, h10b⟩ := id hW
  obtain ⟨hs0, hs1⟩ := id hWS
  obtain ⟨hm0, hm1, hm2, hm3, hm4, hm5, hm6, hm7⟩ := id hm
  have hfs := fs_le (F 2) (a := fr) (b := to) hw2 (by omega) (by omega)
  refine lv_aload_n hx hb dX11_minutes_0 rfl (lv_at hl 0 rfl) ?_
  refine va_get (D := G) (fs := [.int (ii st), .int (ii rp), .int (ii fr), .int (ii to)]) (ci := 10) (v := .int (ii st)) (C := RX11) (T := TX11) (N := 4) hx hb hts in_X11 hown hK hP mi hM rfl 0 (by decide) (hts _ q859) (fun x h9 => sf_X11_set hts x h9) rfl dX11_minutes_1 ?_
  refine li_if_ne (tgt := 50) hx hb (rgi hm0 hm1) dX11_minutes_4 (by decide) (fun c4 => ?_) (fun c4 => ?_)
  · refine li_bipush hx hb dX11_minutes_50 (by decide) ?_
    exact eRi hQ hx hb hr hlk dX11_minutes_52 (⟨_, rfl, .inr ⟨fun h => by have h := mnOk_6.mp h; first | exact c4 h.1 | exact h16 h.2.1 | exact h27 h.2.2.1 | exact h40 h.2.2.2, rfl⟩⟩)
  · refine lv_aload_n hx hb dX11_minutes_7 rfl (lv_at hl 1 rfl) ?_
    refine lv_aload_n hx hb dX11_minutes_8 rfl (lv_at hl 0 rfl) ?_
    refine va_get (D := G) (fs := [.int (ii st), .int (ii rp), .int (ii fr), .int (ii to)]) (ci := 10) (v := .int (ii fr)) (C := RX11) (T := TX11) (N := 4) hx hb hts in_X11 hown hK hP mi hM rfl 2 (by decide) (hts _ q887) (fun x h9 => sf_X11_from hts x h9) rfl dX11_minutes_9 ?_
    refine lv_aload_n hx hb dX11_minutes_12 rfl (lv_at hl 0 rfl) ?_
    refine va_get (D := G) (fs := [.int (ii st), .int (ii rp), .int (ii fr), .int (ii to)]) (ci := 10) (v := .int (ii to)) (C := RX11) (T := TX11) (N := 4) hx hb hts in_X11 hown hK hP mi hM rfl 3 (by decide) (hts _ q898) (fun x h9 => sf_X11_to hts x h9) rfl dX11_minutes_13 ?_
    refine kR (va_runV (As := [.int (ii fr), .int (ii to)]) (rest := []) ⟨hx, hb, hml, hown, hts⟩ (m_farF l G ty ws fi fd F fr to hF hW (rgi hm4 hm5) (rgi hm6 hm7)) (cwV 2 hts (lw_V q492 q366 q367 q77 q368) rfl rfl rfl (by decide +kernel) ⟨Nat.le_of_ble_eq_true rfl, Nat.le_of_ble_eq_true rfl⟩) (pvR (r := (RX2, TX2, 13)) hK hP hD hX (fi 0) hF.1 rfl) rfl rfl hl.1 rfl (lv_room (Nat.le_of_ble_eq_true rfl)) dX11_minutes_16 ⟨Nat.le_of_ble_eq_true rfl, Nat.le_of_ble_eq_true rfl⟩) (fun v hv => ?_)
    obtain ⟨z16, rfl, ⟨h16, rfl⟩ | ⟨h16, rfl⟩⟩ := hv
    · refine li_bipush hx hb dX11_minutes_19 (by decide) ?_
      refine li_icmp_eq (tgt := 50) hx hb (rgi hfs.1 hfs.2) ⟨by decide, by decide⟩ dX11_minutes_21 (by decide) (fun c21 => ?_) (fun c21 => ?_)
      · exfalso
        omega
      · refine lv_aload_n hx hb dX11_minutes_24 rfl (lv_at hl 0 rfl) ?_
        refine lv_aload_n hx hb dX11_minutes_25 rfl (lv_at hl 1 rfl) ?_
        refine lv_aload_n hx hb dX11_minutes_26 rfl (lv_at hl 2 rfl) ?_
        refine kR (va_runU (x := (⟨"DownRope$Throw", "hasHelp", "(LDownRope$Face;LDownRope$Spot;)Z"⟩ : MethodName)) (As := [.ref (fd 0), .ref (sd 0)]) (rest := []) ⟨hx, hb, hml, hown, hts⟩ (m_hasHelp_11 l G ty ws fi fd F si sd w q mi md st rp fr to  hF hW hSp hWS hM hm) (va_cwU (own := "DownRope$Throw") (index := 27) (C := "DownRope$Throw") (owner := "DownRope$Move") (x := (⟨"DownRope$Throw", "hasHelp", "(LDownRope$Face;LDownRope$Spot;)Z"⟩ : MethodName)) (y := yX5_hasHelp) 2 hts (lw_app (lw_in _ [493, 494, 495, 473, 80] (by decide +kernel) (by decide +kernel)) (lw_meth q474)) rfl rfl rfl rfl (by decide +kernel) ⟨Nat.le_of_ble_eq_true rfl, Nat.le_of_ble_eq_true rfl⟩) (pvR (r := (RX11, TX11, 4)) hK hP hD hX mi hM rfl) rfl rfl hl.1 rfl (lv_room (Nat.le_of_ble_eq_true rfl)) dX11_minutes_27 ⟨Nat.le_of_ble_eq_true rfl, Nat.le_of_ble_eq_true rfl⟩) (fun v hv => ?_)
        obtain ⟨z27, rfl, ⟨rfl, h27⟩ | ⟨rfl, h27⟩⟩ := hv
        · refine li_if_eq (tgt := 50) hx hb ⟨by decide, by decide⟩ dX11_minutes_30 (by decide) (fun c30 => ?_) (fun c30 => ?_)
          · exact absurd c30 (by decide)
          · refine lv_aload_n hx hb dX11_minutes_33 rfl (lv_at hl 0 rfl) ?_
            refine lv_aload_n hx hb dX11_minutes_34 rfl (lv_at hl 1 rfl) ?_
            refine lv_aload_n hx hb dX11_minutes_35 rfl (lv_at hl 2 rfl) ?_
            refine lv_aload_n hx hb dX11_minutes_36 rfl (lv_at hl 0 rfl) ?_
            refine va_get (D := G) (fs := [.int (ii st), .int (ii rp), .int (ii fr), .int (ii to)]) (ci := 10) (v := .int (ii rp)) (C := RX11) (T := TX11) (N := 4) hx hb hts in_X11 hown hK hP mi hM rfl 1 (by decide) (hts _ q875) (fun x h9 => sf_X11_rope hts x h9) rfl dX11_minutes_37 ?_
            refine kR (va_runU (x := (⟨"DownRope$Throw", "hasRope", "(LDownRope$Face;LDownRope$Spot;I)Z"⟩ : MethodName)) (As := [.ref (fd 0), .ref (sd 0), .int (ii rp)]) (rest := []) ⟨hx, hb, hml, hown, hts⟩ (m_hasRope_11 l G ty ws fi fd F si sd w q mi md st rp fr to rp hF hW hSp hWS hM hm (by omega)) (va_cwU (own := "DownRope$Throw") (index := 34) (C := "DownRope$Throw") (owner := "DownRope$Move") (x := (⟨"DownRope$Throw", "hasRope", "(LDownRope$Face;LDownRope$Spot;I)Z"⟩ : MethodName)) (y := yX5_hasRope) 3 hts (lw_app (lw_in _ [496, 497, 498, 441, 80] (by decide +kernel) (by decide +kernel)) (lw_meth q442)) rfl rfl rfl rfl (by decide +kernel) ⟨Nat.le_of_ble_eq_true rfl, Nat.le_of_ble_eq_true rfl⟩) (pvR (r := (RX11, TX11, 4)) hK hP hD hX mi hM rfl) rfl rfl hl.1 rfl (lv_room (Nat.le_of_ble_eq_true rfl)) dX11_minutes_40 ⟨Nat.le_of_ble_eq_true rfl, Nat.le_of_ble_eq_true rfl⟩) (fun v hv => ?_)
            obtain ⟨z40, rfl, ⟨rfl, h40⟩ | ⟨rfl, h40⟩⟩ := hv
            · refine li_if_eq (tgt := 50) hx hb ⟨by decide, by decide⟩ dX11_minutes_43 (by decide) (fun c43 => ?_) (fun c43 => ?_)
              · exact absurd c43 (by decide)
              · refine li_iconst hx hb dX11_minutes_46 ?_
                refine lv_goto (tgt := 52) hx hb dX11_minutes_47 (by decide) ?_
                exact eRi hQ hx hb hr hlk dX11_minutes_52 (⟨_, rfl, .inl ⟨mnOk_6.mpr ⟨c4, h16, h27, h40⟩, mnV_6.symm⟩⟩)
            · refine li_if_eq (tgt := 50) hx hb ⟨by decide, by decide⟩ dX11_minutes_43 (by decide) (fun c43 => ?_) (fun c43 => ?_)
              · refine li_bipush hx hb dX11_minutes_50 (by decide) ?_
                exact eRi hQ hx hb hr hlk dX11_minutes_52 (⟨_, rfl, .inr ⟨fun h => by have h := mnOk_6.mp h; first | exact c4 h.1 | exact h16 h.2.1 | exact h27 h.2.2.1 | exact h40 h.2.2.2, rfl⟩⟩)
              · exact absurd c43 (by decide)
        · refine li_if_eq (tgt := 50) hx hb ⟨by decide, by decide⟩ dX11_minutes_30 (by decide) (fun c30 => ?_) (fun c30 => ?_)
          · refine li_bipush hx hb dX11_minutes_50 (by decide) ?_
            exact eRi hQ hx hb hr hlk dX11_minutes_52 (⟨_, rfl, .inr ⟨fun h => by have h := mnOk_6.mp h; first | exact c4 h.1 | exact h16 h.2.1 | exact h27 h.2.2.1 | exact h40 h.2.2.2, rfl⟩⟩)
          · exact absurd c30 (by decide)
    · refine li_bipush hx hb dX11_minutes_19 (by decide) ?_
      refine li_icmp_eq (tgt := 50) hx hb ⟨by decide, by decide⟩ ⟨by decide, by decide⟩ dX11_minutes_21 (by decide) (fun c21 => ?_) (fun c21 => ?_)
      · refine li_bipush hx hb dX11_minutes_50 (by decide) ?_
        exact eRi hQ hx hb hr hlk dX11_minutes_52 (⟨_, rfl, .inr ⟨fun h => by have h := mnOk_6.mp h; first | exact c4 h.1 | exact h16 h.2.1 | exact h27 h.2.2.1 | exact h40 h.2.2.2, rfl⟩⟩)
      · exact absurd c21 (by decide)
