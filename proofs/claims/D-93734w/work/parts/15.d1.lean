/-! DownRope: isTold, told, may, behind, caughtBehind (written by gen/d1.py) -/
set_option maxRecDepth 100000
theorem nxC_cp (m : Int) (w w' q : Int → Int) : cdv (mvw (m / 1000 % 10) (m % 10) (cp w w' 3)) (ug (ug q 0 5) 1 5) = nxC m w := by
  have h0 : mvw (m / 1000 % 10) (m % 10) (cp w w' 3) 0 = nxW m w 0 := mvw_at (cp_in (by decide) (by decide))
  have h1 : mvw (m / 1000 % 10) (m % 10) (cp w w' 3) 1 = nxW m w 1 := mvw_at (cp_in (by decide) (by decide))
  have h2 : mvw (m / 1000 % 10) (m % 10) (cp w w' 3) 2 = nxW m w 2 := mvw_at (cp_in (by decide) (by decide))
  simp only [cdv, nxC, h0, h1, h2]
  simp [ug]
set_option maxHeartbeats 4000000 in
theorem m_isTold (l : Launch) (G : va_G) (ty : Nat → ClassId) (ws : va_W) (mv : Int) (hm : rg mv) : cR l yX1_isTold (ws_ yX1_isTold cX1_isTold 1 (some .boolean)) (rm4 1 0 0 22) G ty (ws) [.int (ii mv)] (fun r => ∃ z : Int, r = some (.int (ii z)) ∧ ((z = 1 ∧ isT mv) ∨ (z = 0 ∧ ¬ isT mv))) := by
  refine cR.of (by decide) (Nat.le_of_ble_eq_true rfl) ?_
  intro p e s m args below meth c Q hQ hx hb hr hml hown hlk hts hK hP hD hX ls hl
  have hl : lv_has ls 1 [(0, .int (ii mv))] := hl
  obtain ⟨hm1, hm2⟩ := id hm
  refine lv_iload_n hx hb dX1_isTold_0 rfl (lv_at hl 0 rfl) ?_
  refine li_iconst hx hb dX1_isTold_1 ?_
  refine lv_ldc (v := ii 69999) hx hb hown (hts _ q377) dX1_isTold_2 ?_
  refine kR (va_runS (As := [.int (ii mv), .int (ii 0), .int (ii 69999)]) (rest := []) ⟨hx, hb, hml, hown, hts⟩ (m_isIn l G ty ws mv 0 69999 hm ⟨by decide, by decide⟩ ⟨by decide, by decide⟩) (va_cwS 3 hts (lw_S q117 q118 q76 q119) rfl rfl rfl (by decide +kernel) ⟨Nat.le_of_ble_eq_true rfl, Nat.le_of_ble_eq_true rfl⟩) (psR hK hP hD hX) rfl rfl hl.1 rfl (lv_room (Nat.le_of_ble_eq_true rfl)) dX1_isTold_4 ⟨Nat.le_of_ble_eq_true rfl, Nat.le_of_ble_eq_true rfl⟩) (fun v hv => ?_)
  obtain ⟨z4, rfl, ⟨rfl, h4⟩ | ⟨rfl, h4⟩⟩ := hv
  · refine li_if_eq (tgt := 57) hx hb ⟨by decide, by decide⟩ dX1_isTold_7 (by decide) (fun c7 => ?_) (fun c7 => ?_)
    · exact absurd c7 (by decide)
    · refine lv_iload_n hx hb dX1_isTold_10 rfl (lv_at hl 0 rfl) ?_
      refine li_sipush hx hb dX1_isTold_11 (by decide) ?_
      refine li_div hx hb (by omega) (by omega) (by omega) (by omega) dX1_isTold_14 ?_
      refine li_bipush hx hb dX1_isTold_15 (by decide) ?_
      refine li_rem hx hb (by omega) (by omega) (by omega) (by omega) dX1_isTold_17 ?_
      refine li_bipush hx hb dX1_isTold_18 (by decide) ?_
      refine li_icmp_gt (tgt := 57) hx hb ⟨by omega, by omega⟩ ⟨by decide, by decide⟩ dX1_isTold_20 (by decide) (fun c20 => ?_) (fun c20 => ?_)
      · refine li_iconst hx hb dX1_isTold_57 ?_
        exact eRz hQ hx hb hr hlk dX1_isTold_58 (.inl rfl) (⟨_, rfl, .inr ⟨rfl, fun h => by obtain ⟨q1, q2, q3, q4, q5, q6⟩ := h; omega⟩⟩)
      · refine lv_iload_n hx hb dX1_isTold_23 rfl (lv_at hl 0 rfl) ?_
        refine li_bipush hx hb dX1_isTold_24 (by decide) ?_
        refine li_div hx hb (by omega) (by omega) (by omega) (by omega) dX1_isTold_26 ?_
        refine li_bipush hx hb dX1_isTold_27 (by decide) ?_
        refine li_rem hx hb (by omega) (by omega) (by omega) (by omega) dX1_isTold_29 ?_
        refine li_iconst hx hb dX1_isTold_30 ?_
        refine li_icmp_ge (tgt := 57) hx hb ⟨by omega, by omega⟩ ⟨by decide, by decide⟩ dX1_isTold_31 (by decide) (fun c31 => ?_) (fun c31 => ?_)
        · refine li_iconst hx hb dX1_isTold_57 ?_
          exact eRz hQ hx hb hr hlk dX1_isTold_58 (.inl rfl) (⟨_, rfl, .inr ⟨rfl, fun h => by obtain ⟨q1, q2, q3, q4, q5, q6⟩ := h; omega⟩⟩)
        · refine lv_iload_n hx hb dX1_isTold_34 rfl (lv_at hl 0 rfl) ?_
          refine li_bipush hx hb dX1_isTold_35 (by decide) ?_
          refine li_div hx hb (by omega) (by omega) (by omega) (by omega) dX1_isTold_37 ?_
          refine li_bipush hx hb dX1_isTold_38 (by decide) ?_
          refine li_rem hx hb (by omega) (by omega) (by omega) (by omega) dX1_isTold_40 ?_
          refine li_iconst hx hb dX1_isTold_41 ?_
          refine li_icmp_ge (tgt := 57) hx hb ⟨by omega, by omega⟩ ⟨by decide, by decide⟩ dX1_isTold_42 (by decide) (fun c42 => ?_) (fun c42 => ?_)
          · refine li_iconst hx hb dX1_isTold_57 ?_
            exact eRz hQ hx hb hr hlk dX1_isTold_58 (.inl rfl) (⟨_, rfl, .inr ⟨rfl, fun h => by obtain ⟨q1, q2, q3, q4, q5, q6⟩ := h; omega⟩⟩)
          · refine lv_iload_n hx hb dX1_isTold_45 rfl (lv_at hl 0 rfl) ?_
            refine li_bipush hx hb dX1_isTold_46 (by decide) ?_
            refine li_rem hx hb (by omega) (by omega) (by omega) (by omega) dX1_isTold_48 ?_
            refine li_iconst hx hb dX1_isTold_49 ?_
            refine li_icmp_ge (tgt := 57) hx hb ⟨by omega, by omega⟩ ⟨by decide, by decide⟩ dX1_isTold_50 (by decide) (fun c50 => ?_) (fun c50 => ?_)
            · refine li_iconst hx hb dX1_isTold_57 ?_
              exact eRz hQ hx hb hr hlk dX1_isTold_58 (.inl rfl) (⟨_, rfl, .inr ⟨rfl, fun h => by obtain ⟨q1, q2, q3, q4, q5, q6⟩ := h; omega⟩⟩)
            · refine li_iconst hx hb dX1_isTold_53 ?_
              refine lv_goto (tgt := 58) hx hb dX1_isTold_54 (by decide) ?_
              exact eRz hQ hx hb hr hlk dX1_isTold_58 (.inr rfl) (⟨_, rfl, .inl ⟨rfl, ⟨h4.1, h4.2, c20, c31, c42, c50⟩⟩⟩)
  · refine li_if_eq (tgt := 57) hx hb ⟨by decide, by decide⟩ dX1_isTold_7 (by decide) (fun c7 => ?_) (fun c7 => ?_)
    · refine li_iconst hx hb dX1_isTold_57 ?_
      exact eRz hQ hx hb hr hlk dX1_isTold_58 (.inl rfl) (⟨_, rfl, .inr ⟨rfl, fun h => by obtain ⟨q1, q2, q3, q4, q5, q6⟩ := h; omega⟩⟩)
    · exact absurd c7 (by decide)
set_option maxHeartbeats 4000000 in
theorem m_toldD (l : Launch) (G : va_G) (ad : Nat → Nat) (ty : Nat → ClassId) (hv : Nat → Option Nat) (σ ς κ : mem) (cs : va_W) (mv : Int) (hT : isT mv) : cM l yX1_told (ws_ yX1_told cX1_told 2 (some (.object "DownRope$Move"))) (rm4 1 0 0 24) G ty (wD ad ty hv σ ς κ ++ cs) [.ref (ad 0), .int (ii mv)] 0 0 (fun r W' => ∃ (κ' : mem) (k : Nat), r = some (.ref (ad (32 + k))) ∧ W' = wD ad ty hv σ ς κ' ++ cs ∧ k < 7 ∧ (k : Int) = mv / 10000 ∧ (∀ i : Nat, i < 20 → κ' i = κ i) ∧ moveAt (wD ad ty hv σ ς κ' ++ cs) (4 + k) (32 + k) (ad (32 + k)) (mv / 1000 % 10) (mv / 100 % 10) (mv / 10 % 10) (mv % 10)) := by
  refine cM.of (by decide) (Nat.le_of_ble_eq_true rfl) ?_
  intro p e s m args below meth c A Q H locs hQ hx hb hr hml hown hlk hname hts hK hP hD hS hA hX ls hl
  have hl : lv_has ls 2 [(0, .ref (ad 0)), (1, .int (ii mv))] := hl
  obtain ⟨ht1, ht2, ht3, ht4, ht5, ht6⟩ := id hT
  obtain ⟨k, hk⟩ : ∃ k : Nat, (k : Int) = mv / 10000 := ⟨(mv / 10000).toNat, by omega⟩
  have hk7 : k < 7 := by omega
  refine lv_aload_n hx hb dX1_told_0 rfl (lv_at hl 0 rfl) ?_
  refine va_get (D := G) (ci := 0) (v := .ref (ad 31)) (C := RX1) (T := TX1) (N := 21) hx hb hts in_X1 hown hK hP 0 (aD_0 _ _ _ _ _ _ _) rfl 4 (by decide) (hts _ q981) (fun _ h9 => h9) rfl dX1_told_1 ?_
  refine lv_iload_n hx hb dX1_told_4 rfl (lv_at hl 1 rfl) ?_
  refine li_sipush hx hb dX1_told_5 (by decide) ?_
  refine li_div hx hb (by omega) (by omega) (by omega) (by omega) dX1_told_8 ?_
  refine li_aald (q := ad (32 + k)) hx hb hK hP 31 5 (aD_31 _ _ _ _ _ _ _) rfl (by omega) (by omega) (by decide) (show ad (32 + (mv / 10000).toNat) = _ by rw [show (mv / 10000).toNat = k by omega]) dX1_told_9 ?_
  refine lv_iload_n hx hb dX1_told_10 rfl (lv_at hl 1 rfl) ?_
  refine li_sipush hx hb dX1_told_11 (by decide) ?_
  refine li_div hx hb (by omega) (by omega) (by omega) (by omega) dX1_told_14 ?_
  refine li_bipush hx hb dX1_told_15 (by decide) ?_
  refine li_rem hx hb (by omega) (by omega) (by omega) (by omega) dX1_told_17 ?_
  refine lv_iload_n hx hb dX1_told_18 rfl (lv_at hl 1 rfl) ?_
  refine li_bipush hx hb dX1_told_19 (by decide) ?_
  refine li_div hx hb (by omega) (by omega) (by omega) (by omega) dX1_told_21 ?_
  refine li_bipush hx hb dX1_told_22 (by decide) ?_
  refine li_rem hx hb (by omega) (by omega) (by omega) (by omega) dX1_told_24 ?_
  refine lv_iload_n hx hb dX1_told_25 rfl (lv_at hl 1 rfl) ?_
  refine li_bipush hx hb dX1_told_26 (by decide) ?_
  refine li_div hx hb (by omega) (by omega) (by omega) (by omega) dX1_told_28 ?_
  refine li_bipush hx hb dX1_told_29 (by decide) ?_
  refine li_rem hx hb (by omega) (by omega) (by omega) (by omega) dX1_told_31 ?_
  refine lv_iload_n hx hb dX1_told_32 rfl (lv_at hl 1 rfl) ?_
  refine li_bipush hx hb dX1_told_33 (by decide) ?_
  refine li_rem hx hb (by omega) (by omega) (by omega) (by omega) dX1_told_35 ?_
  refine v_tells (mi := 32 + k) (md := ad (32 + k)) (a1 := (mv / 1000) % 10) (a2 := (mv / 100) % 10) (a3 := (mv / 10) % 10) (a4 := mv % 10) hx hb hml hown hts hK hP hD hX k hk7 hS hA (aDk ad ty hv σ ς κ cs hk7) (Nat.le_of_ble_eq_true rfl) (Nat.le_of_ble_eq_true rfl) hl.1 (Nat.le_of_ble_eq_true rfl) ⟨Nat.le_of_ble_eq_true rfl, Nat.le_of_ble_eq_true rfl⟩ dX1_told_36 (fun H locs hP hD hS => ?_)
  rw [aDk_set ad ty hv σ ς κ cs hk7] at hP hD
  exact eMa hQ hx hb hr (.inl ⟨_, rfl⟩) (.inr ⟨_, rfl⟩) hlk hP hD hS (Nat.le_of_ble_eq_true rfl) (Nat.le_of_ble_eq_true rfl) dX1_told_39 (⟨_, k, rfl, rfl, hk7, hk, fun i hi => setk_lo κ k _ _ _ _ i hi, aDk_at ad ty hv σ ς κ cs hk7 _ _ _ _⟩)
set_option maxHeartbeats 4000000 in
theorem m_may (l : Launch) (G : va_G) (ad : Nat → Nat) (ty : Nat → ClassId) (hv : Nat → Option Nat) (σ ς κ : mem) (cs : va_W) (mv : Int) (hW : wfF σ) (hWS : wfS (σ 6) (σ 7)) (hlg : (0 < σ 9 0 → 0 ≤ σ 6 0 ∧ σ 6 0 < σ 8 0) ∧ (1 < σ 9 0 → 0 ≤ σ 6 1 ∧ σ 6 1 < σ 8 0) ∧ (2 < σ 9 0 → 0 ≤ σ 6 2 ∧ σ 6 2 < σ 8 0)) (hmv : rg mv) : cM l yX1_may (ws_ yX1_may cX1_may 2 (some .int)) (rm4 3 0 0 70) G ty (wD ad ty hv σ ς κ ++ cs) [.ref (ad 0), .int (ii mv)] 0 0 (fun r W' => ∃ (z : Int) (κ' : mem), r = some (.int (ii z)) ∧ W' = wD ad ty hv σ ς κ' ++ cs ∧ ((isT mv ∧ ((mvOk σ (σ 6) (σ 7) mv ∧ z = mvV σ mv) ∨ (¬ mvOk σ (σ 6) (σ 7) mv ∧ z = -3))) ∨ (¬ isT mv ∧ z = -1))) := by
  refine cM.of (by decide) (Nat.le_of_ble_eq_true rfl) ?_
  intro p e s m args below meth c A Q H locs hQ hx hb hr hml hown hlk hname hts hK hP hD hS hA hX ls hl
  have hl : lv_has ls 2 [(0, .ref (ad 0)), (1, .int (ii mv))] := hl
  obtain ⟨hw0, hw1, hw2, hw3, hw4, hw5, h8a, h8b, h9a, h9b, h10a, h10b⟩ := id hW
  obtain ⟨hs0, hs1⟩ := id hWS
  refine lv_iload_n hx hb dX1_may_0 rfl (lv_at hl 1 rfl) ?_
  refine kR (va_runS (As := [.int (ii mv)]) (rest := []) ⟨hx, hb, hml, hown, hts⟩ (m_isTold l G ty (wD ad ty hv σ ς κ ++ cs) mv hmv) (va_cwS 1 hts (lw_S q374 q375 q76 q376) rfl rfl rfl (by decide +kernel) ⟨Nat.le_of_ble_eq_true rfl, Nat.le_of_ble_eq_true rfl⟩) (psR hK hP hD hX) rfl rfl hl.1 rfl (lv_room (Nat.le_of_ble_eq_true rfl)) dX1_may_1 ⟨Nat.le_of_ble_eq_true rfl, Nat.le_of_ble_eq_true rfl⟩) (fun v hv => ?_)
  obtain ⟨z1, rfl, ⟨rfl, h1⟩ | ⟨rfl, h1⟩⟩ := hv
  · refine li_if_eq (tgt := 29) hx hb ⟨by decide, by decide⟩ dX1_may_4 (by decide) (fun c4 => ?_) (fun c4 => ?_)
    · exact absurd c4 (by decide)
    · refine lv_aload_n hx hb dX1_may_7 rfl (lv_at hl 0 rfl) ?_
      refine lv_iload_n hx hb dX1_may_8 rfl (lv_at hl 1 rfl) ?_
      refine kM (va_runV (As := [.int (ii mv)]) (rest := []) ⟨hx, hb, hml, hown, hts⟩ ((m_toldD l G ad ty hv σ ς κ cs mv h1) H.size) (cwV 1 hts (lw_V q378 q380 qs17 q76 q381) rfl rfl rfl (by decide +kernel) ⟨Nat.le_of_ble_eq_true rfl, Nat.le_of_ble_eq_true rfl⟩) (pvM (r := (RX1, TX1, 21)) hK hP hD hX 0 (aD_0 _ _ _ _ _ _ _) rfl) rfl rfl hl.1 rfl (lv_room (Nat.le_of_ble_eq_true rfl)) dX1_may_9 ⟨Nat.le_of_ble_eq_true rfl, Nat.le_of_ble_eq_true rfl⟩) hD hS hA (fun v ws1 H locs hv hP hD hS => ?_)
      obtain ⟨κ9, k9, rfl, rfl, hk9, he9, hc9, hM9⟩ := hv
      refine lv_aload_n hx hb dX1_may_12 rfl (lv_at hl 0 rfl) ?_
      refine va_get (D := G) (ci := 0) (v := .ref (ad 1)) (C := RX1) (T := TX1) (N := 21) hx hb hts in_X1 hown hK hP 0 (aD_0 _ _ _ _ _ _ _) rfl 0 (by decide) (hts _ q977) (fun _ h9 => h9) rfl dX1_may_13 ?_
      refine lv_aload_n hx hb dX1_may_16 rfl (lv_at hl 0 rfl) ?_
      refine va_get (D := G) (ci := 0) (v := .ref (ad 1)) (C := RX1) (T := TX1) (N := 21) hx hb hts in_X1 hown hK hP 0 (aD_0 _ _ _ _ _ _ _) rfl 0 (by decide) (hts _ q977) (fun _ h9 => h9) rfl dX1_may_17 ?_
      refine va_get (D := G) (ci := 1) (v := .ref (ad 8)) (C := RX2) (T := TX2) (N := 13) hx hb hts in_X2 hown hK hP 1 (aD_1 _ _ _ _ _ _ _) rfl 12 (by decide) (hts _ q810) (fun _ h9 => h9) rfl dX1_may_20 ?_
      refine v_minutes (fi := fun k => 1 + k) (fd := fun k => ad (1 + k)) (F := σ) (si := fun k => 8 + k) (sd := fun k => ad (8 + k)) (w := (σ 6)) (q := (σ 7)) (mi := 32 + k9) (md := ad (32 + k9)) (st := mv / 1000 % 10) (rp := mv / 100 % 10) (fr := mv / 10 % 10) (to := mv % 10) hx hb hml hown hts hK hP hD hX k9 hk9 ⟨rfl, rfl, rfl, rfl, rfl, rfl, rfl⟩ hW ⟨rfl, rfl, rfl⟩ hWS hM9 (isT_m h1) hlg (Nat.le_of_ble_eq_true rfl) (Nat.le_of_ble_eq_true rfl) hl.1 (Nat.le_of_ble_eq_true rfl) ⟨Nat.le_of_ble_eq_true rfl, Nat.le_of_ble_eq_true rfl⟩ dX1_may_23 (fun z23 hz23 => ?_)
      rw [he9] at hz23
      change (mvOk σ (σ 6) (σ 7) mv ∧ _ = mvV σ mv) ∨ (¬ mvOk σ (σ 6) (σ 7) mv ∧ _) at hz23
      refine lv_goto (tgt := 30) hx hb dX1_may_26 (by decide) ?_
      exact eMi hQ hx hb hr hlk hP hD hS (Nat.le_of_ble_eq_true rfl) (Nat.le_of_ble_eq_true rfl) dX1_may_30 (⟨_, _, rfl, rfl, .inl ⟨h1, hz23⟩⟩)
  · refine li_if_eq (tgt := 29) hx hb ⟨by decide, by decide⟩ dX1_may_4 (by decide) (fun c4 => ?_) (fun c4 => ?_)
    · refine li_iconst hx hb dX1_may_29 ?_
      exact eMi hQ hx hb hr hlk hP hD hS (Nat.le_of_ble_eq_true rfl) (Nat.le_of_ble_eq_true rfl) dX1_may_30 (⟨_, _, rfl, rfl, .inr ⟨h1, rfl⟩⟩)
    · exact absurd c4 (by decide)
set_option maxHeartbeats 4000000 in
theorem m_behind (l : Launch) (G : va_G) (ad : Nat → Nat) (ty : Nat → ClassId) (hv : Nat → Option Nat) (σ ς κ : mem) (cs : va_W) (mv : Int) (hT : isT mv) : cM l yX1_behind (ws_ yX1_behind cX1_behind 3 (some .int)) (rm4 4 0 0 85) G ty (wD ad ty hv σ ς κ ++ cs) [.ref (ad 0), .ref (ad 48), .int (ii mv)] 0 0 (fun r W' => ∃ (κ' : mem), r = some (.int (ii (nxS mv (ς 11) (ς 12)))) ∧ W' = wD ad ty hv σ ς κ' ++ cs) := by
  refine cM.of (by decide) (Nat.le_of_ble_eq_true rfl) ?_
  intro p e s m args below meth c A Q H locs hQ hx hb hr hml hown hlk hname hts hK hP hD hS hA hX ls hl
  have hl : lv_has ls 3 [(0, .ref (ad 0)), (1, .ref (ad 48)), (2, .int (ii mv))] := hl
  refine lv_aload_n hx hb dX1_behind_0 rfl (lv_at hl 0 rfl) ?_
  refine va_get (D := G) (ci := 0) (v := .ref (ad 51)) (C := RX1) (T := TX1) (N := 21) hx hb hts in_X1 hown hK hP 0 (aD_0 _ _ _ _ _ _ _) rfl 16 (by decide) (hts _ q993) (fun _ h9 => h9) rfl dX1_behind_1 ?_
  refine lv_aload_n hx hb dX1_behind_4 rfl (lv_at hl 1 rfl) ?_
  refine kM (va_runV (As := [.ref (ad 48)]) (rest := []) ⟨hx, hb, hml, hown, hts⟩ (m_takesS l G ty (wD ad ty hv σ ς κ ++ cs) (fun k => 51 + k) (fun k => ad (51 + k)) (κ 13) (κ 14) (fun k => 48 + k) (fun k => ad (48 + k)) (ς 11) (ς 12) ⟨rfl, rfl, rfl⟩ ⟨rfl, rfl, rfl⟩ (by decide) (by decide) (by decide) (by decide) (by decide) (by decide) (by decide) (by decide) (by decide) (by decide) H.size) (cwV 1 hts (lw_V q608 q134 q135 q78 q136) rfl rfl rfl (by decide +kernel) ⟨Nat.le_of_ble_eq_true rfl, Nat.le_of_ble_eq_true rfl⟩) (pvM (r := (RX3, TX3, 2)) hK hP hD hX 51 (aD_51 _ _ _ _ _ _ _) rfl) rfl rfl hl.1 rfl (lv_room (Nat.le_of_ble_eq_true rfl)) dX1_behind_5 ⟨Nat.le_of_ble_eq_true rfl, Nat.le_of_ble_eq_true rfl⟩) hD hS hA (fun v ws1 H locs hv hP hD hS => ?_)
  obtain ⟨rfl, rfl⟩ := hv
  have hP : va_P G gcl (wD ad ty hv σ ς (up (up κ 13 (cp (ς 11) (κ 13) 3)) 14 (cp (ς 12) (κ 14) 2)) ++ cs) H := hP
  have hD : va_D A (wD ad ty hv σ ς (up (up κ 13 (cp (ς 11) (κ 13) 3)) 14 (cp (ς 12) (κ 14) 2)) ++ cs) := hD
  refine lv_aload_n hx hb dX1_behind_8 rfl (lv_at hl 0 rfl) ?_
  refine lv_iload_n hx hb dX1_behind_9 rfl (lv_at hl 2 rfl) ?_
  refine kM (va_runV (As := [.int (ii mv)]) (rest := []) ⟨hx, hb, hml, hown, hts⟩ ((m_toldD l G ad ty hv σ ς (up (up κ 13 (cp (ς 11) (κ 13) 3)) 14 (cp (ς 12) (κ 14) 2)) cs mv hT) H.size) (cwV 1 hts (lw_V q378 q380 qs17 q76 q381) rfl rfl rfl (by decide +kernel) ⟨Nat.le_of_ble_eq_true rfl, Nat.le_of_ble_eq_true rfl⟩) (pvM (r := (RX1, TX1, 21)) hK hP hD hX 0 (aD_0 _ _ _ _ _ _ _) rfl) rfl rfl hl.1 rfl (lv_room (Nat.le_of_ble_eq_true rfl)) dX1_behind_10 ⟨Nat.le_of_ble_eq_true rfl, Nat.le_of_ble_eq_true rfl⟩) hD hS hA (fun v ws1 H locs hv hP hD hS => ?_)
  obtain ⟨κ10, k10, rfl, rfl, hk10, he10, hc10, hM10⟩ := hv
  refine lv_aload_n hx hb dX1_behind_13 rfl (lv_at hl 0 rfl) ?_
  refine va_get (D := G) (ci := 0) (v := .ref (ad 51)) (C := RX1) (T := TX1) (N := 21) hx hb hts in_X1 hown hK hP 0 (aD_0 _ _ _ _ _ _ _) rfl 16 (by decide) (hts _ q993) (fun _ h9 => h9) rfl dX1_behind_14 ?_
  refine v_does (ws := wD ad ty hv σ ς κ10 ++ cs) (si := fun k => 51 + k) (sd := fun k => ad (51 + k)) (w := (κ10 13)) (q := (κ10 14)) (mi := 32 + k10) (md := ad (32 + k10)) (st := mv / 1000 % 10) (rp := mv / 100 % 10) (fr := mv / 10 % 10) (to := mv % 10) hx hb hml hown hts hK hP hD hX k10 hk10 hS hA ⟨rfl, rfl, rfl⟩ hM10 (isT_m hT) (by decide) (by decide) (by omega) (by decide) (by decide) (by omega) (Nat.le_of_ble_eq_true rfl) (Nat.le_of_ble_eq_true rfl) hl.1 (Nat.le_of_ble_eq_true rfl) ⟨Nat.le_of_ble_eq_true rfl, Nat.le_of_ble_eq_true rfl⟩ dX1_behind_17 (fun H locs hP hD hS => ?_)
  rw [he10] at hP hD
  have hP : va_P G gcl (wD ad ty hv σ ς (up (up κ10 13 (mvw (mv / 1000 % 10) (mv % 10) (κ10 13))) 14 (mvq (mv / 10000) (mv / 100 % 10) (mv % 10) (κ10 14))) ++ cs) H := hP
  have hD : va_D A (wD ad ty hv σ ς (up (up κ10 13 (mvw (mv / 1000 % 10) (mv % 10) (κ10 13))) 14 (mvq (mv / 10000) (mv / 100 % 10) (mv % 10) (κ10 14))) ++ cs) := hD
  refine lv_aload_n hx hb dX1_behind_20 rfl (lv_at hl 0 rfl) ?_
  refine va_get (D := G) (ci := 0) (v := .ref (ad 51)) (C := RX1) (T := TX1) (N := 21) hx hb hts in_X1 hown hK hP 0 (aD_0 _ _ _ _ _ _ _) rfl 16 (by decide) (hts _ q993) (fun _ h9 => h9) rfl dX1_behind_21 ?_
  refine kR (va_runV (As := []) (rest := []) ⟨hx, hb, hml, hown, hts⟩ (m_code l G ty (wD ad ty hv σ ς (up (up κ10 13 (mvw (mv / 1000 % 10) (mv % 10) (κ10 13))) 14 (mvq (mv / 10000) (mv / 100 % 10) (mv % 10) (κ10 14))) ++ cs) (fun k => 51 + k) (fun k => ad (51 + k)) (mvw (mv / 1000 % 10) (mv % 10) (κ10 13)) (mvq (mv / 10000) (mv / 100 % 10) (mv % 10) (κ10 14)) ⟨rfl, rfl, rfl⟩) (cwV 0 hts (lw_V q618 q619 q620 q78 q621) rfl rfl rfl (by decide +kernel) ⟨Nat.le_of_ble_eq_true rfl, Nat.le_of_ble_eq_true rfl⟩) (pvR (r := (RX3, TX3, 2)) hK hP hD hX 51 (aD_51 _ _ _ _ _ _ _) rfl) rfl rfl hl.1 rfl (lv_room (Nat.le_of_ble_eq_true rfl)) dX1_behind_24 ⟨Nat.le_of_ble_eq_true rfl, Nat.le_of_ble_eq_true rfl⟩) (fun v hv => ?_)
  obtain ⟨z24, rfl, h24⟩ := hv
  exact eMi hQ hx hb hr hlk hP hD hS (Nat.le_of_ble_eq_true rfl) (Nat.le_of_ble_eq_true rfl) dX1_behind_27 (⟨_, by rw [h24, hc10 13 (by decide), hc10 14 (by decide)]; exact congrArg (fun x => some (Value.int (ii x))) (nxS_cp mv _ _ _ _), rfl⟩)
set_option maxHeartbeats 4000000 in
theorem m_caught (l : Launch) (G : va_G) (ad : Nat → Nat) (ty : Nat → ClassId) (hv : Nat → Option Nat) (σ ς κ : mem) (cs : va_W) (mv : Int) (hT : isT mv) : cM l yX1_caughtBehind (ws_ yX1_caughtBehind cX1_caughtBehind 3 (some .int)) (rm4 4 0 0 85) G ty (wD ad ty hv σ ς κ ++ cs) [.ref (ad 0), .ref (ad 48), .int (ii mv)] 0 0 (fun r W' => ∃ (κ' : mem), r = some (.int (ii (nxC mv (ς 11)))) ∧ W' = wD ad ty hv σ ς κ' ++ cs) := by
  refine cM.of (by decide) (Nat.le_of_ble_eq_true rfl) ?_
  intro p e s m args below meth c A Q H locs hQ hx hb hr hml hown hlk hname hts hK hP hD hS hA hX ls hl
  have hl : lv_has ls 3 [(0, .ref (ad 0)), (1, .ref (ad 48)), (2, .int (ii mv))] := hl
  refine lv_aload_n hx hb dX1_caughtBehind_0 rfl (lv_at hl 0 rfl) ?_
  refine va_get (D := G) (ci := 0) (v := .ref (ad 51)) (C := RX1) (T := TX1) (N := 21) hx hb hts in_X1 hown hK hP 0 (aD_0 _ _ _ _ _ _ _) rfl 16 (by decide) (hts _ q993) (fun _ h9 => h9) rfl dX1_caughtBehind_1 ?_
  refine lv_aload_n hx hb dX1_caughtBehind_4 rfl (lv_at hl 1 rfl) ?_
  refine kM (va_runV (As := [.ref (ad 48)]) (rest := []) ⟨hx, hb, hml, hown, hts⟩ (m_takesS l G ty (wD ad ty hv σ ς κ ++ cs) (fun k => 51 + k) (fun k => ad (51 + k)) (κ 13) (κ 14) (fun k => 48 + k) (fun k => ad (48 + k)) (ς 11) (ς 12) ⟨rfl, rfl, rfl⟩ ⟨rfl, rfl, rfl⟩ (by decide) (by decide) (by decide) (by decide) (by decide) (by decide) (by decide) (by decide) (by decide) (by decide) H.size) (cwV 1 hts (lw_V q608 q134 q135 q78 q136) rfl rfl rfl (by decide +kernel) ⟨Nat.le_of_ble_eq_true rfl, Nat.le_of_ble_eq_true rfl⟩) (pvM (r := (RX3, TX3, 2)) hK hP hD hX 51 (aD_51 _ _ _ _ _ _ _) rfl) rfl rfl hl.1 rfl (lv_room (Nat.le_of_ble_eq_true rfl)) dX1_caughtBehind_5 ⟨Nat.le_of_ble_eq_true rfl, Nat.le_of_ble_eq_true rfl⟩) hD hS hA (fun v ws1 H locs hv hP hD hS => ?_)
  obtain ⟨rfl, rfl⟩ := hv
  have hP : va_P G gcl (wD ad ty hv σ ς (up (up κ 13 (cp (ς 11) (κ 13) 3)) 14 (cp (ς 12) (κ 14) 2)) ++ cs) H := hP
  have hD : va_D A (wD ad ty hv σ ς (up (up κ 13 (cp (ς 11) (κ 13) 3)) 14 (cp (ς 12) (κ 14) 2)) ++ cs) := hD
  refine lv_aload_n hx hb dX1_caughtBehind_8 rfl (lv_at hl 0 rfl) ?_
  refine lv_iload_n hx hb dX1_caughtBehind_9 rfl (lv_at hl 2 rfl) ?_
  refine kM (va_runV (As := [.int (ii mv)]) (rest := []) ⟨hx, hb, hml, hown, hts⟩ ((m_toldD l G ad ty hv σ ς (up (up κ 13 (cp (ς 11) (κ 13) 3)) 14 (cp (ς 12) (κ 14) 2)) cs mv hT) H.size) (cwV 1 hts (lw_V q378 q380 qs17 q76 q381) rfl rfl rfl (by decide +kernel) ⟨Nat.le_of_ble_eq_true rfl, Nat.le_of_ble_eq_true rfl⟩) (pvM (r := (RX1, TX1, 21)) hK hP hD hX 0 (aD_0 _ _ _ _ _ _ _) rfl) rfl rfl hl.1 rfl (lv_room (Nat.le_of_ble_eq_true rfl)) dX1_caughtBehind_10 ⟨Nat.le_of_ble_eq_true rfl, Nat.le_of_ble_eq_true rfl⟩) hD hS hA (fun v ws1 H locs hv hP hD hS => ?_)
  obtain ⟨κ10, k10, rfl, rfl, hk10, he10, hc10, hM10⟩ := hv
  refine lv_aload_n hx hb dX1_caughtBehind_13 rfl (lv_at hl 0 rfl) ?_
  refine va_get (D := G) (ci := 0) (v := .ref (ad 51)) (C := RX1) (T := TX1) (N := 21) hx hb hts in_X1 hown hK hP 0 (aD_0 _ _ _ _ _ _ _) rfl 16 (by decide) (hts _ q993) (fun _ h9 => h9) rfl dX1_caughtBehind_14 ?_
  refine v_does (ws := wD ad ty hv σ ς κ10 ++ cs) (si := fun k => 51 + k) (sd := fun k => ad (51 + k)) (w := (κ10 13)) (q := (κ10 14)) (mi := 32 + k10) (md := ad (32 + k10)) (st := mv / 1000 % 10) (rp := mv / 100 % 10) (fr := mv / 10 % 10) (to := mv % 10) hx hb hml hown hts hK hP hD hX k10 hk10 hS hA ⟨rfl, rfl, rfl⟩ hM10 (isT_m hT) (by decide) (by decide) (by omega) (by decide) (by decide) (by omega) (Nat.le_of_ble_eq_true rfl) (Nat.le_of_ble_eq_true rfl) hl.1 (Nat.le_of_ble_eq_true rfl) ⟨Nat.le_of_ble_eq_true rfl, Nat.le_of_ble_eq_true rfl⟩ dX1_caughtBehind_17 (fun H locs hP hD hS => ?_)
  rw [he10] at hP hD
  have hP : va_P G gcl (wD ad ty hv σ ς (up (up κ10 13 (mvw (mv / 1000 % 10) (mv % 10) (κ10 13))) 14 (mvq (mv / 10000) (mv / 100 % 10) (mv % 10) (κ10 14))) ++ cs) H := hP
  have hD : va_D A (wD ad ty hv σ ς (up (up κ10 13 (mvw (mv / 1000 % 10) (mv % 10) (κ10 13))) 14 (mvq (mv / 10000) (mv / 100 % 10) (mv % 10) (κ10 14))) ++ cs) := hD
  refine lv_aload_n hx hb dX1_caughtBehind_20 rfl (lv_at hl 0 rfl) ?_
  refine va_get (D := G) (ci := 0) (v := .ref (ad 51)) (C := RX1) (T := TX1) (N := 21) hx hb hts in_X1 hown hK hP 0 (aD_0 _ _ _ _ _ _ _) rfl 16 (by decide) (hts _ q993) (fun _ h9 => h9) rfl dX1_caughtBehind_21 ?_
  refine va_get (D := G) (ci := 2) (v := .ref (ad 53)) (C := RX3) (T := TX3) (N := 2) hx hb hts in_X3 hown hK hP 51 (aD_51 _ _ _ _ _ _ _) rfl 1 (by decide) (hts _ q664) (fun _ h9 => h9) rfl dX1_caughtBehind_24 ?_
  refine li_iconst hx hb dX1_caughtBehind_27 ?_
  refine li_iconst hx hb dX1_caughtBehind_28 ?_
  refine li_iast (g := (mvq (mv / 10000) (mv / 100 % 10) (mv % 10) (κ10 14))) (W2 := wD ad ty hv σ ς (up (up κ10 13 (mvw (mv / 1000 % 10) (mv % 10) (κ10 13))) 14 (ug (mvq (mv / 10000) (mv / 100 % 10) (mv % 10) (κ10 14)) 0 5)) ++ cs) hx hb hK hP hD hS 53 0 (aD_53 _ _ _ _ _ _ _) rfl (by decide) (by decide) (by decide) rfl dX1_caughtBehind_29 (fun H locs hP hD hS => ?_)
  refine lv_aload_n hx hb dX1_caughtBehind_30 rfl (lv_at hl 0 rfl) ?_
  refine va_get (D := G) (ci := 0) (v := .ref (ad 51)) (C := RX1) (T := TX1) (N := 21) hx hb hts in_X1 hown hK hP 0 (aD_0 _ _ _ _ _ _ _) rfl 16 (by decide) (hts _ q993) (fun _ h9 => h9) rfl dX1_caughtBehind_31 ?_
  refine va_get (D := G) (ci := 2) (v := .ref (ad 53)) (C := RX3) (T := TX3) (N := 2) hx hb hts in_X3 hown hK hP 51 (aD_51 _ _ _ _ _ _ _) rfl 1 (by decide) (hts _ q664) (fun _ h9 => h9) rfl dX1_caughtBehind_34 ?_
  refine li_iconst hx hb dX1_caughtBehind_37 ?_
  refine li_iconst hx hb dX1_caughtBehind_38 ?_
  refine li_iast (g := (ug (mvq (mv / 10000) (mv / 100 % 10) (mv % 10) (κ10 14)) 0 5)) (W2 := wD ad ty hv σ ς (up (up κ10 13 (mvw (mv / 1000 % 10) (mv % 10) (κ10 13))) 14 (ug (ug (mvq (mv / 10000) (mv / 100 % 10) (mv % 10) (κ10 14)) 0 5) 1 5)) ++ cs) hx hb hK hP hD hS 53 0 (aD_53 _ _ _ _ _ _ _) rfl (by decide) (by decide) (by decide) rfl dX1_caughtBehind_39 (fun H locs hP hD hS => ?_)
  refine lv_aload_n hx hb dX1_caughtBehind_40 rfl (lv_at hl 0 rfl) ?_
  refine va_get (D := G) (ci := 0) (v := .ref (ad 51)) (C := RX1) (T := TX1) (N := 21) hx hb hts in_X1 hown hK hP 0 (aD_0 _ _ _ _ _ _ _) rfl 16 (by decide) (hts _ q993) (fun _ h9 => h9) rfl dX1_caughtBehind_41 ?_
  refine kR (va_runV (As := []) (rest := []) ⟨hx, hb, hml, hown, hts⟩ (m_code l G ty (wD ad ty hv σ ς (up (up κ10 13 (mvw (mv / 1000 % 10) (mv % 10) (κ10 13))) 14 (ug (ug (mvq (mv / 10000) (mv / 100 % 10) (mv % 10) (κ10 14)) 0 5) 1 5)) ++ cs) (fun k => 51 + k) (fun k => ad (51 + k)) (mvw (mv / 1000 % 10) (mv % 10) (κ10 13)) (ug (ug (mvq (mv / 10000) (mv / 100 % 10) (mv % 10) (κ10 14)) 0 5) 1 5) ⟨rfl, rfl, rfl⟩) (cwV 0 hts (lw_V q618 q619 q620 q78 q621) rfl rfl rfl (by decide +kernel) ⟨Nat.le_of_ble_eq_true rfl, Nat.le_of_ble_eq_true rfl⟩) (pvR (r := (RX3, TX3, 2)) hK hP hD hX 51 (aD_51 _ _ _ _ _ _ _) rfl) rfl rfl hl.1 rfl (lv_room (Nat.le_of_ble_eq_true rfl)) dX1_caughtBehind_44 ⟨Nat.le_of_ble_eq_true rfl, Nat.le_of_ble_eq_true rfl⟩) (fun v hv => ?_)
  obtain ⟨z44, rfl, h44⟩ := hv
  exact eMi hQ hx hb hr hlk hP hD hS (Nat.le_of_ble_eq_true rfl) (Nat.le_of_ble_eq_true rfl) dX1_caughtBehind_47 (⟨_, by rw [h44, hc10 13 (by decide)]; exact congrArg (fun x => some (Value.int (ii x))) (nxC_cp mv _ _ _), rfl⟩)
