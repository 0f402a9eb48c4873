/-! element, judge on the model's side (written by gen/s5.py) -/
set_option maxRecDepth 100000
set_option maxHeartbeats 4000000 in
theorem m_elementM (l : Launch) (G : va_G) (am : Nat → Nat) (ty : Nat → ClassId) (τ ρ : mem) (cs : va_W) (d1 i1 : Int) (hd1 : rg d1) (hi1 : rg i1) (hh : ∀ i, 0 ≤ τ 46 i ∧ τ 46 i ≤ 2) (hrm : ∀ i, 0 ≤ τ 49 i ∧ τ 49 i ≤ 100) : cM l yX12_element (ws_ yX12_element cX12_element 4 (some .long)) (rm4 2 0 0 46) G ty (wM am ty τ ρ ++ cs) [.ref (am 0), .int (ii d1), .int (ii i1)] 0 0 (fun r W' => ∃ (z k : Int), r = some (.long (ll z)) ∧ W' = wM am ty τ (up ρ 14 (sc k)) ++ cs ∧ ((wrR (τ 46) d1 = -1 ∧ k = 1) ∨ (wrR (τ 46) d1 < -1 ∧ k = 2) ∨ (wrR (τ 46) d1 = 0 ∧ ¬ (0 ≤ i1 ∧ i1 < τ 49 d1) ∧ k = 2) ∨ (wrR (τ 46) d1 = 0 ∧ (0 ≤ i1 ∧ i1 < τ 49 d1) ∧ k = 0 ∧ z = τ 50 (100 * d1 + i1)))) := by
  refine cM.of (by decide) (Nat.le_of_ble_eq_true rfl) ?_
  intro p e s m args below meth c A Q H locs hQ hx hb hr hml hown hlk hname hts hK hP hD hS hA hX ls hl
  have hl : lv_has ls 4 [(0, .ref (am 0)), (1, .int (ii d1)), (2, .int (ii i1))] := hl
  obtain ⟨hd1a, hd1b⟩ := id hd1
  obtain ⟨hi1a, hi1b⟩ := id hi1
  refine lv_aload_n hx hb dX12_element_0 rfl (lv_at hl 0 rfl) ?_
  refine lv_iload_n hx hb dX12_element_1 rfl (lv_at hl 1 rfl) ?_
  refine kR (va_runV (As := [.int (ii d1)]) (rest := []) ⟨hx, hb, hml, hown, hts⟩ (m_wrongRowM l G am ty τ ρ cs d1 (show rg d1 from hd1) (show ∀ i, 0 ≤ (τ 46) i ∧ (τ 46) i ≤ 2 from hh)) (cwV 1 hts (lw_V q1431 q1433 qs37 q87 q1434) rfl rfl rfl (by decide +kernel) ⟨Nat.le_of_ble_eq_true rfl, Nat.le_of_ble_eq_true rfl⟩) (pvR (r := (RX12, TX12, 52)) hK hP hD hX 0 (aM_0 _ _ _ _ _) rfl) rfl rfl hl.1 rfl (lv_room (Nat.le_of_ble_eq_true rfl)) dX12_element_2 ⟨Nat.le_of_ble_eq_true rfl, Nat.le_of_ble_eq_true rfl⟩) (fun v hv => ?_)
  obtain ⟨rfl, hz2⟩ := hv
  have hz2 : -12 ≤ wrR (τ 46) d1 ∧ wrR (τ 46) d1 ≤ 0 := hz2
  refine li_top (b := (wrR (τ 46) d1)) rfl ?_
  refine lv_istore_n (lv' := [(3, .int (ii (wrR (τ 46) d1))), (0, .ref (am 0)), (1, .int (ii d1)), (2, .int (ii i1))]) hx hb dX12_element_5 rfl hl (by decide) rfl (fun ls hl => ?_)
  refine lv_aload_n hx hb dX12_element_6 rfl (lv_at hl 1 rfl) ?_
  refine lv_iload_n hx hb dX12_element_7 rfl (lv_at hl 0 rfl) ?_
  refine li_iconst hx hb dX12_element_8 ?_
  refine li_icmp_ne (tgt := 16) hx hb ⟨Int.le_trans (by decide) hz2.1, Int.le_trans hz2.2 (by decide)⟩ ⟨by decide, by decide⟩ dX12_element_9 (by decide) (fun c9 => ?_) (fun c9 => ?_)
  · refine lv_iload_n hx hb dX12_element_16 rfl (lv_at hl 0 rfl) ?_
    refine li_if_lt (tgt := 38) hx hb ⟨Int.le_trans (by decide) hz2.1, Int.le_trans hz2.2 (by decide)⟩ dX12_element_17 (by decide) (fun c17 => ?_) (fun c17 => ?_)
    · refine li_iconst hx hb dX12_element_38 ?_
      refine lv_goto (tgt := 43) hx hb dX12_element_39 (by decide) ?_
      refine va_put (D := G) (ci := 11) (v := .int (ii 2)) (ty := .int) (C := RX12) (T := TX12) (N := 52) hx hb hts in_X12 tyX12 tyX12_ok nmX12 hown hK hP hD hS 0 (aM_0 _ _ _ _ _) rfl 14 (by decide) (hts _ q1279) (fun _ h9 => h9) rfl (tyX12_ok 14 (by decide)) rfl rfl (Nat.le_of_ble_eq_true rfl) dX12_element_43 (fun H locs hP hD hS => ?_)
      have hP : va_P G gcl (wM am ty τ (up ρ 14 (sc (2))) ++ cs) H := hP
      have hD : va_D A (wM am ty τ (up ρ 14 (sc (2))) ++ cs) := hD
      refine lv_aload_n hx hb dX12_element_46 rfl (lv_at hl 1 rfl) ?_
      refine va_get (D := G) (ci := 11) (v := .int (ii 2)) (C := RX12) (T := TX12) (N := 52) hx hb hts in_X12 hown hK hP 0 (aM_0 _ _ _ _ _) rfl 14 (by decide) (hts _ q1279) (fun _ h9 => h9) rfl dX12_element_47 ?_
      refine li_if_le (tgt := 57) hx hb ⟨by decide, by decide⟩ dX12_element_50 (by decide) (fun c50 => ?_) (fun c50 => ?_)
      · exact absurd c50 (by decide)
      · refine lv_lconst (v := ll 0) hx hb dX12_element_53 (by decide) ?_
        refine lv_goto (tgt := 68) hx hb dX12_element_54 (by decide) ?_
        exact eMl hQ hx hb hr hlk hP hD hS (Nat.le_of_ble_eq_true rfl) (Nat.le_of_ble_eq_true rfl) dX12_element_68 (⟨_, _, rfl, rfl, .inr (.inl ⟨by omega, rfl⟩)⟩)
    · have hw0 := wrR_0 c17
      have hwz : wrR (τ 46) d1 = 0 := by omega
      have hmd := hrm d1
      refine lv_iload_n hx hb dX12_element_20 rfl (lv_at hl 3 rfl) ?_
      refine lv_i2l (v := ll i1) hx hb dX12_element_21 (ll_i hi1) ?_
      refine lv_lconst (v := ll 0) hx hb dX12_element_22 (by decide) ?_
      refine lv_aload_n hx hb dX12_element_23 rfl (lv_at hl 1 rfl) ?_
      refine va_get (D := G) (ci := 11) (v := .ref (am 31)) (C := RX12) (T := TX12) (N := 52) hx hb hts in_X12 hown hK hP 0 (aM_0 _ _ _ _ _) rfl 49 (by decide) (hts _ q1314) (fun _ h9 => h9) rfl dX12_element_24 ?_
      refine lv_iload_n hx hb dX12_element_27 rfl (lv_at hl 2 rfl) ?_
      refine li_iald (g := (τ 49)) hx hb hK hP 31 0 (aM_31 _ _ _ _ _) rfl (by omega) (by omega) (by decide) dX12_element_28 ?_
      have r29 := hrm d1
      refine li_iconst hx hb dX12_element_29 ?_
      refine li_sub hx hb dX12_element_30 ?_
      refine lv_i2l (v := ll (τ 49 d1 - 1)) hx hb dX12_element_31 (ll_i ⟨by omega, by omega⟩) ?_
      refine kR (va_runS (As := [.long (ll (i1)), .long (ll (0)), .long (ll (τ 49 d1 - 1))]) (rest := [.ref (am 0)]) ⟨hx, hb, hml, hown, hts⟩ (m_inM l G ty (wM am ty τ ρ ++ cs) i1 0 (τ 49 d1 - 1) (rg_rl hi1) ⟨by decide, by decide⟩ ⟨by omega, by omega⟩) (va_cwS 3 hts (lw_S q1436 q1437 q87 q1438) rfl rfl rfl (by decide +kernel) ⟨Nat.le_of_ble_eq_true rfl, Nat.le_of_ble_eq_true rfl⟩) (psR hK hP hD hX) rfl rfl hl.1 rfl (lv_room (Nat.le_of_ble_eq_true rfl)) dX12_element_32 ⟨Nat.le_of_ble_eq_true rfl, Nat.le_of_ble_eq_true rfl⟩) (fun v hv => ?_)
      obtain ⟨z32, rfl, ⟨rfl, h32⟩ | ⟨rfl, h32⟩⟩ := hv
      · refine li_if_ne (tgt := 42) hx hb ⟨by decide, by decide⟩ dX12_element_35 (by decide) (fun c35 => ?_) (fun c35 => ?_)
        · refine li_iconst hx hb dX12_element_42 ?_
          refine va_put (D := G) (ci := 11) (v := .int (ii 0)) (ty := .int) (C := RX12) (T := TX12) (N := 52) hx hb hts in_X12 tyX12 tyX12_ok nmX12 hown hK hP hD hS 0 (aM_0 _ _ _ _ _) rfl 14 (by decide) (hts _ q1279) (fun _ h9 => h9) rfl (tyX12_ok 14 (by decide)) rfl rfl (Nat.le_of_ble_eq_true rfl) dX12_element_43 (fun H locs hP hD hS => ?_)
          have hP : va_P G gcl (wM am ty τ (up ρ 14 (sc (0))) ++ cs) H := hP
          have hD : va_D A (wM am ty τ (up ρ 14 (sc (0))) ++ cs) := hD
          refine lv_aload_n hx hb dX12_element_46 rfl (lv_at hl 1 rfl) ?_
          refine va_get (D := G) (ci := 11) (v := .int (ii 0)) (C := RX12) (T := TX12) (N := 52) hx hb hts in_X12 hown hK hP 0 (aM_0 _ _ _ _ _) rfl 14 (by decide) (hts _ q1279) (fun _ h9 => h9) rfl dX12_element_47 ?_
          refine li_if_le (tgt := 57) hx hb ⟨by decide, by decide⟩ dX12_element_50 (by decide) (fun c50 => ?_) (fun c50 => ?_)
          · refine lv_aload_n hx hb dX12_element_57 rfl (lv_at hl 1 rfl) ?_
            refine va_get (D := G) (ci := 11) (v := .ref (am 32)) (C := RX12) (T := TX12) (N := 52) hx hb hts in_X12 hown hK hP 0 (aM_0 _ _ _ _ _) rfl 50 (by decide) (hts _ q1315) (fun _ h9 => h9) rfl dX12_element_58 ?_
            refine li_bipush hx hb dX12_element_61 (by decide) ?_
            refine lv_iload_n hx hb dX12_element_63 rfl (lv_at hl 2 rfl) ?_
            refine li_mul hx hb dX12_element_64 ?_
            refine lv_iload_n hx hb dX12_element_65 rfl (lv_at hl 3 rfl) ?_
            refine li_add hx hb dX12_element_66 ?_
            refine li_lald (g := (τ 50)) hx hb hK hP 32 4 (aM_32 _ _ _ _ _) rfl (by omega) (by omega) (by decide) dX12_element_67 ?_
            exact eMl hQ hx hb hr hlk hP hD hS (Nat.le_of_ble_eq_true rfl) (Nat.le_of_ble_eq_true rfl) dX12_element_68 (⟨_, _, rfl, rfl, .inr (.inr (.inr ⟨hwz, by omega, rfl, rfl⟩))⟩)
          · exact absurd c50 (by decide)
        · exact absurd c35 (by decide)
      · refine li_if_ne (tgt := 42) hx hb ⟨by decide, by decide⟩ dX12_element_35 (by decide) (fun c35 => ?_) (fun c35 => ?_)
        · exact absurd c35 (by decide)
        · refine li_iconst hx hb dX12_element_38 ?_
          refine lv_goto (tgt := 43) hx hb dX12_element_39 (by decide) ?_
          refine va_put (D := G) (ci := 11) (v := .int (ii 2)) (ty := .int) (C := RX12) (T := TX12) (N := 52) hx hb hts in_X12 tyX12 tyX12_ok nmX12 hown hK hP hD hS 0 (aM_0 _ _ _ _ _) rfl 14 (by decide) (hts _ q1279) (fun _ h9 => h9) rfl (tyX12_ok 14 (by decide)) rfl rfl (Nat.le_of_ble_eq_true rfl) dX12_element_43 (fun H locs hP hD hS => ?_)
          have hP : va_P G gcl (wM am ty τ (up ρ 14 (sc (2))) ++ cs) H := hP
          have hD : va_D A (wM am ty τ (up ρ 14 (sc (2))) ++ cs) := hD
          refine lv_aload_n hx hb dX12_element_46 rfl (lv_at hl 1 rfl) ?_
          refine va_get (D := G) (ci := 11) (v := .int (ii 2)) (C := RX12) (T := TX12) (N := 52) hx hb hts in_X12 hown hK hP 0 (aM_0 _ _ _ _ _) rfl 14 (by decide) (hts _ q1279) (fun _ h9 => h9) rfl dX12_element_47 ?_
          refine li_if_le (tgt := 57) hx hb ⟨by decide, by decide⟩ dX12_element_50 (by decide) (fun c50 => ?_) (fun c50 => ?_)
          · exact absurd c50 (by decide)
          · refine lv_lconst (v := ll 0) hx hb dX12_element_53 (by decide) ?_
            refine lv_goto (tgt := 68) hx hb dX12_element_54 (by decide) ?_
            exact eMl hQ hx hb hr hlk hP hD hS (Nat.le_of_ble_eq_true rfl) (Nat.le_of_ble_eq_true rfl) dX12_element_68 (⟨_, _, rfl, rfl, .inr (.inr (.inl ⟨hwz, by omega, rfl⟩))⟩)
  · refine li_iconst hx hb dX12_element_12 ?_
    refine lv_goto (tgt := 43) hx hb dX12_element_13 (by decide) ?_
    refine va_put (D := G) (ci := 11) (v := .int (ii 1)) (ty := .int) (C := RX12) (T := TX12) (N := 52) hx hb hts in_X12 tyX12 tyX12_ok nmX12 hown hK hP hD hS 0 (aM_0 _ _ _ _ _) rfl 14 (by decide) (hts _ q1279) (fun _ h9 => h9) rfl (tyX12_ok 14 (by decide)) rfl rfl (Nat.le_of_ble_eq_true rfl) dX12_element_43 (fun H locs hP hD hS => ?_)
    have hP : va_P G gcl (wM am ty τ (up ρ 14 (sc (1))) ++ cs) H := hP
    have hD : va_D A (wM am ty τ (up ρ 14 (sc (1))) ++ cs) := hD
    refine lv_aload_n hx hb dX12_element_46 rfl (lv_at hl 1 rfl) ?_
    refine va_get (D := G) (ci := 11) (v := .int (ii 1)) (C := RX12) (T := TX12) (N := 52) hx hb hts in_X12 hown hK hP 0 (aM_0 _ _ _ _ _) rfl 14 (by decide) (hts _ q1279) (fun _ h9 => h9) rfl dX12_element_47 ?_
    refine li_if_le (tgt := 57) hx hb ⟨by decide, by decide⟩ dX12_element_50 (by decide) (fun c50 => ?_) (fun c50 => ?_)
    · exact absurd c50 (by decide)
    · refine lv_lconst (v := ll 0) hx hb dX12_element_53 (by decide) ?_
      refine lv_goto (tgt := 68) hx hb dX12_element_54 (by decide) ?_
      exact eMl hQ hx hb hr hlk hP hD hS (Nat.le_of_ble_eq_true rfl) (Nat.le_of_ble_eq_true rfl) dX12_element_68 (⟨_, _, rfl, rfl, .inl ⟨by omega, rfl⟩⟩)
set_option maxHeartbeats 4000000 in
theorem m_judgeM (l : Launch) (G : va_G) (am : Nat → Nat) (ty : Nat → ClassId) (τ ρ : mem) (cs : va_W) (d1 : Int) (w1 : Int) (F : mem) (hF : okF F) (hSm : Sim F τ) (hSt : wfS (ρ 27) (ρ 28)) (hZ : zerF F) (hd1 : rg d1) (hw1_ : rg w1) (hh : ∀ i, 0 ≤ (τ 46) i ∧ (τ 46) i ≤ 2) (hrs : ∀ i, 0 ≤ (τ 48) i ∧ (τ 48) i ≤ 2) (hrm : ∀ i, 0 ≤ (τ 49) i ∧ (τ 49) i ≤ 100) (hrw : ∀ i, rg ((τ 50) i)) : cM l yX12_judge (ws_ yX12_judge cX12_judge 7 (some .int)) (rm4 3 0 0 81) G ty (wM am ty τ ρ ++ cs) [.ref (am 0), .int (ii d1), .int (ii w1)] 0 0 (fun r W' => ∃ (z : Int) (wT : Int → Int) (qT : Int → Int), r = some (.int (ii z)) ∧ W' = wM am ty τ (up (up (up ρ 14 (sc (0))) 27 wT) 28 qT) ++ cs ∧ (wfS wT qT) ∧ (((¬ ((0 : Int) ≤ w1 ∧ (w1 : Int) ≤ 1) ∧ z = -1) ∨ (((0 : Int) ≤ w1 ∧ (w1 : Int) ≤ 1) ∧ wrM (τ 46) (τ 48) d1 < 0 ∧ z = wrM (τ 46) (τ 48) d1) ∨ (((0 : Int) ≤ w1 ∧ (w1 : Int) ≤ 1) ∧ wrM (τ 46) (τ 48) d1 = 0 ∧ JudgeP F (rwF (τ 50) d1) (cdv (F 6) (F 7)) ((τ 49) d1) w1 z))) ∧ (-12 ≤ z ∧ z ≤ 100000)) := by
  refine cM.of (by decide) (Nat.le_of_ble_eq_true rfl) ?_
  intro p e s m args below meth c A Q H locs hQ hx hb hr hml hown hlk hname hts hK hP hD hS hA hX ls hl
  have hl : lv_has ls 7 [(0, .ref (am 0)), (1, .int (ii d1)), (2, .int (ii w1))] := hl
  obtain ⟨hW, hWS, hlg⟩ := id hF
  obtain ⟨hw0, hw1, hw2, hw3, hw4, hw5, h8a, h8b, h9a, h9b, h10a, h10b⟩ := id hW
  obtain ⟨mL, mP, mR, mC, mK, mM, mA, mB, mD⟩ := id hSm
  obtain ⟨hd1a, hd1b⟩ := id hd1
  obtain ⟨hw1_a, hw1_b⟩ := id hw1_
  have hst := (cdv_dig hWS.1 hWS.2).1
  refine lv_aload_n hx hb dX12_judge_0 rfl (lv_at hl 0 rfl) ?_
  refine li_iconst hx hb dX12_judge_1 ?_
  refine va_put (D := G) (ci := 11) (v := .int (ii 0)) (ty := .int) (C := RX12) (T := TX12) (N := 52) hx hb hts in_X12 tyX12 tyX12_ok nmX12 hown hK hP hD hS 0 (aM_0 _ _ _ _ _) rfl 14 (by decide) (hts _ q1279) (fun _ h9 => h9) rfl (tyX12_ok 14 (by decide)) rfl rfl (Nat.le_of_ble_eq_true rfl) dX12_judge_2 (fun H locs hP hD hS => ?_)
  have hP : va_P G gcl (wM am ty τ (up ρ 14 (sc (0))) ++ cs) H := hP
  have hD : va_D A (wM am ty τ (up ρ 14 (sc (0))) ++ cs) := hD
  refine lv_iload_n hx hb dX12_judge_5 rfl (lv_at hl 2 rfl) ?_
  refine lv_i2l (v := ll w1) hx hb dX12_judge_6 (ll_i hw1_) ?_
  refine lv_lconst (v := ll 0) hx hb dX12_judge_7 (by decide) ?_
  refine lv_lconst (v := ll 1) hx hb dX12_judge_8 (by decide) ?_
  refine kR (va_runS (As := [.long (ll (w1)), .long (ll (0)), .long (ll (1))]) (rest := []) ⟨hx, hb, hml, hown, hts⟩ (m_inM l G ty (wM am ty τ (up ρ 14 (sc (0))) ++ cs) w1 0 1 (rg_rl hw1_) ⟨by decide, by decide⟩ ⟨by decide, by decide⟩) (va_cwS 3 hts (lw_S q1436 q1437 q87 q1438) rfl rfl rfl (by decide +kernel) ⟨Nat.le_of_ble_eq_true rfl, Nat.le_of_ble_eq_true rfl⟩) (psR hK hP hD hX) rfl rfl hl.1 rfl (lv_room (Nat.le_of_ble_eq_true rfl)) dX12_judge_9 ⟨Nat.le_of_ble_eq_true rfl, Nat.le_of_ble_eq_true rfl⟩) (fun v hv => ?_)
  obtain ⟨z9, rfl, ⟨rfl, h9⟩ | ⟨rfl, h9⟩⟩ := hv
  · refine li_if_ne (tgt := 17) hx hb ⟨by decide, by decide⟩ dX12_judge_12 (by decide) (fun c12 => ?_) (fun c12 => ?_)
    · refine lv_aload_n hx hb dX12_judge_17 rfl (lv_at hl 0 rfl) ?_
      refine lv_iload_n hx hb dX12_judge_18 rfl (lv_at hl 1 rfl) ?_
      refine kR (va_runV (As := [.int (ii d1)]) (rest := []) ⟨hx, hb, hml, hown, hts⟩ (m_wrongMovesM l G am ty τ (up ρ 14 (sc (0))) cs d1 (show rg d1 from hd1) (show ∀ i, 0 ≤ (τ 46) i ∧ (τ 46) i ≤ 2 from hh) (show ∀ i, 0 ≤ (τ 48) i ∧ (τ 48) i ≤ 2 from hrs)) (cwV 1 hts (lw_V q1578 q1580 qs57 q87 q1581) rfl rfl rfl (by decide +kernel) ⟨Nat.le_of_ble_eq_true rfl, Nat.le_of_ble_eq_true rfl⟩) (pvR (r := (RX12, TX12, 52)) hK hP hD hX 0 (aM_0 _ _ _ _ _) rfl) rfl rfl hl.1 rfl (lv_room (Nat.le_of_ble_eq_true rfl)) dX12_judge_19 ⟨Nat.le_of_ble_eq_true rfl, Nat.le_of_ble_eq_true rfl⟩) (fun v hv => ?_)
      obtain ⟨rfl, hz19⟩ := hv
      have hz19 : -12 ≤ wrM (τ 46) (τ 48) d1 ∧ wrM (τ 46) (τ 48) d1 ≤ 0 := hz19
      refine li_top (b := (wrM (τ 46) (τ 48) d1)) rfl ?_
      refine li_if_ge (tgt := 31) hx hb ⟨Int.le_trans (by decide) hz19.1, Int.le_trans hz19.2 (by decide)⟩ dX12_judge_22 (by decide) (fun c22 => ?_) (fun c22 => ?_)
      · have hw0 := wrM_0 c22
        have hwz : wrM (τ 46) (τ 48) d1 = 0 := by omega
        have hmd := hrm d1
        refine lv_aload_n hx hb dX12_judge_31 rfl (lv_at hl 0 rfl) ?_
        refine lv_aload_n hx hb dX12_judge_32 rfl (lv_at hl 0 rfl) ?_
        refine kR (va_runV (As := []) (rest := [.ref (am 0)]) ⟨hx, hb, hml, hown, hts⟩ (m_stateNowM l G am ty τ (up ρ 14 (sc (0))) cs _ (show okF F from hF) (show Sim F τ from hSm) (show zerF F from hZ)) (cwV 0 hts (lw_V q1514 q1516 qs46 q87 q1517) rfl rfl rfl (by decide +kernel) ⟨Nat.le_of_ble_eq_true rfl, Nat.le_of_ble_eq_true rfl⟩) (pvR (r := (RX12, TX12, 52)) hK hP hD hX 0 (aM_0 _ _ _ _ _) rfl) rfl rfl hl.1 rfl (lv_room (Nat.le_of_ble_eq_true rfl)) dX12_judge_33 ⟨Nat.le_of_ble_eq_true rfl, Nat.le_of_ble_eq_true rfl⟩) (fun v hv => ?_)
        have hv := hv
        subst hv
        refine kM (va_runV (As := [.int (ii (cdv (F 6) (F 7)))]) (rest := []) ⟨hx, hb, hml, hown, hts⟩ ((m_openM l G am ty τ (up ρ 14 (sc (0))) cs (cdv (F 6) (F 7)) (show inSt (cdv (F 6) (F 7)) from hst)) H.size) (cwV 1 hts (lw_V q1518 q1520 qs47 q87 q1521) rfl rfl rfl (by decide +kernel) ⟨Nat.le_of_ble_eq_true rfl, Nat.le_of_ble_eq_true rfl⟩) (pvM (r := (RX12, TX12, 52)) hK hP hD hX 0 (aM_0 _ _ _ _ _) rfl) rfl rfl hl.1 rfl (lv_room (Nat.le_of_ble_eq_true rfl)) dX12_judge_36 ⟨Nat.le_of_ble_eq_true rfl, Nat.le_of_ble_eq_true rfl⟩) hD hS hA (fun v ws1 H locs hv hP hD hS => ?_)
        obtain ⟨rfl, rfl, hal36⟩ := hv
        have hP : va_P G gcl (wM am ty τ (up (up (up ρ 14 (sc (0))) 27 (dcw (cdv (F 6) (F 7)) (ρ 27))) 28 (dcq (cdv (F 6) (F 7)) (ρ 28))) ++ cs) H := hP
        have hD : va_D A (wM am ty τ (up (up (up ρ 14 (sc (0))) 27 (dcw (cdv (F 6) (F 7)) (ρ 27))) 28 (dcq (cdv (F 6) (F 7)) (ρ 28))) ++ cs) := hD
        have hal36 : alike (dcw (cdv (F 6) (F 7)) (ρ 27)) (dcq (cdv (F 6) (F 7)) (ρ 28)) (stW (cdv (F 6) (F 7))) (stQ (cdv (F 6) (F 7))) := hal36
        refine li_iconst hx hb dX12_judge_39 ?_
        refine lv_istore_n (lv' := [(3, .int (ii 0)), (0, .ref (am 0)), (1, .int (ii d1)), (2, .int (ii w1))]) hx hb dX12_judge_40 rfl hl (by decide) rfl (fun ls hl => ?_)
        have hS2 : wfS (dcw (cdv (F 6) (F 7)) (ρ 27)) (dcq (cdv (F 6) (F 7)) (ρ 28)) := ⟨dcw_b hSt.1, dcq_b hSt.2⟩
        refine li_iconst hx hb dX12_judge_41 ?_
        refine lv_istore (lv' := [(4, .int (ii 0)), (3, .int (ii 0)), (0, .ref (am 0)), (1, .int (ii d1)), (2, .int (ii w1))]) hx hb dX12_judge_42 hl (by decide) rfl (fun ls hl => ?_)
        have L44 : ∀ (n : Nat) (k1 : Int) (sm : Int) (wL : Int → Int) (qL : Int → Int) (_ : wfS wL qL) (_ : alike wL qL (stW (fS (rwF (τ 50) d1) (cdv (F 6) (F 7)) k1)) (stQ (fS (rwF (τ 50) d1) (cdv (F 6) (F 7)) k1))) (_ : 0 ≤ k1) (_ : k1 ≤ τ 49 d1) (_ : sm = fM F (rwF (τ 50) d1) k1) (_ : 0 ≤ sm ∧ sm ≤ 312 * k1) (_ : legTo F (rwF (τ 50) d1) (cdv (F 6) (F 7)) k1) (_ : (τ 49 d1 - k1).toNat < n) (H : Heap) (locs : List Loc) (_ : va_P G gcl (wM am ty τ (up (up (up ρ 14 (sc (0))) 27 wL) 28 qL) ++ cs) H) (_ : va_D A (wM am ty τ (up (up (up ρ 14 (sc (0))) 27 wL) 28 qL) ++ cs)) (_ : va_S A s.heap H locs) (ls : Array Slot), lv_has ls 7 [(4, .int (ii k1)), (3, .int (ii sm)), (0, .ref (am 0)), (1, .int (ii d1)), (2, .int (ii w1))] → W p l e (rm4 3 0 0 81) s m args below meth c H locs 0 0 Q (F0 m 44 ls []) := by
          intro n
          induction n with
          | zero =>
            intro k1 sm wL qL hStL hal hk0 hk1 hsm hsb hlg1 hm
            exact absurd hm (Nat.not_lt_zero _)
          | succ n ih =>
            intro k1 sm wL qL hStL hal hk0 hk1 hsm hsb hlg1 hm H locs hP hD hS ls hl
            refine lv_iload hx hb dX12_judge_44 (lv_at hl 0 rfl) ?_
            refine lv_aload_n hx hb dX12_judge_46 rfl (lv_at hl 2 rfl) ?_
            refine va_get (D := G) (ci := 11) (v := .ref (am 31)) (C := RX12) (T := TX12) (N := 52) hx hb hts in_X12 hown hK hP 0 (aM_0 _ _ _ _ _) rfl 49 (by decide) (hts _ q1314) (fun _ h9 => h9) rfl dX12_judge_47 ?_
            refine lv_iload_n hx hb dX12_judge_50 rfl (lv_at hl 3 rfl) ?_
            refine li_iald (g := (τ 49)) hx hb hK hP 31 0 (aM_31 _ _ _ _ _) rfl (by omega) (by omega) (by decide) dX12_judge_51 ?_
            have r52 := hrm d1
            refine li_icmp_ge (tgt := 124) hx hb ⟨by omega, by omega⟩ (rgi r52.1 r52.2) dX12_judge_52 (by decide) (fun c52 => ?_) (fun c52 => ?_)
            · refine lv_iload_n hx hb dX12_judge_124 rfl (lv_at hl 4 rfl) ?_
              refine li_if_ne (tgt := 133) hx hb hw1_ dX12_judge_125 (by decide) (fun c125 => ?_) (fun c125 => ?_)
              · refine lv_iload_n hx hb dX12_judge_133 rfl (lv_at hl 1 rfl) ?_
                exact eMi hQ hx hb hr hlk hP hD hS (Nat.le_of_ble_eq_true rfl) (Nat.le_of_ble_eq_true rfl) dX12_judge_134 (⟨sm, wL, qL, rfl, rfl, hStL, .inr (.inr ⟨by omega, hwz, k1, ⟨hk0, by omega, hlg1, fun q => by omega⟩, .inr (.inr ⟨by omega, hsm⟩)⟩), ⟨by omega, by omega⟩⟩)
              · refine li_bipush hx hb dX12_judge_128 (by decide) ?_
                refine lv_goto (tgt := 134) hx hb dX12_judge_130 (by decide) ?_
                exact eMi hQ hx hb hr hlk hP hD hS (Nat.le_of_ble_eq_true rfl) (Nat.le_of_ble_eq_true rfl) dX12_judge_134 (⟨-4, wL, qL, rfl, rfl, hStL, .inr (.inr ⟨by omega, hwz, k1, ⟨hk0, by omega, hlg1, fun q => by omega⟩, .inr (.inl ⟨by omega, by omega, rfl⟩)⟩), ⟨by omega, by omega⟩⟩)
            · refine lv_aload_n hx hb dX12_judge_55 rfl (lv_at hl 2 rfl) ?_
              refine va_get (D := G) (ci := 11) (v := .ref (am 32)) (C := RX12) (T := TX12) (N := 52) hx hb hts in_X12 hown hK hP 0 (aM_0 _ _ _ _ _) rfl 50 (by decide) (hts _ q1315) (fun _ h9 => h9) rfl dX12_judge_56 ?_
              refine li_bipush hx hb dX12_judge_59 (by decide) ?_
              refine lv_iload_n hx hb dX12_judge_61 rfl (lv_at hl 3 rfl) ?_
              refine li_mul hx hb dX12_judge_62 ?_
              refine lv_iload hx hb dX12_judge_63 (lv_at hl 0 rfl) ?_
              refine li_add hx hb dX12_judge_65 ?_
              refine li_lald (g := (τ 50)) hx hb hK hP 32 4 (aM_32 _ _ _ _ _) rfl (by omega) (by omega) (by decide) dX12_judge_66 ?_
              refine lv_l2i (v := ii (τ 50 (100 * d1 + k1))) hx hb dX12_judge_67 (ii_l _) ?_
              refine lv_istore (lv' := [(5, .int (ii (τ 50 (100 * d1 + k1)))), (4, .int (ii k1)), (3, .int (ii sm)), (0, .ref (am 0)), (1, .int (ii d1)), (2, .int (ii w1))]) hx hb dX12_judge_68 hl (by decide) rfl (fun ls hl => ?_)
              refine lv_iload hx hb dX12_judge_70 (lv_at hl 0 rfl) ?_
              refine kR (va_runS (As := [.int (ii (τ 50 (100 * d1 + k1)))]) (rest := []) ⟨hx, hb, hml, hown, hts⟩ (m_isMoveM l G ty (wM am ty τ (up (up (up ρ 14 (sc (0))) 27 wL) 28 qL) ++ cs) (τ 50 (100 * d1 + k1)) (hrw _)) (va_cwS 1 hts (lw_S q1510 q1511 q87 q1512) rfl rfl rfl (by decide +kernel) ⟨Nat.le_of_ble_eq_true rfl, Nat.le_of_ble_eq_true rfl⟩) (psR hK hP hD hX) rfl rfl hl.1 rfl (lv_room (Nat.le_of_ble_eq_true rfl)) dX12_judge_72 ⟨Nat.le_of_ble_eq_true rfl, Nat.le_of_ble_eq_true rfl⟩) (fun v hv => ?_)
              obtain ⟨z72, rfl, ⟨rfl, h72⟩ | ⟨rfl, h72⟩⟩ := hv
              · refine li_if_eq (tgt := 87) hx hb ⟨by decide, by decide⟩ dX12_judge_75 (by decide) (fun c75 => ?_) (fun c75 => ?_)
                · exact absurd c75 (by decide)
                · refine lv_aload_n hx hb dX12_judge_78 rfl (lv_at hl 3 rfl) ?_
                  refine lv_iload hx hb dX12_judge_79 (lv_at hl 0 rfl) ?_
                  refine kR (va_runV (As := [.int (ii (τ 50 (100 * d1 + k1)))]) (rest := []) ⟨hx, hb, hml, hown, hts⟩ (m_minutesOfM l G am ty τ (up (up (up ρ 14 (sc (0))) 27 wL) 28 qL) cs (τ 50 (100 * d1 + k1)) _ (show okF F from hF) (show Sim F τ from hSm) (show wfS wL qL from hStL) (show isT (τ 50 (100 * d1 + k1)) from h72)) (cwV 1 hts (lw_V q1522 q1524 qs48 q87 q1525) rfl rfl rfl (by decide +kernel) ⟨Nat.le_of_ble_eq_true rfl, Nat.le_of_ble_eq_true rfl⟩) (pvR (r := (RX12, TX12, 52)) hK hP hD hX 0 (aM_0 _ _ _ _ _) rfl) rfl rfl hl.1 rfl (lv_room (Nat.le_of_ble_eq_true rfl)) dX12_judge_81 ⟨Nat.le_of_ble_eq_true rfl, Nat.le_of_ble_eq_true rfl⟩) (fun v hv => ?_)
                  obtain ⟨z81, rfl, hz81⟩ := hv
                  have hz81 : (mvOk F wL qL (τ 50 (100 * d1 + k1)) ∧ z81 = mvV F (τ 50 (100 * d1 + k1))) ∨ (¬ mvOk F wL qL (τ 50 (100 * d1 + k1)) ∧ z81 = -1) := hz81
                  have hzr81 : -1 ≤ z81 ∧ z81 ≤ 312 := mz_b hW h72 hz81
                  have hvb := mvV_b hW h72
                  refine lv_goto (tgt := 88) hx hb dX12_judge_84 (by decide) ?_
                  refine lv_istore (lv' := [(6, .int (ii z81)), (5, .int (ii (τ 50 (100 * d1 + k1)))), (4, .int (ii k1)), (3, .int (ii sm)), (0, .ref (am 0)), (1, .int (ii d1)), (2, .int (ii w1))]) hx hb dX12_judge_88 hl (by decide) rfl (fun ls hl => ?_)
                  refine lv_iload hx hb dX12_judge_90 (lv_at hl 0 rfl) ?_
                  refine li_if_ge (tgt := 106) hx hb (rg4 ⟨Int.le_trans (by decide) hzr81.1, Int.le_trans hzr81.2 (by decide)⟩) dX12_judge_92 (by decide) (fun c92 => ?_) (fun c92 => ?_)
                  · have hmk := hz81.resolve_right (fun r => by omega)
                    have hleg1 : leg F (fS (rwF (τ 50) d1) (cdv (F 6) (F 7)) k1) (rwF (τ 50) d1 k1) := (congrFun (lgl_al hal) _).mp ⟨h72, hmk.1⟩
                    have hcd := leg_cand hW hleg1
                    have hlg2 := legTo_s hlg1 hleg1
                    have hmv2 := hmk.2
                    have hsm2 : sm + z81 = fM F (rwF (τ 50) d1) (k1 + 1) := by rw [fM_s hk0, hsm, hmv2]; rfl
                    have hsb2 := fM_b hW (by omega) hlg2
                    refine lv_iload_n hx hb dX12_judge_106 rfl (lv_at hl 3 rfl) ?_
                    refine lv_iload hx hb dX12_judge_107 (lv_at hl 0 rfl) ?_
                    refine li_add hx hb dX12_judge_109 ?_
                    refine lv_istore_n (lv' := [(3, .int (ii (sm + z81))), (6, .int (ii z81)), (5, .int (ii (τ 50 (100 * d1 + k1)))), (4, .int (ii k1)), (0, .ref (am 0)), (1, .int (ii d1)), (2, .int (ii w1))]) hx hb dX12_judge_110 rfl hl (by decide) rfl (fun ls hl => ?_)
                    refine lv_aload_n hx hb dX12_judge_111 rfl (lv_at hl 4 rfl) ?_
                    refine lv_iload hx hb dX12_judge_112 (lv_at hl 2 rfl) ?_
                    refine li_iconst hx hb dX12_judge_114 ?_
                    refine kM (va_runV (As := [.int (ii (τ 50 (100 * d1 + k1))), .int (ii 0)]) (rest := []) ⟨hx, hb, hml, hown, hts⟩ ((m_makeM0 l G am ty τ (up (up (up ρ 14 (sc (0))) 27 wL) 28 qL) cs (τ 50 (100 * d1 + k1)) _ (show okF F from hF) (show Sim F τ from hSm) (show wfS wL qL from hStL) (show isT (τ 50 (100 * d1 + k1)) from h72) (show (τ 50 (100 * d1 + k1)) / 1000 % 10 < p2 (F 9 0) from cand_p2 h9a h9b hcd) (show (τ 50 (100 * d1 + k1)) / 10000 = 3 → (τ 50 (100 * d1 + k1)) / 100 % 10 = 0 from cand_r3 hcd)) H.size) (cwV 2 hts (lw_V q1550 q1552 qs53 q87 q1553) rfl rfl rfl (by decide +kernel) ⟨Nat.le_of_ble_eq_true rfl, Nat.le_of_ble_eq_true rfl⟩) (pvM (r := (RX12, TX12, 52)) hK hP hD hX 0 (aM_0 _ _ _ _ _) rfl) rfl rfl hl.1 rfl (lv_room (Nat.le_of_ble_eq_true rfl)) dX12_judge_115 ⟨Nat.le_of_ble_eq_true rfl, Nat.le_of_ble_eq_true rfl⟩) hD hS hA (fun v ws1 H locs hv hP hD hS => ?_)
                    obtain ⟨rfl, rfl⟩ := hv
                    have hP : va_P G gcl (wM am ty τ (up (up (up ρ 14 (sc (0))) 27 (mvw ((τ 50 (100 * d1 + k1)) / 1000 % 10) ((τ 50 (100 * d1 + k1)) % 10) wL)) 28 ((mvq ((τ 50 (100 * d1 + k1)) / 10000) ((τ 50 (100 * d1 + k1)) / 100 % 10) ((τ 50 (100 * d1 + k1)) % 10) qL))) ++ cs) H := hP
                    have hD : va_D A (wM am ty τ (up (up (up ρ 14 (sc (0))) 27 (mvw ((τ 50 (100 * d1 + k1)) / 1000 % 10) ((τ 50 (100 * d1 + k1)) % 10) wL)) 28 ((mvq ((τ 50 (100 * d1 + k1)) / 10000) ((τ 50 (100 * d1 + k1)) / 100 % 10) ((τ 50 (100 * d1 + k1)) % 10) qL))) ++ cs) := hD
                    refine li_iinc (a := k1) (lv' := [(4, .int (ii (k1 + 1))), (3, .int (ii (sm + z81))), (6, .int (ii z81)), (5, .int (ii (τ 50 (100 * d1 + k1)))), (0, .ref (am 0)), (1, .int (ii d1)), (2, .int (ii w1))]) hx hb dX12_judge_118 hl (k := 3) rfl (by decide) rfl (fun ls hl => ?_)
                    refine lv_goto (tgt := 44) hx hb dX12_judge_121 (by decide) ?_
                    exact ih (k1 + 1) (sm + z81) (mvw ((τ 50 (100 * d1 + k1)) / 1000 % 10) ((τ 50 (100 * d1 + k1)) % 10) wL) ((mvq ((τ 50 (100 * d1 + k1)) / 10000) ((τ 50 (100 * d1 + k1)) / 100 % 10) ((τ 50 (100 * d1 + k1)) % 10) qL)) (nx_wf h72 hStL) (by rw [fS_s hk0]; exact alike_nx (F := F) hal h72) (by omega) (by omega) (hsm2) (by omega) (hlg2) (by omega) H locs hP hD hS ls (lv_sub hl [0, 1, 4, 5, 6] rfl)
                  · refine lv_iload_n hx hb dX12_judge_95 rfl (lv_at hl 6 rfl) ?_
                    refine li_if_ne (tgt := 104) hx hb hw1_ dX12_judge_96 (by decide) (fun c96 => ?_) (fun c96 => ?_)
                    · refine lv_iload_n hx hb dX12_judge_104 rfl (lv_at hl 3 rfl) ?_
                      exact eMi hQ hx hb hr hlk hP hD hS (Nat.le_of_ble_eq_true rfl) (Nat.le_of_ble_eq_true rfl) dX12_judge_105 (⟨sm, wL, qL, rfl, rfl, hStL, .inr (.inr ⟨by omega, hwz, k1, ⟨hk0, by omega, hlg1, fun _ => fun q => (hz81.resolve_left (fun r => by omega)).1 ((congrFun (lgl_al hal) _).mpr q).2⟩, .inr (.inr ⟨by omega, hsm⟩)⟩), ⟨by omega, by omega⟩⟩)
                    · refine lv_iload hx hb dX12_judge_99 (lv_at hl 2 rfl) ?_
                      refine lv_goto (tgt := 105) hx hb dX12_judge_101 (by decide) ?_
                      exact eMi hQ hx hb hr hlk hP hD hS (Nat.le_of_ble_eq_true rfl) (Nat.le_of_ble_eq_true rfl) dX12_judge_105 (⟨k1, wL, qL, rfl, rfl, hStL, .inr (.inr ⟨by omega, hwz, k1, ⟨hk0, by omega, hlg1, fun _ => fun q => (hz81.resolve_left (fun r => by omega)).1 ((congrFun (lgl_al hal) _).mpr q).2⟩, .inl ⟨by omega, by omega, rfl⟩⟩), ⟨by omega, by omega⟩⟩)
              · refine li_if_eq (tgt := 87) hx hb ⟨by decide, by decide⟩ dX12_judge_75 (by decide) (fun c75 => ?_) (fun c75 => ?_)
                · refine li_iconst hx hb dX12_judge_87 ?_
                  refine lv_istore (lv' := [(6, .int (ii (-1))), (5, .int (ii (τ 50 (100 * d1 + k1)))), (4, .int (ii k1)), (3, .int (ii sm)), (0, .ref (am 0)), (1, .int (ii d1)), (2, .int (ii w1))]) hx hb dX12_judge_88 hl (by decide) rfl (fun ls hl => ?_)
                  refine lv_iload hx hb dX12_judge_90 (lv_at hl 0 rfl) ?_
                  refine li_if_ge (tgt := 106) hx hb ⟨by decide, by decide⟩ dX12_judge_92 (by decide) (fun c92 => ?_) (fun c92 => ?_)
                  · exact absurd c92 (by decide)
                  · refine lv_iload_n hx hb dX12_judge_95 rfl (lv_at hl 6 rfl) ?_
                    refine li_if_ne (tgt := 104) hx hb hw1_ dX12_judge_96 (by decide) (fun c96 => ?_) (fun c96 => ?_)
                    · refine lv_iload_n hx hb dX12_judge_104 rfl (lv_at hl 3 rfl) ?_
                      exact eMi hQ hx hb hr hlk hP hD hS (Nat.le_of_ble_eq_true rfl) (Nat.le_of_ble_eq_true rfl) dX12_judge_105 (⟨sm, wL, qL, rfl, rfl, hStL, .inr (.inr ⟨by omega, hwz, k1, ⟨hk0, by omega, hlg1, fun _ => fun q => h72 q.1⟩, .inr (.inr ⟨by omega, hsm⟩)⟩), ⟨by omega, by omega⟩⟩)
                    · refine lv_iload hx hb dX12_judge_99 (lv_at hl 2 rfl) ?_
                      refine lv_goto (tgt := 105) hx hb dX12_judge_101 (by decide) ?_
                      exact eMi hQ hx hb hr hlk hP hD hS (Nat.le_of_ble_eq_true rfl) (Nat.le_of_ble_eq_true rfl) dX12_judge_105 (⟨k1, wL, qL, rfl, rfl, hStL, .inr (.inr ⟨by omega, hwz, k1, ⟨hk0, by omega, hlg1, fun _ => fun q => h72 q.1⟩, .inl ⟨by omega, by omega, rfl⟩⟩), ⟨by omega, by omega⟩⟩)
                · exact absurd c75 (by decide)
        exact L44 _ 0 0 (dcw (cdv (F 6) (F 7)) (ρ 27)) (dcq (cdv (F 6) (F 7)) (ρ 28)) (hS2) (alike_dc _ _ _) (by omega) (by omega) (rfl) (⟨by decide, by decide⟩) (legTo_0 _ _ _) (Nat.lt_succ_self _) H locs hP hD hS ls (lv_sub hl [0, 1, 2, 3, 4] rfl)
      · refine lv_aload_n hx hb dX12_judge_25 rfl (lv_at hl 0 rfl) ?_
        refine lv_iload_n hx hb dX12_judge_26 rfl (lv_at hl 1 rfl) ?_
        refine kR (va_runV (As := [.int (ii d1)]) (rest := []) ⟨hx, hb, hml, hown, hts⟩ (m_wrongMovesM l G am ty τ (up ρ 14 (sc (0))) cs d1 (show rg d1 from hd1) (show ∀ i, 0 ≤ (τ 46) i ∧ (τ 46) i ≤ 2 from hh) (show ∀ i, 0 ≤ (τ 48) i ∧ (τ 48) i ≤ 2 from hrs)) (cwV 1 hts (lw_V q1578 q1580 qs57 q87 q1581) rfl rfl rfl (by decide +kernel) ⟨Nat.le_of_ble_eq_true rfl, Nat.le_of_ble_eq_true rfl⟩) (pvR (r := (RX12, TX12, 52)) hK hP hD hX 0 (aM_0 _ _ _ _ _) rfl) rfl rfl hl.1 rfl (lv_room (Nat.le_of_ble_eq_true rfl)) dX12_judge_27 ⟨Nat.le_of_ble_eq_true rfl, Nat.le_of_ble_eq_true rfl⟩) (fun v hv => ?_)
        obtain ⟨rfl, hz27⟩ := hv
        have hz27 : -12 ≤ wrM (τ 46) (τ 48) d1 ∧ wrM (τ 46) (τ 48) d1 ≤ 0 := hz27
        refine li_top (b := (wrM (τ 46) (τ 48) d1)) rfl ?_
        exact eMi hQ hx hb hr hlk hP hD hS (Nat.le_of_ble_eq_true rfl) (Nat.le_of_ble_eq_true rfl) dX12_judge_30 (⟨wrM (τ 46) (τ 48) d1, (ρ 27), (ρ 28), rfl, rfl, hSt, .inr (.inl ⟨by omega, by omega, rfl⟩), ⟨by omega, by omega⟩⟩)
    · exact absurd c12 (by decide)
  · refine li_if_ne (tgt := 17) hx hb ⟨by decide, by decide⟩ dX12_judge_12 (by decide) (fun c12 => ?_) (fun c12 => ?_)
    · exact absurd c12 (by decide)
    · refine li_iconst hx hb dX12_judge_15 ?_
      exact eMi hQ hx hb hr hlk hP hD hS (Nat.le_of_ble_eq_true rfl) (Nat.le_of_ble_eq_true rfl) dX12_judge_16 (⟨-1, (ρ 27), (ρ 28), rfl, rfl, hSt, .inl ⟨by omega, rfl⟩, ⟨by omega, by omega⟩⟩)
