/-! the model reads a statement (written by gen/s8.py) -/
set_option maxRecDepth 100000
set_option maxHeartbeats 4000000 in
theorem m_readStatementM (l : Launch) (G : va_G) (am : Nat → Nat) (ty : Nat → ClassId) (τ ρ : mem) (cs : va_W)  (u : Int → Int) (hu : u = hrd (fun x => (τ 50) ((ρ 15 0) + x)) (ρ 16 0)) (hat : 0 ≤ (ρ 17 0) ∧ (ρ 17 0) ≤ 100) (hbe : 0 ≤ (ρ 15 0) ∧ (ρ 15 0) ≤ 700 ∧ 0 ≤ (ρ 16 0) ∧ (ρ 16 0) ≤ 100) (hby : ∀ x, 0 ≤ x → x < (ρ 16 0) → -128 ≤ (τ 50) ((ρ 15 0) + x) ∧ (τ 50) ((ρ 15 0) + x) ≤ 127) (hi19 : 0 ≤ (ρ 19 0) ∧ (ρ 19 0) ≤ 49) : cM l yX12_readStatement (ws_ yX12_readStatement cX12_readStatement 3 none) (rm4 3 0 0 67) G ty (wM am ty τ ρ ++ cs) [.ref (am 0)] 0 0 (fun r W' => ∃ (b : Int) (a : Int) (g2 : Int → Int) (g3 : Int → Int) (g4 : Int → Int), r = none ∧ W' = wM am ty τ (up (up (up (up (up (up (up (up ρ 20 (ug (ρ 20) (ρ 19 0) (ρ 17 0))) 21 (ug (ρ 21) (ρ 19 0) (u (ρ 17 0)))) 22 g2) 23 g3) 24 g4) 18 (sc (b))) 17 (sc (a))) 19 (sc ((ρ 19 0) + 1))) ++ cs ∧ (((stB u (ρ 17 0) = -1 ∧ b = 0 ∧ a = stE u (ρ 17 0) ∧ g2 (ρ 19 0) = stX u (ρ 17 0) ∧ (¬ (u (ρ 17 0) = 99 ∨ u (ρ 17 0) = 107) → g3 (ρ 19 0) = stY u (ρ 17 0)) ∧ g4 (ρ 19 0) = stZ u (ρ 17 0)) ∨ (0 ≤ stB u (ρ 17 0) ∧ b = 1 ∧ a = stB u (ρ 17 0)))) ∧ (∀ j, ¬ j = (ρ 19 0) → g2 j = (ρ 22) j ∧ g3 j = (ρ 23) j ∧ g4 j = (ρ 24) j)) := by
  refine cM.of (by decide) (Nat.le_of_ble_eq_true rfl) ?_
  intro p e s m args below meth c A Q H locs hQ hx hb hr hml hown hlk hname hts hK hP hD hS hA hX ls hl
  have hl : lv_has ls 3 [(0, .ref (am 0))] := hl
  obtain ⟨hat0, hat1⟩ := id hat
  obtain ⟨hbe0, hbe1, hbe3, hbe2⟩ := id hbe
  obtain ⟨hi0, hi1⟩ := id hi19
  have hq1 := nmE_b u (ρ 17 0 + 1)
  have hq2 := nmE_b u (ρ 17 0 + 1 + 1 + 1)
  refine lv_aload_n hx hb dX12_readStatement_0 rfl (lv_at hl 0 rfl) ?_
  refine kR (va_runV (As := []) (rest := []) ⟨hx, hb, hml, hown, hts⟩ (m_hereM l G am ty τ ρ cs _ hu (show 0 ≤ (ρ 17 0) ∧ (ρ 17 0) ≤ 110 from ⟨by omega, by omega⟩) (show 0 ≤ (ρ 15 0) ∧ (ρ 15 0) ≤ 700 ∧ 0 ≤ (ρ 16 0) ∧ (ρ 16 0) ≤ 100 from hbe)) (cwV 0 hts (lw_V q1443 q1445 qs39 q87 q1446) rfl rfl rfl (by decide +kernel) ⟨Nat.le_of_ble_eq_true rfl, Nat.le_of_ble_eq_true rfl⟩) (pvR (r := (RX12, TX12, 52)) hK hP hD hX 0 (aM_0 _ _ _ _ _) rfl) rfl rfl hl.1 rfl (lv_room (Nat.le_of_ble_eq_true rfl)) dX12_readStatement_1 ⟨Nat.le_of_ble_eq_true rfl, Nat.le_of_ble_eq_true rfl⟩) (fun v hv => ?_)
  obtain ⟨rfl, hzb1, hzl1⟩ := hv
  have hzb1 : -1 ≤ u (ρ 17 0) ∧ u (ρ 17 0) ≤ 255 := hzb1
  have hzl1 : 0 ≤ u (ρ 17 0) → (ρ 17 0) < (ρ 16 0) := hzl1
  refine li_top (b := (u (ρ 17 0))) rfl ?_
  refine lv_istore_n (lv' := [(1, .int (ii (u (ρ 17 0)))), (0, .ref (am 0))]) hx hb dX12_readStatement_4 rfl hl (by decide) rfl (fun ls hl => ?_)
  refine lv_aload_n hx hb dX12_readStatement_5 rfl (lv_at hl 1 rfl) ?_
  refine va_get (D := G) (ci := 11) (v := .int (ii (ρ 19 0))) (C := RX12) (T := TX12) (N := 52) hx hb hts in_X12 hown hK hP 0 (aM_0 _ _ _ _ _) rfl 19 (by decide) (hts _ q1284) (fun _ h9 => h9) rfl dX12_readStatement_6 ?_
  refine lv_istore_n (lv' := [(2, .int (ii (ρ 19 0))), (1, .int (ii (u (ρ 17 0)))), (0, .ref (am 0))]) hx hb dX12_readStatement_9 rfl hl (by decide) rfl (fun ls hl => ?_)
  refine lv_aload_n hx hb dX12_readStatement_10 rfl (lv_at hl 2 rfl) ?_
  refine lv_iload_n hx hb dX12_readStatement_11 rfl (lv_at hl 1 rfl) ?_
  refine li_bipush hx hb dX12_readStatement_12 (by decide) ?_
  refine li_icmp_eq (tgt := 51) hx hb ⟨Int.le_trans (by decide) hzb1.1, Int.le_trans hzb1.2 (by decide)⟩ ⟨by decide, by decide⟩ dX12_readStatement_14 (by decide) (fun c14 => ?_) (fun c14 => ?_)
  · refine li_iconst hx hb dX12_readStatement_51 ?_
    refine va_put (D := G) (ci := 11) (v := .int (ii 0)) (ty := .boolean) (C := RX12) (T := TX12) (N := 52) hx hb hts in_X12 tyX12 tyX12_ok nmX12 hown hK hP hD hS 0 (aM_0 _ _ _ _ _) rfl 18 (by decide) (hts _ q1283) (fun _ h9 => h9) rfl (tyX12_ok 18 (by decide)) (nrw_z (by omega)) (fit_z (by omega)) (Nat.le_of_ble_eq_true rfl) dX12_readStatement_52 (fun H locs hP hD hS => ?_)
    have hP : va_P G gcl (wM am ty τ (up ρ 18 (sc (0))) ++ cs) H := hP
    have hD : va_D A (wM am ty τ (up ρ 18 (sc (0))) ++ cs) := hD
    refine lv_aload_n hx hb dX12_readStatement_55 rfl (lv_at hl 2 rfl) ?_
    refine va_get (D := G) (ci := 11) (v := .ref (am 9)) (C := RX12) (T := TX12) (N := 52) hx hb hts in_X12 hown hK hP 0 (aM_0 _ _ _ _ _) rfl 20 (by decide) (hts _ q1285) (fun _ h9 => h9) rfl dX12_readStatement_56 ?_
    refine lv_iload_n hx hb dX12_readStatement_59 rfl (lv_at hl 0 rfl) ?_
    refine lv_aload_n hx hb dX12_readStatement_60 rfl (lv_at hl 2 rfl) ?_
    refine va_get (D := G) (ci := 11) (v := .int (ii (ρ 17 0))) (C := RX12) (T := TX12) (N := 52) hx hb hts in_X12 hown hK hP 0 (aM_0 _ _ _ _ _) rfl 17 (by decide) (hts _ q1282) (fun _ h9 => h9) rfl dX12_readStatement_61 ?_
    refine li_iast (g := (ρ 20)) (W2 := wM am ty τ (up (up ρ 18 (sc (0))) 20 (ug (ρ 20) (ρ 19 0) (ρ 17 0))) ++ cs) hx hb hK hP hD hS 9 0 (aM_9 _ _ _ _ _) rfl (by omega) (by omega) (by decide) rfl dX12_readStatement_64 (fun H locs hP hD hS => ?_)
    refine lv_aload_n hx hb dX12_readStatement_65 rfl (lv_at hl 2 rfl) ?_
    refine va_get (D := G) (ci := 11) (v := .ref (am 10)) (C := RX12) (T := TX12) (N := 52) hx hb hts in_X12 hown hK hP 0 (aM_0 _ _ _ _ _) rfl 21 (by decide) (hts _ q1286) (fun _ h9 => h9) rfl dX12_readStatement_66 ?_
    refine lv_iload_n hx hb dX12_readStatement_69 rfl (lv_at hl 0 rfl) ?_
    refine lv_iload_n hx hb dX12_readStatement_70 rfl (lv_at hl 1 rfl) ?_
    refine li_iast (g := (ρ 21)) (W2 := wM am ty τ (up (up (up ρ 18 (sc (0))) 20 (ug (ρ 20) (ρ 19 0) (ρ 17 0))) 21 (ug (ρ 21) (ρ 19 0) (u (ρ 17 0)))) ++ cs) hx hb hK hP hD hS 10 0 (aM_10 _ _ _ _ _) rfl (by omega) (by omega) (by decide) rfl dX12_readStatement_71 (fun H locs hP hD hS => ?_)
    refine lv_aload_n hx hb dX12_readStatement_72 rfl (lv_at hl 2 rfl) ?_
    refine va_get (D := G) (ci := 11) (v := .ref (am 13)) (C := RX12) (T := TX12) (N := 52) hx hb hts in_X12 hown hK hP 0 (aM_0 _ _ _ _ _) rfl 24 (by decide) (hts _ q1289) (fun _ h9 => h9) rfl dX12_readStatement_73 ?_
    refine lv_iload_n hx hb dX12_readStatement_76 rfl (lv_at hl 0 rfl) ?_
    refine li_iconst hx hb dX12_readStatement_77 ?_
    refine li_zast (g := (ρ 24)) (W2 := wM am ty τ (up (up (up (up ρ 18 (sc (0))) 20 (ug (ρ 20) (ρ 19 0) (ρ 17 0))) 21 (ug (ρ 21) (ρ 19 0) (u (ρ 17 0)))) 24 (ug (ρ 24) (ρ 19 0) 0)) ++ cs) hx hb hK hP hD hS 13 1 (aM_13 _ _ _ _ _) rfl (by omega) (by omega) (by decide) (by omega) rfl dX12_readStatement_78 (fun H locs hP hD hS => ?_)
    refine lv_aload_n hx hb dX12_readStatement_79 rfl (lv_at hl 2 rfl) ?_
    refine lv_dup hx hb dX12_readStatement_80 rfl ?_
    refine va_get (D := G) (ci := 11) (v := .int (ii (ρ 17 0))) (C := RX12) (T := TX12) (N := 52) hx hb hts in_X12 hown hK hP 0 (aM_0 _ _ _ _ _) rfl 17 (by decide) (hts _ q1282) (fun _ h9 => h9) rfl dX12_readStatement_81 ?_
    refine lv_aload_n hx hb dX12_readStatement_84 rfl (lv_at hl 2 rfl) ?_
    refine va_get (D := G) (ci := 11) (v := .int (ii 0)) (C := RX12) (T := TX12) (N := 52) hx hb hts in_X12 hown hK hP 0 (aM_0 _ _ _ _ _) rfl 18 (by decide) (hts _ q1283) (fun _ h9 => h9) rfl dX12_readStatement_85 ?_
    refine li_if_eq (tgt := 95) hx hb ⟨by decide, by decide⟩ dX12_readStatement_88 (by decide) (fun c88 => ?_) (fun c88 => ?_)
    · refine li_iconst hx hb dX12_readStatement_95 ?_
      refine li_add hx hb dX12_readStatement_96 ?_
      refine va_put (D := G) (ci := 11) (v := .int (ii (ρ 17 0 + 1))) (ty := .int) (C := RX12) (T := TX12) (N := 52) hx hb hts in_X12 tyX12 tyX12_ok nmX12 hown hK hP hD hS 0 (aM_0 _ _ _ _ _) rfl 17 (by decide) (hts _ q1282) (fun _ h9 => h9) rfl (tyX12_ok 17 (by decide)) rfl rfl (Nat.le_of_ble_eq_true rfl) dX12_readStatement_97 (fun H locs hP hD hS => ?_)
      have hP : va_P G gcl (wM am ty τ (up (up (up (up (up ρ 18 (sc (0))) 20 (ug (ρ 20) (ρ 19 0) (ρ 17 0))) 21 (ug (ρ 21) (ρ 19 0) (u (ρ 17 0)))) 24 (ug (ρ 24) (ρ 19 0) 0)) 17 (sc (ρ 17 0 + 1))) ++ cs) H := hP
      have hD : va_D A (wM am ty τ (up (up (up (up (up ρ 18 (sc (0))) 20 (ug (ρ 20) (ρ 19 0) (ρ 17 0))) 21 (ug (ρ 21) (ρ 19 0) (u (ρ 17 0)))) 24 (ug (ρ 24) (ρ 19 0) 0)) 17 (sc (ρ 17 0 + 1))) ++ cs) := hD
      refine lv_aload_n hx hb dX12_readStatement_100 rfl (lv_at hl 2 rfl) ?_
      refine va_get (D := G) (ci := 11) (v := .ref (am 11)) (C := RX12) (T := TX12) (N := 52) hx hb hts in_X12 hown hK hP 0 (aM_0 _ _ _ _ _) rfl 22 (by decide) (hts _ q1287) (fun _ h9 => h9) rfl dX12_readStatement_101 ?_
      refine lv_iload_n hx hb dX12_readStatement_104 rfl (lv_at hl 0 rfl) ?_
      refine lv_aload_n hx hb dX12_readStatement_105 rfl (lv_at hl 2 rfl) ?_
      refine va_get (D := G) (ci := 11) (v := .int (ii 0)) (C := RX12) (T := TX12) (N := 52) hx hb hts in_X12 hown hK hP 0 (aM_0 _ _ _ _ _) rfl 18 (by decide) (hts _ q1283) (fun _ h9 => h9) rfl dX12_readStatement_106 ?_
      refine li_if_eq (tgt := 116) hx hb ⟨by decide, by decide⟩ dX12_readStatement_109 (by decide) (fun c109 => ?_) (fun c109 => ?_)
      · refine lv_iload_n hx hb dX12_readStatement_116 rfl (lv_at hl 1 rfl) ?_
        refine li_bipush hx hb dX12_readStatement_117 (by decide) ?_
        refine li_icmp_eq (tgt := 134) hx hb ⟨Int.le_trans (by decide) hzb1.1, Int.le_trans hzb1.2 (by decide)⟩ ⟨by decide, by decide⟩ dX12_readStatement_119 (by decide) (fun c119 => ?_) (fun c119 => ?_)
        · refine lv_aload_n hx hb dX12_readStatement_134 rfl (lv_at hl 2 rfl) ?_
          refine kM (va_runV (As := []) (rest := [.int (ii (ρ 19 0)), .ref (am 11)]) ⟨hx, hb, hml, hown, hts⟩ ((m_readDigitM l G am ty τ (up (up (up (up (up ρ 18 (sc (0))) 20 (ug (ρ 20) (ρ 19 0) (ρ 17 0))) 21 (ug (ρ 21) (ρ 19 0) (u (ρ 17 0)))) 24 (ug (ρ 24) (ρ 19 0) 0)) 17 (sc (ρ 17 0 + 1))) cs _ hu (show 0 ≤ (ρ 17 0 + 1) ∧ (ρ 17 0 + 1) ≤ 110 from (by have q1 := nmE_b u (ρ 17 0 + 1); have q2 := nmE_b u (ρ 17 0 + 1 + 1 + 1); exact ⟨by omega, by omega⟩)) (show 0 ≤ (ρ 15 0) ∧ (ρ 15 0) ≤ 700 ∧ 0 ≤ (ρ 16 0) ∧ (ρ 16 0) ≤ 100 from hbe) (show ∀ x, 0 ≤ x → x < (ρ 16 0) → -128 ≤ (τ 50) ((ρ 15 0) + x) ∧ (τ 50) ((ρ 15 0) + x) ≤ 127 from hby) (show 0 = 0 from rfl)) H.size) (cwV 0 hts (lw_V q1447 q1449 qs40 q87 q1450) rfl rfl rfl (by decide +kernel) ⟨Nat.le_of_ble_eq_true rfl, Nat.le_of_ble_eq_true rfl⟩) (pvM (r := (RX12, TX12, 52)) hK hP hD hX 0 (aM_0 _ _ _ _ _) rfl) rfl rfl hl.1 rfl (lv_room (Nat.le_of_ble_eq_true rfl)) dX12_readStatement_135 ⟨Nat.le_of_ble_eq_true rfl, Nat.le_of_ble_eq_true rfl⟩) hD hS hA (fun v ws1 H locs hv hP hD hS => ?_)
          obtain ⟨z135, b135, a135, rfl, rfl, ⟨h135, rfl, rfl, rfl⟩ | ⟨h135, rfl, rfl, rfl⟩⟩ := hv
          · have hP : va_P G gcl (wM am ty τ (up (up (up (up (up ρ 20 (ug (ρ 20) (ρ 19 0) (ρ 17 0))) 21 (ug (ρ 21) (ρ 19 0) (u (ρ 17 0)))) 24 (ug (ρ 24) (ρ 19 0) 0)) 18 (sc (0))) 17 (sc ((ρ 17 0 + 1) + 1))) ++ cs) H := hP
            have hD : va_D A (wM am ty τ (up (up (up (up (up ρ 20 (ug (ρ 20) (ρ 19 0) (ρ 17 0))) 21 (ug (ρ 21) (ρ 19 0) (u (ρ 17 0)))) 24 (ug (ρ 24) (ρ 19 0) 0)) 18 (sc (0))) 17 (sc ((ρ 17 0 + 1) + 1))) ++ cs) := hD
            have h135 : 48 ≤ u (ρ 17 0 + 1) ∧ u (ρ 17 0 + 1) ≤ 57 := h135
            refine lv_goto (tgt := 145) hx hb dX12_readStatement_138 (by decide) ?_
            refine li_iast (g := (ρ 22)) (W2 := wM am ty τ (up (up (up (up (up (up ρ 20 (ug (ρ 20) (ρ 19 0) (ρ 17 0))) 21 (ug (ρ 21) (ρ 19 0) (u (ρ 17 0)))) 24 (ug (ρ 24) (ρ 19 0) 0)) 18 (sc (0))) 17 (sc ((ρ 17 0 + 1) + 1))) 22 (ug (ρ 22) (ρ 19 0) (u (ρ 17 0 + 1) - 48))) ++ cs) hx hb hK hP hD hS 11 0 (aM_11 _ _ _ _ _) rfl (by omega) (by omega) (by decide) rfl dX12_readStatement_145 (fun H locs hP hD hS => ?_)
            refine lv_aload_n hx hb dX12_readStatement_146 rfl (lv_at hl 2 rfl) ?_
            refine va_get (D := G) (ci := 11) (v := .int (ii 0)) (C := RX12) (T := TX12) (N := 52) hx hb hts in_X12 hown hK hP 0 (aM_0 _ _ _ _ _) rfl 18 (by decide) (hts _ q1283) (fun _ h9 => h9) rfl dX12_readStatement_147 ?_
            refine li_if_ne (tgt := 177) hx hb ⟨by decide, by decide⟩ dX12_readStatement_150 (by decide) (fun c150 => ?_) (fun c150 => ?_)
            · exact absurd c150 (by decide)
            · refine lv_iload_n hx hb dX12_readStatement_153 rfl (lv_at hl 1 rfl) ?_
              refine li_bipush hx hb dX12_readStatement_154 (by decide) ?_
              refine li_icmp_eq (tgt := 171) hx hb ⟨Int.le_trans (by decide) hzb1.1, Int.le_trans hzb1.2 (by decide)⟩ ⟨by decide, by decide⟩ dX12_readStatement_156 (by decide) (fun c156 => ?_) (fun c156 => ?_)
              · refine lv_aload_n hx hb dX12_readStatement_171 rfl (lv_at hl 2 rfl) ?_
                refine li_bipush hx hb dX12_readStatement_172 (by decide) ?_
                refine kM (va_runV (As := [.int (ii 32)]) (rest := []) ⟨hx, hb, hml, hown, hts⟩ ((m_takeM0 l G am ty τ (up (up (up (up (up (up ρ 20 (ug (ρ 20) (ρ 19 0) (ρ 17 0))) 21 (ug (ρ 21) (ρ 19 0) (u (ρ 17 0)))) 24 (ug (ρ 24) (ρ 19 0) 0)) 18 (sc (0))) 17 (sc ((ρ 17 0 + 1) + 1))) 22 (ug (ρ 22) (ρ 19 0) (u (ρ 17 0 + 1) - 48))) cs 32 _ hu (show 0 ≤ ((ρ 17 0 + 1) + 1) ∧ ((ρ 17 0 + 1) + 1) ≤ 110 from (by have q1 := nmE_b u (ρ 17 0 + 1); have q2 := nmE_b u (ρ 17 0 + 1 + 1 + 1); exact ⟨by omega, by omega⟩)) (show 0 ≤ (ρ 15 0) ∧ (ρ 15 0) ≤ 700 ∧ 0 ≤ (ρ 16 0) ∧ (ρ 16 0) ≤ 100 from hbe) (show rg 32 from ⟨by decide, by decide⟩) (show 0 = 0 from rfl)) H.size) (cwV 1 hts (lw_V q1457 q1459 qs42 q87 q1460) rfl rfl rfl (by decide +kernel) ⟨Nat.le_of_ble_eq_true rfl, Nat.le_of_ble_eq_true rfl⟩) (pvM (r := (RX12, TX12, 52)) hK hP hD hX 0 (aM_0 _ _ _ _ _) rfl) rfl rfl hl.1 rfl (lv_room (Nat.le_of_ble_eq_true rfl)) dX12_readStatement_174 ⟨Nat.le_of_ble_eq_true rfl, Nat.le_of_ble_eq_true rfl⟩) hD hS hA (fun v ws1 H locs hv hP hD hS => ?_)
                obtain ⟨b174, a174, rfl, rfl, ⟨h174, rfl, rfl⟩ | ⟨h174, rfl, rfl⟩⟩ := hv
                · have hP : va_P G gcl (wM am ty τ (up (up (up (up (up (up ρ 20 (ug (ρ 20) (ρ 19 0) (ρ 17 0))) 21 (ug (ρ 21) (ρ 19 0) (u (ρ 17 0)))) 24 (ug (ρ 24) (ρ 19 0) 0)) 22 (ug (ρ 22) (ρ 19 0) (u (ρ 17 0 + 1) - 48))) 18 (sc (0))) 17 (sc (((ρ 17 0 + 1) + 1) + 1))) ++ cs) H := hP
                  have hD : va_D A (wM am ty τ (up (up (up (up (up (up ρ 20 (ug (ρ 20) (ρ 19 0) (ρ 17 0))) 21 (ug (ρ 21) (ρ 19 0) (u (ρ 17 0)))) 24 (ug (ρ 24) (ρ 19 0) 0)) 22 (ug (ρ 22) (ρ 19 0) (u (ρ 17 0 + 1) - 48))) 18 (sc (0))) 17 (sc (((ρ 17 0 + 1) + 1) + 1))) ++ cs) := hD
                  have h174 : u ((ρ 17 0 + 1) + 1) = 32 := h174
                  refine lv_aload_n hx hb dX12_readStatement_177 rfl (lv_at hl 2 rfl) ?_
                  refine va_get (D := G) (ci := 11) (v := .int (ii 0)) (C := RX12) (T := TX12) (N := 52) hx hb hts in_X12 hown hK hP 0 (aM_0 _ _ _ _ _) rfl 18 (by decide) (hts _ q1283) (fun _ h9 => h9) rfl dX12_readStatement_178 ?_
                  refine li_if_ne (tgt := 219) hx hb ⟨by decide, by decide⟩ dX12_readStatement_181 (by decide) (fun c181 => ?_) (fun c181 => ?_)
                  · exact absurd c181 (by decide)
                  · refine lv_iload_n hx hb dX12_readStatement_184 rfl (lv_at hl 1 rfl) ?_
                    refine li_bipush hx hb dX12_readStatement_185 (by decide) ?_
                    refine li_icmp_eq (tgt := 219) hx hb ⟨Int.le_trans (by decide) hzb1.1, Int.le_trans hzb1.2 (by decide)⟩ ⟨by decide, by decide⟩ dX12_readStatement_187 (by decide) (fun c187 => ?_) (fun c187 => ?_)
                    · exfalso
                      omega
                    · refine lv_iload_n hx hb dX12_readStatement_190 rfl (lv_at hl 1 rfl) ?_
                      refine li_bipush hx hb dX12_readStatement_191 (by decide) ?_
                      refine li_icmp_eq (tgt := 219) hx hb ⟨Int.le_trans (by decide) hzb1.1, Int.le_trans hzb1.2 (by decide)⟩ ⟨by decide, by decide⟩ dX12_readStatement_193 (by decide) (fun c193 => ?_) (fun c193 => ?_)
                      · exfalso
                        omega
                      · refine lv_aload_n hx hb dX12_readStatement_196 rfl (lv_at hl 2 rfl) ?_
                        refine va_get (D := G) (ci := 11) (v := .ref (am 12)) (C := RX12) (T := TX12) (N := 52) hx hb hts in_X12 hown hK hP 0 (aM_0 _ _ _ _ _) rfl 23 (by decide) (hts _ q1288) (fun _ h9 => h9) rfl dX12_readStatement_197 ?_
                        refine lv_iload_n hx hb dX12_readStatement_200 rfl (lv_at hl 0 rfl) ?_
                        refine lv_iload_n hx hb dX12_readStatement_201 rfl (lv_at hl 1 rfl) ?_
                        refine li_bipush hx hb dX12_readStatement_202 (by decide) ?_
                        refine li_icmp_ne (tgt := 214) hx hb ⟨Int.le_trans (by decide) hzb1.1, Int.le_trans hzb1.2 (by decide)⟩ ⟨by decide, by decide⟩ dX12_readStatement_204 (by decide) (fun c204 => ?_) (fun c204 => ?_)
                        · refine lv_aload_n hx hb dX12_readStatement_214 rfl (lv_at hl 2 rfl) ?_
                          refine kM (va_runV (As := []) (rest := [.int (ii (ρ 19 0)), .ref (am 12)]) ⟨hx, hb, hml, hown, hts⟩ ((m_readDigitM l G am ty τ (up (up (up (up (up (up ρ 20 (ug (ρ 20) (ρ 19 0) (ρ 17 0))) 21 (ug (ρ 21) (ρ 19 0) (u (ρ 17 0)))) 24 (ug (ρ 24) (ρ 19 0) 0)) 22 (ug (ρ 22) (ρ 19 0) (u (ρ 17 0 + 1) - 48))) 18 (sc (0))) 17 (sc (((ρ 17 0 + 1) + 1) + 1))) cs _ hu (show 0 ≤ (((ρ 17 0 + 1) + 1) + 1) ∧ (((ρ 17 0 + 1) + 1) + 1) ≤ 110 from (by have q1 := nmE_b u (ρ 17 0 + 1); have q2 := nmE_b u (ρ 17 0 + 1 + 1 + 1); exact ⟨by omega, by omega⟩)) (show 0 ≤ (ρ 15 0) ∧ (ρ 15 0) ≤ 700 ∧ 0 ≤ (ρ 16 0) ∧ (ρ 16 0) ≤ 100 from hbe) (show ∀ x, 0 ≤ x → x < (ρ 16 0) → -128 ≤ (τ 50) ((ρ 15 0) + x) ∧ (τ 50) ((ρ 15 0) + x) ≤ 127 from hby) (show 0 = 0 from rfl)) H.size) (cwV 0 hts (lw_V q1447 q1449 qs40 q87 q1450) rfl rfl rfl (by decide +kernel) ⟨Nat.le_of_ble_eq_true rfl, Nat.le_of_ble_eq_true rfl⟩) (pvM (r := (RX12, TX12, 52)) hK hP hD hX 0 (aM_0 _ _ _ _ _) rfl) rfl rfl hl.1 rfl (lv_room (Nat.le_of_ble_eq_true rfl)) dX12_readStatement_215 ⟨Nat.le_of_ble_eq_true rfl, Nat.le_of_ble_eq_true rfl⟩) hD hS hA (fun v ws1 H locs hv hP hD hS => ?_)
                          obtain ⟨z215, b215, a215, rfl, rfl, ⟨h215, rfl, rfl, rfl⟩ | ⟨h215, rfl, rfl, rfl⟩⟩ := hv
                          · have hP : va_P G gcl (wM am ty τ (up (up (up (up (up (up ρ 20 (ug (ρ 20) (ρ 19 0) (ρ 17 0))) 21 (ug (ρ 21) (ρ 19 0) (u (ρ 17 0)))) 24 (ug (ρ 24) (ρ 19 0) 0)) 22 (ug (ρ 22) (ρ 19 0) (u (ρ 17 0 + 1) - 48))) 18 (sc (0))) 17 (sc ((((ρ 17 0 + 1) + 1) + 1) + 1))) ++ cs) H := hP
                            have hD : va_D A (wM am ty τ (up (up (up (up (up (up ρ 20 (ug (ρ 20) (ρ 19 0) (ρ 17 0))) 21 (ug (ρ 21) (ρ 19 0) (u (ρ 17 0)))) 24 (ug (ρ 24) (ρ 19 0) 0)) 22 (ug (ρ 22) (ρ 19 0) (u (ρ 17 0 + 1) - 48))) 18 (sc (0))) 17 (sc ((((ρ 17 0 + 1) + 1) + 1) + 1))) ++ cs) := hD
                            have h215 : 48 ≤ u (((ρ 17 0 + 1) + 1) + 1) ∧ u (((ρ 17 0 + 1) + 1) + 1) ≤ 57 := h215
                            refine li_iast (g := (ρ 23)) (W2 := wM am ty τ (up (up (up (up (up (up (up ρ 20 (ug (ρ 20) (ρ 19 0) (ρ 17 0))) 21 (ug (ρ 21) (ρ 19 0) (u (ρ 17 0)))) 24 (ug (ρ 24) (ρ 19 0) 0)) 22 (ug (ρ 22) (ρ 19 0) (u (ρ 17 0 + 1) - 48))) 18 (sc (0))) 17 (sc ((((ρ 17 0 + 1) + 1) + 1) + 1))) 23 (ug (ρ 23) (ρ 19 0) (u (((ρ 17 0 + 1) + 1) + 1) - 48))) ++ cs) hx hb hK hP hD hS 12 0 (aM_12 _ _ _ _ _) rfl (by omega) (by omega) (by decide) rfl dX12_readStatement_218 (fun H locs hP hD hS => ?_)
                            refine lv_aload_n hx hb dX12_readStatement_219 rfl (lv_at hl 2 rfl) ?_
                            refine va_get (D := G) (ci := 11) (v := .int (ii 0)) (C := RX12) (T := TX12) (N := 52) hx hb hts in_X12 hown hK hP 0 (aM_0 _ _ _ _ _) rfl 18 (by decide) (hts _ q1283) (fun _ h9 => h9) rfl dX12_readStatement_220 ?_
                            refine li_if_ne (tgt := 258) hx hb ⟨by decide, by decide⟩ dX12_readStatement_223 (by decide) (fun c223 => ?_) (fun c223 => ?_)
                            · exact absurd c223 (by decide)
                            · refine lv_iload_n hx hb dX12_readStatement_226 rfl (lv_at hl 1 rfl) ?_
                              refine li_bipush hx hb dX12_readStatement_227 (by decide) ?_
                              refine li_icmp_ne (tgt := 258) hx hb ⟨Int.le_trans (by decide) hzb1.1, Int.le_trans hzb1.2 (by decide)⟩ ⟨by decide, by decide⟩ dX12_readStatement_229 (by decide) (fun c229 => ?_) (fun c229 => ?_)
                              · refine lv_aload_n hx hb dX12_readStatement_258 rfl (lv_at hl 2 rfl) ?_
                                refine li_bipush hx hb dX12_readStatement_259 (by decide) ?_
                                refine kM (va_runV (As := [.int (ii 59)]) (rest := []) ⟨hx, hb, hml, hown, hts⟩ ((m_takeM0 l G am ty τ (up (up (up (up (up (up (up ρ 20 (ug (ρ 20) (ρ 19 0) (ρ 17 0))) 21 (ug (ρ 21) (ρ 19 0) (u (ρ 17 0)))) 24 (ug (ρ 24) (ρ 19 0) 0)) 22 (ug (ρ 22) (ρ 19 0) (u (ρ 17 0 + 1) - 48))) 18 (sc (0))) 17 (sc ((((ρ 17 0 + 1) + 1) + 1) + 1))) 23 (ug (ρ 23) (ρ 19 0) (u (((ρ 17 0 + 1) + 1) + 1) - 48))) cs 59 _ hu (show 0 ≤ ((((ρ 17 0 + 1) + 1) + 1) + 1) ∧ ((((ρ 17 0 + 1) + 1) + 1) + 1) ≤ 110 from (by have q1 := nmE_b u (ρ 17 0 + 1); have q2 := nmE_b u (ρ 17 0 + 1 + 1 + 1); exact ⟨by omega, by omega⟩)) (show 0 ≤ (ρ 15 0) ∧ (ρ 15 0) ≤ 700 ∧ 0 ≤ (ρ 16 0) ∧ (ρ 16 0) ≤ 100 from hbe) (show rg 59 from ⟨by decide, by decide⟩) (show 0 = 0 from rfl)) H.size) (cwV 1 hts (lw_V q1457 q1459 qs42 q87 q1460) rfl rfl rfl (by decide +kernel) ⟨Nat.le_of_ble_eq_true rfl, Nat.le_of_ble_eq_true rfl⟩) (pvM (r := (RX12, TX12, 52)) hK hP hD hX 0 (aM_0 _ _ _ _ _) rfl) rfl rfl hl.1 rfl (lv_room (Nat.le_of_ble_eq_true rfl)) dX12_readStatement_261 ⟨Nat.le_of_ble_eq_true rfl, Nat.le_of_ble_eq_true rfl⟩) hD hS hA (fun v ws1 H locs hv hP hD hS => ?_)
                                obtain ⟨b261, a261, rfl, rfl, ⟨h261, rfl, rfl⟩ | ⟨h261, rfl, rfl⟩⟩ := hv
                                · have hP : va_P G gcl (wM am ty τ (up (up (up (up (up (up (up ρ 20 (ug (ρ 20) (ρ 19 0) (ρ 17 0))) 21 (ug (ρ 21) (ρ 19 0) (u (ρ 17 0)))) 24 (ug (ρ 24) (ρ 19 0) 0)) 22 (ug (ρ 22) (ρ 19 0) (u (ρ 17 0 + 1) - 48))) 23 (ug (ρ 23) (ρ 19 0) (u (((ρ 17 0 + 1) + 1) + 1) - 48))) 18 (sc (0))) 17 (sc (((((ρ 17 0 + 1) + 1) + 1) + 1) + 1))) ++ cs) H := hP
                                  have hD : va_D A (wM am ty τ (up (up (up (up (up (up (up ρ 20 (ug (ρ 20) (ρ 19 0) (ρ 17 0))) 21 (ug (ρ 21) (ρ 19 0) (u (ρ 17 0)))) 24 (ug (ρ 24) (ρ 19 0) 0)) 22 (ug (ρ 22) (ρ 19 0) (u (ρ 17 0 + 1) - 48))) 23 (ug (ρ 23) (ρ 19 0) (u (((ρ 17 0 + 1) + 1) + 1) - 48))) 18 (sc (0))) 17 (sc (((((ρ 17 0 + 1) + 1) + 1) + 1) + 1))) ++ cs) := hD
                                  have h261 : u ((((ρ 17 0 + 1) + 1) + 1) + 1) = 59 := h261
                                  refine lv_aload_n hx hb dX12_readStatement_264 rfl (lv_at hl 2 rfl) ?_
                                  refine lv_dup hx hb dX12_readStatement_265 rfl ?_
                                  refine va_get (D := G) (ci := 11) (v := .int (ii (ρ 19 0))) (C := RX12) (T := TX12) (N := 52) hx hb hts in_X12 hown hK hP 0 (aM_0 _ _ _ _ _) rfl 19 (by decide) (hts _ q1284) (fun _ h9 => h9) rfl dX12_readStatement_266 ?_
                                  refine li_iconst hx hb dX12_readStatement_269 ?_
                                  refine li_add hx hb dX12_readStatement_270 ?_
                                  refine va_put (D := G) (ci := 11) (v := .int (ii (ρ 19 0 + 1))) (ty := .int) (C := RX12) (T := TX12) (N := 52) hx hb hts in_X12 tyX12 tyX12_ok nmX12 hown hK hP hD hS 0 (aM_0 _ _ _ _ _) rfl 19 (by decide) (hts _ q1284) (fun _ h9 => h9) rfl (tyX12_ok 19 (by decide)) rfl rfl (Nat.le_of_ble_eq_true rfl) dX12_readStatement_271 (fun H locs hP hD hS => ?_)
                                  have hP : va_P G gcl (wM am ty τ (up (up (up (up (up (up (up (up ρ 20 (ug (ρ 20) (ρ 19 0) (ρ 17 0))) 21 (ug (ρ 21) (ρ 19 0) (u (ρ 17 0)))) 24 (ug (ρ 24) (ρ 19 0) 0)) 22 (ug (ρ 22) (ρ 19 0) (u (ρ 17 0 + 1) - 48))) 23 (ug (ρ 23) (ρ 19 0) (u (((ρ 17 0 + 1) + 1) + 1) - 48))) 18 (sc (0))) 17 (sc (((((ρ 17 0 + 1) + 1) + 1) + 1) + 1))) 19 (sc (ρ 19 0 + 1))) ++ cs) H := hP
                                  have hD : va_D A (wM am ty τ (up (up (up (up (up (up (up (up ρ 20 (ug (ρ 20) (ρ 19 0) (ρ 17 0))) 21 (ug (ρ 21) (ρ 19 0) (u (ρ 17 0)))) 24 (ug (ρ 24) (ρ 19 0) 0)) 22 (ug (ρ 22) (ρ 19 0) (u (ρ 17 0 + 1) - 48))) 23 (ug (ρ 23) (ρ 19 0) (u (((ρ 17 0 + 1) + 1) + 1) - 48))) 18 (sc (0))) 17 (sc (((((ρ 17 0 + 1) + 1) + 1) + 1) + 1))) 19 (sc (ρ 19 0 + 1))) ++ cs) := hD
                                  exact eMv hQ hx hb hr hlk hP hD hS (Nat.le_of_ble_eq_true rfl) (Nat.le_of_ble_eq_true rfl) dX12_readStatement_274 (⟨0, ((((ρ 17 0 + 1) + 1) + 1) + 1) + 1, (ug (ρ 22) (ρ 19 0) (u (ρ 17 0 + 1) - 48)), (ug (ρ 23) (ρ 19 0) (u (((ρ 17 0 + 1) + 1) + 1) - 48)), (ug (ρ 24) (ρ 19 0) 0), rfl, rfl, .inl ⟨by rw [stB_l c14]; unfold lB; omega, rfl, by unfold stE; omega, by rw [ug_s]; unfold stX; omega, fun q => by first | omega | (rw [ug_s]; unfold stY; omega), by rw [ug_s]; unfold stZ; omega⟩, fun j q => ⟨by first | rw [ug_n q, ug_n q] | rw [ug_n q] | rfl, by first | rw [ug_n q, ug_n q] | rw [ug_n q] | rfl, by first | rw [ug_n q, ug_n q] | rw [ug_n q] | rfl⟩⟩)
                                · have hP : va_P G gcl (wM am ty τ (up (up (up (up (up (up (up ρ 20 (ug (ρ 20) (ρ 19 0) (ρ 17 0))) 21 (ug (ρ 21) (ρ 19 0) (u (ρ 17 0)))) 24 (ug (ρ 24) (ρ 19 0) 0)) 22 (ug (ρ 22) (ρ 19 0) (u (ρ 17 0 + 1) - 48))) 23 (ug (ρ 23) (ρ 19 0) (u (((ρ 17 0 + 1) + 1) + 1) - 48))) 18 (sc (1))) 17 (sc (((((ρ 17 0 + 1) + 1) + 1) + 1)))) ++ cs) H := hP
                                  have hD : va_D A (wM am ty τ (up (up (up (up (up (up (up ρ 20 (ug (ρ 20) (ρ 19 0) (ρ 17 0))) 21 (ug (ρ 21) (ρ 19 0) (u (ρ 17 0)))) 24 (ug (ρ 24) (ρ 19 0) 0)) 22 (ug (ρ 22) (ρ 19 0) (u (ρ 17 0 + 1) - 48))) 23 (ug (ρ 23) (ρ 19 0) (u (((ρ 17 0 + 1) + 1) + 1) - 48))) 18 (sc (1))) 17 (sc (((((ρ 17 0 + 1) + 1) + 1) + 1)))) ++ cs) := hD
                                  have h261 : ¬ u ((((ρ 17 0 + 1) + 1) + 1) + 1) = 59 := h261
                                  refine lv_aload_n hx hb dX12_readStatement_264 rfl (lv_at hl 2 rfl) ?_
                                  refine lv_dup hx hb dX12_readStatement_265 rfl ?_
                                  refine va_get (D := G) (ci := 11) (v := .int (ii (ρ 19 0))) (C := RX12) (T := TX12) (N := 52) hx hb hts in_X12 hown hK hP 0 (aM_0 _ _ _ _ _) rfl 19 (by decide) (hts _ q1284) (fun _ h9 => h9) rfl dX12_readStatement_266 ?_
                                  refine li_iconst hx hb dX12_readStatement_269 ?_
                                  refine li_add hx hb dX12_readStatement_270 ?_
                                  refine va_put (D := G) (ci := 11) (v := .int (ii (ρ 19 0 + 1))) (ty := .int) (C := RX12) (T := TX12) (N := 52) hx hb hts in_X12 tyX12 tyX12_ok nmX12 hown hK hP hD hS 0 (aM_0 _ _ _ _ _) rfl 19 (by decide) (hts _ q1284) (fun _ h9 => h9) rfl (tyX12_ok 19 (by decide)) rfl rfl (Nat.le_of_ble_eq_true rfl) dX12_readStatement_271 (fun H locs hP hD hS => ?_)
                                  have hP : va_P G gcl (wM am ty τ (up (up (up (up (up (up (up (up ρ 20 (ug (ρ 20) (ρ 19 0) (ρ 17 0))) 21 (ug (ρ 21) (ρ 19 0) (u (ρ 17 0)))) 24 (ug (ρ 24) (ρ 19 0) 0)) 22 (ug (ρ 22) (ρ 19 0) (u (ρ 17 0 + 1) - 48))) 23 (ug (ρ 23) (ρ 19 0) (u (((ρ 17 0 + 1) + 1) + 1) - 48))) 18 (sc (1))) 17 (sc (((((ρ 17 0 + 1) + 1) + 1) + 1)))) 19 (sc (ρ 19 0 + 1))) ++ cs) H := hP
                                  have hD : va_D A (wM am ty τ (up (up (up (up (up (up (up (up ρ 20 (ug (ρ 20) (ρ 19 0) (ρ 17 0))) 21 (ug (ρ 21) (ρ 19 0) (u (ρ 17 0)))) 24 (ug (ρ 24) (ρ 19 0) 0)) 22 (ug (ρ 22) (ρ 19 0) (u (ρ 17 0 + 1) - 48))) 23 (ug (ρ 23) (ρ 19 0) (u (((ρ 17 0 + 1) + 1) + 1) - 48))) 18 (sc (1))) 17 (sc (((((ρ 17 0 + 1) + 1) + 1) + 1)))) 19 (sc (ρ 19 0 + 1))) ++ cs) := hD
                                  exact eMv hQ hx hb hr hlk hP hD hS (Nat.le_of_ble_eq_true rfl) (Nat.le_of_ble_eq_true rfl) dX12_readStatement_274 (⟨1, ((((ρ 17 0 + 1) + 1) + 1) + 1), (ug (ρ 22) (ρ 19 0) (u (ρ 17 0 + 1) - 48)), (ug (ρ 23) (ρ 19 0) (u (((ρ 17 0 + 1) + 1) + 1) - 48)), (ug (ρ 24) (ρ 19 0) 0), rfl, rfl, .inr ⟨by rw [stB_l c14]; unfold lB; omega, rfl, by rw [stB_l c14]; unfold lB; omega⟩, fun j q => ⟨by first | rw [ug_n q, ug_n q] | rw [ug_n q] | rfl, by first | rw [ug_n q, ug_n q] | rw [ug_n q] | rfl, by first | rw [ug_n q, ug_n q] | rw [ug_n q] | rfl⟩⟩)
                              · exfalso
                                omega
                          · have hP : va_P G gcl (wM am ty τ (up (up (up (up (up (up ρ 20 (ug (ρ 20) (ρ 19 0) (ρ 17 0))) 21 (ug (ρ 21) (ρ 19 0) (u (ρ 17 0)))) 24 (ug (ρ 24) (ρ 19 0) 0)) 22 (ug (ρ 22) (ρ 19 0) (u (ρ 17 0 + 1) - 48))) 18 (sc (1))) 17 (sc ((((ρ 17 0 + 1) + 1) + 1)))) ++ cs) H := hP
                            have hD : va_D A (wM am ty τ (up (up (up (up (up (up ρ 20 (ug (ρ 20) (ρ 19 0) (ρ 17 0))) 21 (ug (ρ 21) (ρ 19 0) (u (ρ 17 0)))) 24 (ug (ρ 24) (ρ 19 0) 0)) 22 (ug (ρ 22) (ρ 19 0) (u (ρ 17 0 + 1) - 48))) 18 (sc (1))) 17 (sc ((((ρ 17 0 + 1) + 1) + 1)))) ++ cs) := hD
                            have h215 : ¬ (48 ≤ u (((ρ 17 0 + 1) + 1) + 1) ∧ u (((ρ 17 0 + 1) + 1) + 1) ≤ 57) := h215
                            refine li_iast (g := (ρ 23)) (W2 := wM am ty τ (up (up (up (up (up (up (up ρ 20 (ug (ρ 20) (ρ 19 0) (ρ 17 0))) 21 (ug (ρ 21) (ρ 19 0) (u (ρ 17 0)))) 24 (ug (ρ 24) (ρ 19 0) 0)) 22 (ug (ρ 22) (ρ 19 0) (u (ρ 17 0 + 1) - 48))) 18 (sc (1))) 17 (sc ((((ρ 17 0 + 1) + 1) + 1)))) 23 (ug (ρ 23) (ρ 19 0) 0)) ++ cs) hx hb hK hP hD hS 12 0 (aM_12 _ _ _ _ _) rfl (by omega) (by omega) (by decide) rfl dX12_readStatement_218 (fun H locs hP hD hS => ?_)
                            refine lv_aload_n hx hb dX12_readStatement_219 rfl (lv_at hl 2 rfl) ?_
                            refine va_get (D := G) (ci := 11) (v := .int (ii 1)) (C := RX12) (T := TX12) (N := 52) hx hb hts in_X12 hown hK hP 0 (aM_0 _ _ _ _ _) rfl 18 (by decide) (hts _ q1283) (fun _ h9 => h9) rfl dX12_readStatement_220 ?_
                            refine li_if_ne (tgt := 258) hx hb ⟨by decide, by decide⟩ dX12_readStatement_223 (by decide) (fun c223 => ?_) (fun c223 => ?_)
                            · refine lv_aload_n hx hb dX12_readStatement_258 rfl (lv_at hl 2 rfl) ?_
                              refine li_bipush hx hb dX12_readStatement_259 (by decide) ?_
                              refine kM (va_runV (As := [.int (ii 59)]) (rest := []) ⟨hx, hb, hml, hown, hts⟩ ((m_takeM1 l G am ty τ (up (up (up (up (up (up (up ρ 20 (ug (ρ 20) (ρ 19 0) (ρ 17 0))) 21 (ug (ρ 21) (ρ 19 0) (u (ρ 17 0)))) 24 (ug (ρ 24) (ρ 19 0) 0)) 22 (ug (ρ 22) (ρ 19 0) (u (ρ 17 0 + 1) - 48))) 18 (sc (1))) 17 (sc ((((ρ 17 0 + 1) + 1) + 1)))) 23 (ug (ρ 23) (ρ 19 0) 0)) cs 59 (show 1 = 1 from rfl)) H.size) (cwV 1 hts (lw_V q1457 q1459 qs42 q87 q1460) rfl rfl rfl (by decide +kernel) ⟨Nat.le_of_ble_eq_true rfl, Nat.le_of_ble_eq_true rfl⟩) (pvM (r := (RX12, TX12, 52)) hK hP hD hX 0 (aM_0 _ _ _ _ _) rfl) rfl rfl hl.1 rfl (lv_room (Nat.le_of_ble_eq_true rfl)) dX12_readStatement_261 ⟨Nat.le_of_ble_eq_true rfl, Nat.le_of_ble_eq_true rfl⟩) hD hS hA (fun v ws1 H locs hv hP hD hS => ?_)
                              obtain ⟨rfl, rfl⟩ := hv
                              have hP : va_P G gcl (wM am ty τ (up (up (up (up (up (up (up ρ 20 (ug (ρ 20) (ρ 19 0) (ρ 17 0))) 21 (ug (ρ 21) (ρ 19 0) (u (ρ 17 0)))) 24 (ug (ρ 24) (ρ 19 0) 0)) 22 (ug (ρ 22) (ρ 19 0) (u (ρ 17 0 + 1) - 48))) 17 (sc ((((ρ 17 0 + 1) + 1) + 1)))) 23 (ug (ρ 23) (ρ 19 0) 0)) 18 (sc (1))) ++ cs) H := hP
                              have hD : va_D A (wM am ty τ (up (up (up (up (up (up (up ρ 20 (ug (ρ 20) (ρ 19 0) (ρ 17 0))) 21 (ug (ρ 21) (ρ 19 0) (u (ρ 17 0)))) 24 (ug (ρ 24) (ρ 19 0) 0)) 22 (ug (ρ 22) (ρ 19 0) (u (ρ 17 0 + 1) - 48))) 17 (sc ((((ρ 17 0 + 1) + 1) + 1)))) 23 (ug (ρ 23) (ρ 19 0) 0)) 18 (sc (1))) ++ cs) := hD
                              refine lv_aload_n hx hb dX12_readStatement_264 rfl (lv_at hl 2 rfl) ?_
                              refine lv_dup hx hb dX12_readStatement_265 rfl ?_
                              refine va_get (D := G) (ci := 11) (v := .int (ii (ρ 19 0))) (C := RX12) (T := TX12) (N := 52) hx hb hts in_X12 hown hK hP 0 (aM_0 _ _ _ _ _) rfl 19 (by decide) (hts _ q1284) (fun _ h9 => h9) rfl dX12_readStatement_266 ?_
                              refine li_iconst hx hb dX12_readStatement_269 ?_
                              refine li_add hx hb dX12_readStatement_270 ?_
                              refine va_put (D := G) (ci := 11) (v := .int (ii (ρ 19 0 + 1))) (ty := .int) (C := RX12) (T := TX12) (N := 52) hx hb hts in_X12 tyX12 tyX12_ok nmX12 hown hK hP hD hS 0 (aM_0 _ _ _ _ _) rfl 19 (by decide) (hts _ q1284) (fun _ h9 => h9) rfl (tyX12_ok 19 (by decide)) rfl rfl (Nat.le_of_ble_eq_true rfl) dX12_readStatement_271 (fun H locs hP hD hS => ?_)
                              have hP : va_P G gcl (wM am ty τ (up (up (up (up (up (up (up (up ρ 20 (ug (ρ 20) (ρ 19 0) (ρ 17 0))) 21 (ug (ρ 21) (ρ 19 0) (u (ρ 17 0)))) 24 (ug (ρ 24) (ρ 19 0) 0)) 22 (ug (ρ 22) (ρ 19 0) (u (ρ 17 0 + 1) - 48))) 17 (sc ((((ρ 17 0 + 1) + 1) + 1)))) 23 (ug (ρ 23) (ρ 19 0) 0)) 18 (sc (1))) 19 (sc (ρ 19 0 + 1))) ++ cs) H := hP
                              have hD : va_D A (wM am ty τ (up (up (up (up (up (up (up (up ρ 20 (ug (ρ 20) (ρ 19 0) (ρ 17 0))) 21 (ug (ρ 21) (ρ 19 0) (u (ρ 17 0)))) 24 (ug (ρ 24) (ρ 19 0) 0)) 22 (ug (ρ 22) (ρ 19 0) (u (ρ 17 0 + 1) - 48))) 17 (sc ((((ρ 17 0 + 1) + 1) + 1)))) 23 (ug (ρ 23) (ρ 19 0) 0)) 18 (sc (1))) 19 (sc (ρ 19 0 + 1))) ++ cs) := hD
                              exact eMv hQ hx hb hr hlk hP hD hS (Nat.le_of_ble_eq_true rfl) (Nat.le_of_ble_eq_true rfl) dX12_readStatement_274 (⟨1, (((ρ 17 0 + 1) + 1) + 1), (ug (ρ 22) (ρ 19 0) (u (ρ 17 0 + 1) - 48)), (ug (ρ 23) (ρ 19 0) 0), (ug (ρ 24) (ρ 19 0) 0), rfl, rfl, .inr ⟨by rw [stB_l c14]; unfold lB; omega, rfl, by rw [stB_l c14]; unfold lB; omega⟩, fun j q => ⟨by first | rw [ug_n q, ug_n q] | rw [ug_n q] | rfl, by first | rw [ug_n q, ug_n q] | rw [ug_n q] | rfl, by first | rw [ug_n q, ug_n q] | rw [ug_n q] | rfl⟩⟩)
                            · exact absurd c223 (by decide)
                        · exfalso
                          omega
                · have hP : va_P G gcl (wM am ty τ (up (up (up (up (up (up ρ 20 (ug (ρ 20) (ρ 19 0) (ρ 17 0))) 21 (ug (ρ 21) (ρ 19 0) (u (ρ 17 0)))) 24 (ug (ρ 24) (ρ 19 0) 0)) 22 (ug (ρ 22) (ρ 19 0) (u (ρ 17 0 + 1) - 48))) 18 (sc (1))) 17 (sc (((ρ 17 0 + 1) + 1)))) ++ cs) H := hP
                  have hD : va_D A (wM am ty τ (up (up (up (up (up (up ρ 20 (ug (ρ 20) (ρ 19 0) (ρ 17 0))) 21 (ug (ρ 21) (ρ 19 0) (u (ρ 17 0)))) 24 (ug (ρ 24) (ρ 19 0) 0)) 22 (ug (ρ 22) (ρ 19 0) (u (ρ 17 0 + 1) - 48))) 18 (sc (1))) 17 (sc (((ρ 17 0 + 1) + 1)))) ++ cs) := hD
                  have h174 : ¬ u ((ρ 17 0 + 1) + 1) = 32 := h174
                  refine lv_aload_n hx hb dX12_readStatement_177 rfl (lv_at hl 2 rfl) ?_
                  refine va_get (D := G) (ci := 11) (v := .int (ii 1)) (C := RX12) (T := TX12) (N := 52) hx hb hts in_X12 hown hK hP 0 (aM_0 _ _ _ _ _) rfl 18 (by decide) (hts _ q1283) (fun _ h9 => h9) rfl dX12_readStatement_178 ?_
                  refine li_if_ne (tgt := 219) hx hb ⟨by decide, by decide⟩ dX12_readStatement_181 (by decide) (fun c181 => ?_) (fun c181 => ?_)
                  · refine lv_aload_n hx hb dX12_readStatement_219 rfl (lv_at hl 2 rfl) ?_
                    refine va_get (D := G) (ci := 11) (v := .int (ii 1)) (C := RX12) (T := TX12) (N := 52) hx hb hts in_X12 hown hK hP 0 (aM_0 _ _ _ _ _) rfl 18 (by decide) (hts _ q1283) (fun _ h9 => h9) rfl dX12_readStatement_220 ?_
                    refine li_if_ne (tgt := 258) hx hb ⟨by decide, by decide⟩ dX12_readStatement_223 (by decide) (fun c223 => ?_) (fun c223 => ?_)
                    · refine lv_aload_n hx hb dX12_readStatement_258 rfl (lv_at hl 2 rfl) ?_
                      refine li_bipush hx hb dX12_readStatement_259 (by decide) ?_
                      refine kM (va_runV (As := [.int (ii 59)]) (rest := []) ⟨hx, hb, hml, hown, hts⟩ ((m_takeM1 l G am ty τ (up (up (up (up (up (up ρ 20 (ug (ρ 20) (ρ 19 0) (ρ 17 0))) 21 (ug (ρ 21) (ρ 19 0) (u (ρ 17 0)))) 24 (ug (ρ 24) (ρ 19 0) 0)) 22 (ug (ρ 22) (ρ 19 0) (u (ρ 17 0 + 1) - 48))) 18 (sc (1))) 17 (sc (((ρ 17 0 + 1) + 1)))) cs 59 (show 1 = 1 from rfl)) H.size) (cwV 1 hts (lw_V q1457 q1459 qs42 q87 q1460) rfl rfl rfl (by decide +kernel) ⟨Nat.le_of_ble_eq_true rfl, Nat.le_of_ble_eq_true rfl⟩) (pvM (r := (RX12, TX12, 52)) hK hP hD hX 0 (aM_0 _ _ _ _ _) rfl) rfl rfl hl.1 rfl (lv_room (Nat.le_of_ble_eq_true rfl)) dX12_readStatement_261 ⟨Nat.le_of_ble_eq_true rfl, Nat.le_of_ble_eq_true rfl⟩) hD hS hA (fun v ws1 H locs hv hP hD hS => ?_)
                      obtain ⟨rfl, rfl⟩ := hv
                      have hP : va_P G gcl (wM am ty τ (up (up (up (up (up (up ρ 20 (ug (ρ 20) (ρ 19 0) (ρ 17 0))) 21 (ug (ρ 21) (ρ 19 0) (u (ρ 17 0)))) 24 (ug (ρ 24) (ρ 19 0) 0)) 22 (ug (ρ 22) (ρ 19 0) (u (ρ 17 0 + 1) - 48))) 17 (sc (((ρ 17 0 + 1) + 1)))) 18 (sc (1))) ++ cs) H := hP
                      have hD : va_D A (wM am ty τ (up (up (up (up (up (up ρ 20 (ug (ρ 20) (ρ 19 0) (ρ 17 0))) 21 (ug (ρ 21) (ρ 19 0) (u (ρ 17 0)))) 24 (ug (ρ 24) (ρ 19 0) 0)) 22 (ug (ρ 22) (ρ 19 0) (u (ρ 17 0 + 1) - 48))) 17 (sc (((ρ 17 0 + 1) + 1)))) 18 (sc (1))) ++ cs) := hD
                      refine lv_aload_n hx hb dX12_readStatement_264 rfl (lv_at hl 2 rfl) ?_
                      refine lv_dup hx hb dX12_readStatement_265 rfl ?_
                      refine va_get (D := G) (ci := 11) (v := .int (ii (ρ 19 0))) (C := RX12) (T := TX12) (N := 52) hx hb hts in_X12 hown hK hP 0 (aM_0 _ _ _ _ _) rfl 19 (by decide) (hts _ q1284) (fun _ h9 => h9) rfl dX12_readStatement_266 ?_
                      refine li_iconst hx hb dX12_readStatement_269 ?_
                      refine li_add hx hb dX12_readStatement_270 ?_
                      refine va_put (D := G) (ci := 11) (v := .int (ii (ρ 19 0 + 1))) (ty := .int) (C := RX12) (T := TX12) (N := 52) hx hb hts in_X12 tyX12 tyX12_ok nmX12 hown hK hP hD hS 0 (aM_0 _ _ _ _ _) rfl 19 (by decide) (hts _ q1284) (fun _ h9 => h9) rfl (tyX12_ok 19 (by decide)) rfl rfl (Nat.le_of_ble_eq_true rfl) dX12_readStatement_271 (fun H locs hP hD hS => ?_)
                      have hP : va_P G gcl (wM am ty τ (up (up (up (up (up (up (up ρ 20 (ug (ρ 20) (ρ 19 0) (ρ 17 0))) 21 (ug (ρ 21) (ρ 19 0) (u (ρ 17 0)))) 24 (ug (ρ 24) (ρ 19 0) 0)) 22 (ug (ρ 22) (ρ 19 0) (u (ρ 17 0 + 1) - 48))) 17 (sc (((ρ 17 0 + 1) + 1)))) 18 (sc (1))) 19 (sc (ρ 19 0 + 1))) ++ cs) H := hP
                      have hD : va_D A (wM am ty τ (up (up (up (up (up (up (up ρ 20 (ug (ρ 20) (ρ 19 0) (ρ 17 0))) 21 (ug (ρ 21) (ρ 19 0) (u (ρ 17 0)))) 24 (ug (ρ 24) (ρ 19 0) 0)) 22 (ug (ρ 22) (ρ 19 0) (u (ρ 17 0 + 1) - 48))) 17 (sc (((ρ 17 0 + 1) + 1)))) 18 (sc (1))) 19 (sc (ρ 19 0 + 1))) ++ cs) := hD
                      exact eMv hQ hx hb hr hlk hP hD hS (Nat.le_of_ble_eq_true rfl) (Nat.le_of_ble_eq_true rfl) dX12_readStatement_274 (⟨1, ((ρ 17 0 + 1) + 1), (ug (ρ 22) (ρ 19 0) (u (ρ 17 0 + 1) - 48)), (ρ 23), (ug (ρ 24) (ρ 19 0) 0), rfl, rfl, .inr ⟨by rw [stB_l c14]; unfold lB; omega, rfl, by rw [stB_l c14]; unfold lB; omega⟩, fun j q => ⟨by first | rw [ug_n q, ug_n q] | rw [ug_n q] | rfl, by first | rw [ug_n q, ug_n q] | rw [ug_n q] | rfl, by first | rw [ug_n q, ug_n q] | rw [ug_n q] | rfl⟩⟩)
                    · exact absurd c223 (by decide)
                  · exact absurd c181 (by decide)
              · exfalso
                omega
          · have hP : va_P G gcl (wM am ty τ (up (up (up (up (up ρ 20 (ug (ρ 20) (ρ 19 0) (ρ 17 0))) 21 (ug (ρ 21) (ρ 19 0) (u (ρ 17 0)))) 24 (ug (ρ 24) (ρ 19 0) 0)) 18 (sc (1))) 17 (sc ((ρ 17 0 + 1)))) ++ cs) H := hP
            have hD : va_D A (wM am ty τ (up (up (up (up (up ρ 20 (ug (ρ 20) (ρ 19 0) (ρ 17 0))) 21 (ug (ρ 21) (ρ 19 0) (u (ρ 17 0)))) 24 (ug (ρ 24) (ρ 19 0) 0)) 18 (sc (1))) 17 (sc ((ρ 17 0 + 1)))) ++ cs) := hD
            have h135 : ¬ (48 ≤ u (ρ 17 0 + 1) ∧ u (ρ 17 0 + 1) ≤ 57) := h135
            refine lv_goto (tgt := 145) hx hb dX12_readStatement_138 (by decide) ?_
            refine li_iast (g := (ρ 22)) (W2 := wM am ty τ (up (up (up (up (up (up ρ 20 (ug (ρ 20) (ρ 19 0) (ρ 17 0))) 21 (ug (ρ 21) (ρ 19 0) (u (ρ 17 0)))) 24 (ug (ρ 24) (ρ 19 0) 0)) 18 (sc (1))) 17 (sc ((ρ 17 0 + 1)))) 22 (ug (ρ 22) (ρ 19 0) 0)) ++ cs) hx hb hK hP hD hS 11 0 (aM_11 _ _ _ _ _) rfl (by omega) (by omega) (by decide) rfl dX12_readStatement_145 (fun H locs hP hD hS => ?_)
            refine lv_aload_n hx hb dX12_readStatement_146 rfl (lv_at hl 2 rfl) ?_
            refine va_get (D := G) (ci := 11) (v := .int (ii 1)) (C := RX12) (T := TX12) (N := 52) hx hb hts in_X12 hown hK hP 0 (aM_0 _ _ _ _ _) rfl 18 (by decide) (hts _ q1283) (fun _ h9 => h9) rfl dX12_readStatement_147 ?_
            refine li_if_ne (tgt := 177) hx hb ⟨by decide, by decide⟩ dX12_readStatement_150 (by decide) (fun c150 => ?_) (fun c150 => ?_)
            · refine lv_aload_n hx hb dX12_readStatement_177 rfl (lv_at hl 2 rfl) ?_
              refine va_get (D := G) (ci := 11) (v := .int (ii 1)) (C := RX12) (T := TX12) (N := 52) hx hb hts in_X12 hown hK hP 0 (aM_0 _ _ _ _ _) rfl 18 (by decide) (hts _ q1283) (fun _ h9 => h9) rfl dX12_readStatement_178 ?_
              refine li_if_ne (tgt := 219) hx hb ⟨by decide, by decide⟩ dX12_readStatement_181 (by decide) (fun c181 => ?_) (fun c181 => ?_)
              · refine lv_aload_n hx hb dX12_readStatement_219 rfl (lv_at hl 2 rfl) ?_
                refine va_get (D := G) (ci := 11) (v := .int (ii 1)) (C := RX12) (T := TX12) (N := 52) hx hb hts in_X12 hown hK hP 0 (aM_0 _ _ _ _ _) rfl 18 (by decide) (hts _ q1283) (fun _ h9 => h9) rfl dX12_readStatement_220 ?_
                refine li_if_ne (tgt := 258) hx hb ⟨by decide, by decide⟩ dX12_readStatement_223 (by decide) (fun c223 => ?_) (fun c223 => ?_)
                · refine lv_aload_n hx hb dX12_readStatement_258 rfl (lv_at hl 2 rfl) ?_
                  refine li_bipush hx hb dX12_readStatement_259 (by decide) ?_
                  refine kM (va_runV (As := [.int (ii 59)]) (rest := []) ⟨hx, hb, hml, hown, hts⟩ ((m_takeM1 l G am ty τ (up (up (up (up (up (up ρ 20 (ug (ρ 20) (ρ 19 0) (ρ 17 0))) 21 (ug (ρ 21) (ρ 19 0) (u (ρ 17 0)))) 24 (ug (ρ 24) (ρ 19 0) 0)) 18 (sc (1))) 17 (sc ((ρ 17 0 + 1)))) 22 (ug (ρ 22) (ρ 19 0) 0)) cs 59 (show 1 = 1 from rfl)) H.size) (cwV 1 hts (lw_V q1457 q1459 qs42 q87 q1460) rfl rfl rfl (by decide +kernel) ⟨Nat.le_of_ble_eq_true rfl, Nat.le_of_ble_eq_true rfl⟩) (pvM (r := (RX12, TX12, 52)) hK hP hD hX 0 (aM_0 _ _ _ _ _) rfl) rfl rfl hl.1 rfl (lv_room (Nat.le_of_ble_eq_true rfl)) dX12_readStatement_261 ⟨Nat.le_of_ble_eq_true rfl, Nat.le_of_ble_eq_true rfl⟩) hD hS hA (fun v ws1 H locs hv hP hD hS => ?_)
                  obtain ⟨rfl, rfl⟩ := hv
                  have hP : va_P G gcl (wM am ty τ (up (up (up (up (up (up ρ 20 (ug (ρ 20) (ρ 19 0) (ρ 17 0))) 21 (ug (ρ 21) (ρ 19 0) (u (ρ 17 0)))) 24 (ug (ρ 24) (ρ 19 0) 0)) 17 (sc ((ρ 17 0 + 1)))) 22 (ug (ρ 22) (ρ 19 0) 0)) 18 (sc (1))) ++ cs) H := hP
                  have hD : va_D A (wM am ty τ (up (up (up (up (up (up ρ 20 (ug (ρ 20) (ρ 19 0) (ρ 17 0))) 21 (ug (ρ 21) (ρ 19 0) (u (ρ 17 0)))) 24 (ug (ρ 24) (ρ 19 0) 0)) 17 (sc ((ρ 17 0 + 1)))) 22 (ug (ρ 22) (ρ 19 0) 0)) 18 (sc (1))) ++ cs) := hD
                  refine lv_aload_n hx hb dX12_readStatement_264 rfl (lv_at hl 2 rfl) ?_
                  refine lv_dup hx hb dX12_readStatement_265 rfl ?_
                  refine va_get (D := G) (ci := 11) (v := .int (ii (ρ 19 0))) (C := RX12) (T := TX12) (N := 52) hx hb hts in_X12 hown hK hP 0 (aM_0 _ _ _ _ _) rfl 19 (by decide) (hts _ q1284) (fun _ h9 => h9) rfl dX12_readStatement_266 ?_
                  refine li_iconst hx hb dX12_readStatement_269 ?_
                  refine li_add hx hb dX12_readStatement_270 ?_
                  refine va_put (D := G) (ci := 11) (v := .int (ii (ρ 19 0 + 1))) (ty := .int) (C := RX12) (T := TX12) (N := 52) hx hb hts in_X12 tyX12 tyX12_ok nmX12 hown hK hP hD hS 0 (aM_0 _ _ _ _ _) rfl 19 (by decide) (hts _ q1284) (fun _ h9 => h9) rfl (tyX12_ok 19 (by decide)) rfl rfl (Nat.le_of_ble_eq_true rfl) dX12_readStatement_271 (fun H locs hP hD hS => ?_)
                  have hP : va_P G gcl (wM am ty τ (up (up (up (up (up (up (up ρ 20 (ug (ρ 20) (ρ 19 0) (ρ 17 0))) 21 (ug (ρ 21) (ρ 19 0) (u (ρ 17 0)))) 24 (ug (ρ 24) (ρ 19 0) 0)) 17 (sc ((ρ 17 0 + 1)))) 22 (ug (ρ 22) (ρ 19 0) 0)) 18 (sc (1))) 19 (sc (ρ 19 0 + 1))) ++ cs) H := hP
                  have hD : va_D A (wM am ty τ (up (up (up (up (up (up (up ρ 20 (ug (ρ 20) (ρ 19 0) (ρ 17 0))) 21 (ug (ρ 21) (ρ 19 0) (u (ρ 17 0)))) 24 (ug (ρ 24) (ρ 19 0) 0)) 17 (sc ((ρ 17 0 + 1)))) 22 (ug (ρ 22) (ρ 19 0) 0)) 18 (sc (1))) 19 (sc (ρ 19 0 + 1))) ++ cs) := hD
                  exact eMv hQ hx hb hr hlk hP hD hS (Nat.le_of_ble_eq_true rfl) (Nat.le_of_ble_eq_true rfl) dX12_readStatement_274 (⟨1, (ρ 17 0 + 1), (ug (ρ 22) (ρ 19 0) 0), (ρ 23), (ug (ρ 24) (ρ 19 0) 0), rfl, rfl, .inr ⟨by rw [stB_l c14]; unfold lB; omega, rfl, by rw [stB_l c14]; unfold lB; omega⟩, fun j q => ⟨by first | rw [ug_n q, ug_n q] | rw [ug_n q] | rfl, by first | rw [ug_n q, ug_n q] | rw [ug_n q] | rfl, by first | rw [ug_n q, ug_n q] | rw [ug_n q] | rfl⟩⟩)
                · exact absurd c223 (by decide)
              · exact absurd c181 (by decide)
            · exact absurd c150 (by decide)
        · exfalso
          omega
      · exact absurd c109 (by decide)
    · exact absurd c88 (by decide)
  · refine lv_iload_n hx hb dX12_readStatement_17 rfl (lv_at hl 1 rfl) ?_
    refine li_bipush hx hb dX12_readStatement_18 (by decide) ?_
    refine li_icmp_eq (tgt := 51) hx hb ⟨Int.le_trans (by decide) hzb1.1, Int.le_trans hzb1.2 (by decide)⟩ ⟨by decide, by decide⟩ dX12_readStatement_20 (by decide) (fun c20 => ?_) (fun c20 => ?_)
    · refine li_iconst hx hb dX12_readStatement_51 ?_
      refine va_put (D := G) (ci := 11) (v := .int (ii 0)) (ty := .boolean) (C := RX12) (T := TX12) (N := 52) hx hb hts in_X12 tyX12 tyX12_ok nmX12 hown hK hP hD hS 0 (aM_0 _ _ _ _ _) rfl 18 (by decide) (hts _ q1283) (fun _ h9 => h9) rfl (tyX12_ok 18 (by decide)) (nrw_z (by omega)) (fit_z (by omega)) (Nat.le_of_ble_eq_true rfl) dX12_readStatement_52 (fun H locs hP hD hS => ?_)
      have hP : va_P G gcl (wM am ty τ (up ρ 18 (sc (0))) ++ cs) H := hP
      have hD : va_D A (wM am ty τ (up ρ 18 (sc (0))) ++ cs) := hD
      refine lv_aload_n hx hb dX12_readStatement_55 rfl (lv_at hl 2 rfl) ?_
      refine va_get (D := G) (ci := 11) (v := .ref (am 9)) (C := RX12) (T := TX12) (N := 52) hx hb hts in_X12 hown hK hP 0 (aM_0 _ _ _ _ _) rfl 20 (by decide) (hts _ q1285) (fun _ h9 => h9) rfl dX12_readStatement_56 ?_
      refine lv_iload_n hx hb dX12_readStatement_59 rfl (lv_at hl 0 rfl) ?_
      refine lv_aload_n hx hb dX12_readStatement_60 rfl (lv_at hl 2 rfl) ?_
      refine va_get (D := G) (ci := 11) (v := .int (ii (ρ 17 0))) (C := RX12) (T := TX12) (N := 52) hx hb hts in_X12 hown hK hP 0 (aM_0 _ _ _ _ _) rfl 17 (by decide) (hts _ q1282) (fun _ h9 => h9) rfl dX12_readStatement_61 ?_
      refine li_iast (g := (ρ 20)) (W2 := wM am ty τ (up (up ρ 18 (sc (0))) 20 (ug (ρ 20) (ρ 19 0) (ρ 17 0))) ++ cs) hx hb hK hP hD hS 9 0 (aM_9 _ _ _ _ _) rfl (by omega) (by omega) (by decide) rfl dX12_readStatement_64 (fun H locs hP hD hS => ?_)
      refine lv_aload_n hx hb dX12_readStatement_65 rfl (lv_at hl 2 rfl) ?_
      refine va_get (D := G) (ci := 11) (v := .ref (am 10)) (C := RX12) (T := TX12) (N := 52) hx hb hts in_X12 hown hK hP 0 (aM_0 _ _ _ _ _) rfl 21 (by decide) (hts _ q1286) (fun _ h9 => h9) rfl dX12_readStatement_66 ?_
      refine lv_iload_n hx hb dX12_readStatement_69 rfl (lv_at hl 0 rfl) ?_
      refine lv_iload_n hx hb dX12_readStatement_70 rfl (lv_at hl 1 rfl) ?_
      refine li_iast (g := (ρ 21)) (W2 := wM am ty τ (up (up (up ρ 18 (sc (0))) 20 (ug (ρ 20) (ρ 19 0) (ρ 17 0))) 21 (ug (ρ 21) (ρ 19 0) (u (ρ 17 0)))) ++ cs) hx hb hK hP hD hS 10 0 (aM_10 _ _ _ _ _) rfl (by omega) (by omega) (by decide) rfl dX12_readStatement_71 (fun H locs hP hD hS => ?_)
      refine lv_aload_n hx hb dX12_readStatement_72 rfl (lv_at hl 2 rfl) ?_
      refine va_get (D := G) (ci := 11) (v := .ref (am 13)) (C := RX12) (T := TX12) (N := 52) hx hb hts in_X12 hown hK hP 0 (aM_0 _ _ _ _ _) rfl 24 (by decide) (hts _ q1289) (fun _ h9 => h9) rfl dX12_readStatement_73 ?_
      refine lv_iload_n hx hb dX12_readStatement_76 rfl (lv_at hl 0 rfl) ?_
      refine li_iconst hx hb dX12_readStatement_77 ?_
      refine li_zast (g := (ρ 24)) (W2 := wM am ty τ (up (up (up (up ρ 18 (sc (0))) 20 (ug (ρ 20) (ρ 19 0) (ρ 17 0))) 21 (ug (ρ 21) (ρ 19 0) (u (ρ 17 0)))) 24 (ug (ρ 24) (ρ 19 0) 0)) ++ cs) hx hb hK hP hD hS 13 1 (aM_13 _ _ _ _ _) rfl (by omega) (by omega) (by decide) (by omega) rfl dX12_readStatement_78 (fun H locs hP hD hS => ?_)
      refine lv_aload_n hx hb dX12_readStatement_79 rfl (lv_at hl 2 rfl) ?_
      refine lv_dup hx hb dX12_readStatement_80 rfl ?_
      refine va_get (D := G) (ci := 11) (v := .int (ii (ρ 17 0))) (C := RX12) (T := TX12) (N := 52) hx hb hts in_X12 hown hK hP 0 (aM_0 _ _ _ _ _) rfl 17 (by decide) (hts _ q1282) (fun _ h9 => h9) rfl dX12_readStatement_81 ?_
      refine lv_aload_n hx hb dX12_readStatement_84 rfl (lv_at hl 2 rfl) ?_
      refine va_get (D := G) (ci := 11) (v := .int (ii 0)) (C := RX12) (T := TX12) (N := 52) hx hb hts in_X12 hown hK hP 0 (aM_0 _ _ _ _ _) rfl 18 (by decide) (hts _ q1283) (fun _ h9 => h9) rfl dX12_readStatement_85 ?_
      refine li_if_eq (tgt := 95) hx hb ⟨by decide, by decide⟩ dX12_readStatement_88 (by decide) (fun c88 => ?_) (fun c88 => ?_)
      · refine li_iconst hx hb dX12_readStatement_95 ?_
        refine li_add hx hb dX12_readStatement_96 ?_
        refine va_put (D := G) (ci := 11) (v := .int (ii (ρ 17 0 + 1))) (ty := .int) (C := RX12) (T := TX12) (N := 52) hx hb hts in_X12 tyX12 tyX12_ok nmX12 hown hK hP hD hS 0 (aM_0 _ _ _ _ _) rfl 17 (by decide) (hts _ q1282) (fun _ h9 => h9) rfl (tyX12_ok 17 (by decide)) rfl rfl (Nat.le_of_ble_eq_true rfl) dX12_readStatement_97 (fun H locs hP hD hS => ?_)
        have hP : va_P G gcl (wM am ty τ (up (up (up (up (up ρ 18 (sc (0))) 20 (ug (ρ 20) (ρ 19 0) (ρ 17 0))) 21 (ug (ρ 21) (ρ 19 0) (u (ρ 17 0)))) 24 (ug (ρ 24) (ρ 19 0) 0)) 17 (sc (ρ 17 0 + 1))) ++ cs) H := hP
        have hD : va_D A (wM am ty τ (up (up (up (up (up ρ 18 (sc (0))) 20 (ug (ρ 20) (ρ 19 0) (ρ 17 0))) 21 (ug (ρ 21) (ρ 19 0) (u (ρ 17 0)))) 24 (ug (ρ 24) (ρ 19 0) 0)) 17 (sc (ρ 17 0 + 1))) ++ cs) := hD
        refine lv_aload_n hx hb dX12_readStatement_100 rfl (lv_at hl 2 rfl) ?_
        refine va_get (D := G) (ci := 11) (v := .ref (am 11)) (C := RX12) (T := TX12) (N := 52) hx hb hts in_X12 hown hK hP 0 (aM_0 _ _ _ _ _) rfl 22 (by decide) (hts _ q1287) (fun _ h9 => h9) rfl dX12_readStatement_101 ?_
        refine lv_iload_n hx hb dX12_readStatement_104 rfl (lv_at hl 0 rfl) ?_
        refine lv_aload_n hx hb dX12_readStatement_105 rfl (lv_at hl 2 rfl) ?_
        refine va_get (D := G) (ci := 11) (v := .int (ii 0)) (C := RX12) (T := TX12) (N := 52) hx hb hts in_X12 hown hK hP 0 (aM_0 _ _ _ _ _) rfl 18 (by decide) (hts _ q1283) (fun _ h9 => h9) rfl dX12_readStatement_106 ?_
        refine li_if_eq (tgt := 116) hx hb ⟨by decide, by decide⟩ dX12_readStatement_109 (by decide) (fun c109 => ?_) (fun c109 => ?_)
        · refine lv_iload_n hx hb dX12_readStatement_116 rfl (lv_at hl 1 rfl) ?_
          refine li_bipush hx hb dX12_readStatement_117 (by decide) ?_
          refine li_icmp_eq (tgt := 134) hx hb ⟨Int.le_trans (by decide) hzb1.1, Int.le_trans hzb1.2 (by decide)⟩ ⟨by decide, by decide⟩ dX12_readStatement_119 (by decide) (fun c119 => ?_) (fun c119 => ?_)
          · exfalso
            omega
          · refine lv_iload_n hx hb dX12_readStatement_122 rfl (lv_at hl 1 rfl) ?_
            refine li_bipush hx hb dX12_readStatement_123 (by decide) ?_
            refine li_icmp_eq (tgt := 134) hx hb ⟨Int.le_trans (by decide) hzb1.1, Int.le_trans hzb1.2 (by decide)⟩ ⟨by decide, by decide⟩ dX12_readStatement_125 (by decide) (fun c125 => ?_) (fun c125 => ?_)
            · refine lv_aload_n hx hb dX12_readStatement_134 rfl (lv_at hl 2 rfl) ?_
              refine kM (va_runV (As := []) (rest := [.int (ii (ρ 19 0)), .ref (am 11)]) ⟨hx, hb, hml, hown, hts⟩ ((m_readDigitM l G am ty τ (up (up (up (up (up ρ 18 (sc (0))) 20 (ug (ρ 20) (ρ 19 0) (ρ 17 0))) 21 (ug (ρ 21) (ρ 19 0) (u (ρ 17 0)))) 24 (ug (ρ 24) (ρ 19 0) 0)) 17 (sc (ρ 17 0 + 1))) cs _ hu (show 0 ≤ (ρ 17 0 + 1) ∧ (ρ 17 0 + 1) ≤ 110 from (by have q1 := nmE_b u (ρ 17 0 + 1); have q2 := nmE_b u (ρ 17 0 + 1 + 1 + 1); exact ⟨by omega, by omega⟩)) (show 0 ≤ (ρ 15 0) ∧ (ρ 15 0) ≤ 700 ∧ 0 ≤ (ρ 16 0) ∧ (ρ 16 0) ≤ 100 from hbe) (show ∀ x, 0 ≤ x → x < (ρ 16 0) → -128 ≤ (τ 50) ((ρ 15 0) + x) ∧ (τ 50) ((ρ 15 0) + x) ≤ 127 from hby) (show 0 = 0 from rfl)) H.size) (cwV 0 hts (lw_V q1447 q1449 qs40 q87 q1450) rfl rfl rfl (by decide +kernel) ⟨Nat.le_of_ble_eq_true rfl, Nat.le_of_ble_eq_true rfl⟩) (pvM (r := (RX12, TX12, 52)) hK hP hD hX 0 (aM_0 _ _ _ _ _) rfl) rfl rfl hl.1 rfl (lv_room (Nat.le_of_ble_eq_true rfl)) dX12_readStatement_135 ⟨Nat.le_of_ble_eq_true rfl, Nat.le_of_ble_eq_true rfl⟩) hD hS hA (fun v ws1 H locs hv hP hD hS => ?_)
              obtain ⟨z135, b135, a135, rfl, rfl, ⟨h135, rfl, rfl, rfl⟩ | ⟨h135, rfl, rfl, rfl⟩⟩ := hv
              · have hP : va_P G gcl (wM am ty τ (up (up (up (up (up ρ 20 (ug (ρ 20) (ρ 19 0) (ρ 17 0))) 21 (ug (ρ 21) (ρ 19 0) (u (ρ 17 0)))) 24 (ug (ρ 24) (ρ 19 0) 0)) 18 (sc (0))) 17 (sc ((ρ 17 0 + 1) + 1))) ++ cs) H := hP
                have hD : va_D A (wM am ty τ (up (up (up (up (up ρ 20 (ug (ρ 20) (ρ 19 0) (ρ 17 0))) 21 (ug (ρ 21) (ρ 19 0) (u (ρ 17 0)))) 24 (ug (ρ 24) (ρ 19 0) 0)) 18 (sc (0))) 17 (sc ((ρ 17 0 + 1) + 1))) ++ cs) := hD
                have h135 : 48 ≤ u (ρ 17 0 + 1) ∧ u (ρ 17 0 + 1) ≤ 57 := h135
                refine lv_goto (tgt := 145) hx hb dX12_readStatement_138 (by decide) ?_
                refine li_iast (g := (ρ 22)) (W2 := wM am ty τ (up (up (up (up (up (up ρ 20 (ug (ρ 20) (ρ 19 0) (ρ 17 0))) 21 (ug (ρ 21) (ρ 19 0) (u (ρ 17 0)))) 24 (ug (ρ 24) (ρ 19 0) 0)) 18 (sc (0))) 17 (sc ((ρ 17 0 + 1) + 1))) 22 (ug (ρ 22) (ρ 19 0) (u (ρ 17 0 + 1) - 48))) ++ cs) hx hb hK hP hD hS 11 0 (aM_11 _ _ _ _ _) rfl (by omega) (by omega) (by decide) rfl dX12_readStatement_145 (fun H locs hP hD hS => ?_)
                refine lv_aload_n hx hb dX12_readStatement_146 rfl (lv_at hl 2 rfl) ?_
                refine va_get (D := G) (ci := 11) (v := .int (ii 0)) (C := RX12) (T := TX12) (N := 52) hx hb hts in_X12 hown hK hP 0 (aM_0 _ _ _ _ _) rfl 18 (by decide) (hts _ q1283) (fun _ h9 => h9) rfl dX12_readStatement_147 ?_
                refine li_if_ne (tgt := 177) hx hb ⟨by decide, by decide⟩ dX12_readStatement_150 (by decide) (fun c150 => ?_) (fun c150 => ?_)
                · exact absurd c150 (by decide)
                · refine lv_iload_n hx hb dX12_readStatement_153 rfl (lv_at hl 1 rfl) ?_
                  refine li_bipush hx hb dX12_readStatement_154 (by decide) ?_
                  refine li_icmp_eq (tgt := 171) hx hb ⟨Int.le_trans (by decide) hzb1.1, Int.le_trans hzb1.2 (by decide)⟩ ⟨by decide, by decide⟩ dX12_readStatement_156 (by decide) (fun c156 => ?_) (fun c156 => ?_)
                  · exfalso
                    omega
                  · refine lv_iload_n hx hb dX12_readStatement_159 rfl (lv_at hl 1 rfl) ?_
                    refine li_bipush hx hb dX12_readStatement_160 (by decide) ?_
                    refine li_icmp_eq (tgt := 171) hx hb ⟨Int.le_trans (by decide) hzb1.1, Int.le_trans hzb1.2 (by decide)⟩ ⟨by decide, by decide⟩ dX12_readStatement_162 (by decide) (fun c162 => ?_) (fun c162 => ?_)
                    · refine lv_aload_n hx hb dX12_readStatement_171 rfl (lv_at hl 2 rfl) ?_
                      refine li_bipush hx hb dX12_readStatement_172 (by decide) ?_
                      refine kM (va_runV (As := [.int (ii 32)]) (rest := []) ⟨hx, hb, hml, hown, hts⟩ ((m_takeM0 l G am ty τ (up (up (up (up (up (up ρ 20 (ug (ρ 20) (ρ 19 0) (ρ 17 0))) 21 (ug (ρ 21) (ρ 19 0) (u (ρ 17 0)))) 24 (ug (ρ 24) (ρ 19 0) 0)) 18 (sc (0))) 17 (sc ((ρ 17 0 + 1) + 1))) 22 (ug (ρ 22) (ρ 19 0) (u (ρ 17 0 + 1) - 48))) cs 32 _ hu (show 0 ≤ ((ρ 17 0 + 1) + 1) ∧ ((ρ 17 0 + 1) + 1) ≤ 110 from (by have q1 := nmE_b u (ρ 17 0 + 1); have q2 := nmE_b u (ρ 17 0 + 1 + 1 + 1); exact ⟨by omega, by omega⟩)) (show 0 ≤ (ρ 15 0) ∧ (ρ 15 0) ≤ 700 ∧ 0 ≤ (ρ 16 0) ∧ (ρ 16 0) ≤ 100 from hbe) (show rg 32 from ⟨by decide, by decide⟩) (show 0 = 0 from rfl)) H.size) (cwV 1 hts (lw_V q1457 q1459 qs42 q87 q1460) rfl rfl rfl (by decide +kernel) ⟨Nat.le_of_ble_eq_true rfl, Nat.le_of_ble_eq_true rfl⟩) (pvM (r := (RX12, TX12, 52)) hK hP hD hX 0 (aM_0 _ _ _ _ _) rfl) rfl rfl hl.1 rfl (lv_room (Nat.le_of_ble_eq_true rfl)) dX12_readStatement_174 ⟨Nat.le_of_ble_eq_true rfl, Nat.le_of_ble_eq_true rfl⟩) hD hS hA (fun v ws1 H locs hv hP hD hS => ?_)
                      obtain ⟨b174, a174, rfl, rfl, ⟨h174, rfl, rfl⟩ | ⟨h174, rfl, rfl⟩⟩ := hv
                      · have hP : va_P G gcl (wM am ty τ (up (up (up (up (up (up ρ 20 (ug (ρ 20) (ρ 19 0) (ρ 17 0))) 21 (ug (ρ 21) (ρ 19 0) (u (ρ 17 0)))) 24 (ug (ρ 24) (ρ 19 0) 0)) 22 (ug (ρ 22) (ρ 19 0) (u (ρ 17 0 + 1) - 48))) 18 (sc (0))) 17 (sc (((ρ 17 0 + 1) + 1) + 1))) ++ cs) H := hP
                        have hD : va_D A (wM am ty τ (up (up (up (up (up (up ρ 20 (ug (ρ 20) (ρ 19 0) (ρ 17 0))) 21 (ug (ρ 21) (ρ 19 0) (u (ρ 17 0)))) 24 (ug (ρ 24) (ρ 19 0) 0)) 22 (ug (ρ 22) (ρ 19 0) (u (ρ 17 0 + 1) - 48))) 18 (sc (0))) 17 (sc (((ρ 17 0 + 1) + 1) + 1))) ++ cs) := hD
                        have h174 : u ((ρ 17 0 + 1) + 1) = 32 := h174
                        refine lv_aload_n hx hb dX12_readStatement_177 rfl (lv_at hl 2 rfl) ?_
                        refine va_get (D := G) (ci := 11) (v := .int (ii 0)) (C := RX12) (T := TX12) (N := 52) hx hb hts in_X12 hown hK hP 0 (aM_0 _ _ _ _ _) rfl 18 (by decide) (hts _ q1283) (fun _ h9 => h9) rfl dX12_readStatement_178 ?_
                        refine li_if_ne (tgt := 219) hx hb ⟨by decide, by decide⟩ dX12_readStatement_181 (by decide) (fun c181 => ?_) (fun c181 => ?_)
                        · exact absurd c181 (by decide)
                        · refine lv_iload_n hx hb dX12_readStatement_184 rfl (lv_at hl 1 rfl) ?_
                          refine li_bipush hx hb dX12_readStatement_185 (by decide) ?_
                          refine li_icmp_eq (tgt := 219) hx hb ⟨Int.le_trans (by decide) hzb1.1, Int.le_trans hzb1.2 (by decide)⟩ ⟨by decide, by decide⟩ dX12_readStatement_187 (by decide) (fun c187 => ?_) (fun c187 => ?_)
                          · exfalso
                            omega
                          · refine lv_iload_n hx hb dX12_readStatement_190 rfl (lv_at hl 1 rfl) ?_
                            refine li_bipush hx hb dX12_readStatement_191 (by decide) ?_
                            refine li_icmp_eq (tgt := 219) hx hb ⟨Int.le_trans (by decide) hzb1.1, Int.le_trans hzb1.2 (by decide)⟩ ⟨by decide, by decide⟩ dX12_readStatement_193 (by decide) (fun c193 => ?_) (fun c193 => ?_)
                            · exfalso
                              omega
                            · refine lv_aload_n hx hb dX12_readStatement_196 rfl (lv_at hl 2 rfl) ?_
                              refine va_get (D := G) (ci := 11) (v := .ref (am 12)) (C := RX12) (T := TX12) (N := 52) hx hb hts in_X12 hown hK hP 0 (aM_0 _ _ _ _ _) rfl 23 (by decide) (hts _ q1288) (fun _ h9 => h9) rfl dX12_readStatement_197 ?_
                              refine lv_iload_n hx hb dX12_readStatement_200 rfl (lv_at hl 0 rfl) ?_
                              refine lv_iload_n hx hb dX12_readStatement_201 rfl (lv_at hl 1 rfl) ?_
                              refine li_bipush hx hb dX12_readStatement_202 (by decide) ?_
                              refine li_icmp_ne (tgt := 214) hx hb ⟨Int.le_trans (by decide) hzb1.1, Int.le_trans hzb1.2 (by decide)⟩ ⟨by decide, by decide⟩ dX12_readStatement_204 (by decide) (fun c204 => ?_) (fun c204 => ?_)
                              · exfalso
                                omega
                              · refine lv_aload_n hx hb dX12_readStatement_207 rfl (lv_at hl 2 rfl) ?_
                                refine kM (va_runV (As := []) (rest := [.int (ii (ρ 19 0)), .ref (am 12)]) ⟨hx, hb, hml, hown, hts⟩ ((m_readNumberM l G am ty τ (up (up (up (up (up (up ρ 20 (ug (ρ 20) (ρ 19 0) (ρ 17 0))) 21 (ug (ρ 21) (ρ 19 0) (u (ρ 17 0)))) 24 (ug (ρ 24) (ρ 19 0) 0)) 22 (ug (ρ 22) (ρ 19 0) (u (ρ 17 0 + 1) - 48))) 18 (sc (0))) 17 (sc (((ρ 17 0 + 1) + 1) + 1))) cs _ hu (show 0 ≤ (((ρ 17 0 + 1) + 1) + 1) ∧ (((ρ 17 0 + 1) + 1) + 1) ≤ 110 from (by have q1 := nmE_b u (ρ 17 0 + 1); have q2 := nmE_b u (ρ 17 0 + 1 + 1 + 1); exact ⟨by omega, by omega⟩)) (show 0 ≤ (ρ 15 0) ∧ (ρ 15 0) ≤ 700 ∧ 0 ≤ (ρ 16 0) ∧ (ρ 16 0) ≤ 100 from hbe) (show ∀ x, 0 ≤ x → x < (ρ 16 0) → -128 ≤ (τ 50) ((ρ 15 0) + x) ∧ (τ 50) ((ρ 15 0) + x) ≤ 127 from hby) (show (((ρ 17 0 + 1) + 1) + 1) ≤ 107 from (by have q1 := nmE_b u (ρ 17 0 + 1); have q2 := nmE_b u (ρ 17 0 + 1 + 1 + 1); omega)) (show 0 = 0 from rfl)) H.size) (cwV 0 hts (lw_V q1453 q1455 qs41 q87 q1456) rfl rfl rfl (by decide +kernel) ⟨Nat.le_of_ble_eq_true rfl, Nat.le_of_ble_eq_true rfl⟩) (pvM (r := (RX12, TX12, 52)) hK hP hD hX 0 (aM_0 _ _ _ _ _) rfl) rfl rfl hl.1 rfl (lv_room (Nat.le_of_ble_eq_true rfl)) dX12_readStatement_208 ⟨Nat.le_of_ble_eq_true rfl, Nat.le_of_ble_eq_true rfl⟩) hD hS hA (fun v ws1 H locs hv hP hD hS => ?_)
                                obtain ⟨z208, b208, a208, rfl, rfl, ⟨h208, rfl, rfl, rfl⟩ | ⟨h208, rfl, rfl, rfl⟩⟩ := hv
                                · have hP : va_P G gcl (wM am ty τ (up (up (up (up (up (up ρ 20 (ug (ρ 20) (ρ 19 0) (ρ 17 0))) 21 (ug (ρ 21) (ρ 19 0) (u (ρ 17 0)))) 24 (ug (ρ 24) (ρ 19 0) 0)) 22 (ug (ρ 22) (ρ 19 0) (u (ρ 17 0 + 1) - 48))) 18 (sc (0))) 17 (sc (nmE u (((ρ 17 0 + 1) + 1) + 1)))) ++ cs) H := hP
                                  have hD : va_D A (wM am ty τ (up (up (up (up (up (up ρ 20 (ug (ρ 20) (ρ 19 0) (ρ 17 0))) 21 (ug (ρ 21) (ρ 19 0) (u (ρ 17 0)))) 24 (ug (ρ 24) (ρ 19 0) 0)) 22 (ug (ρ 22) (ρ 19 0) (u (ρ 17 0 + 1) - 48))) 18 (sc (0))) 17 (sc (nmE u (((ρ 17 0 + 1) + 1) + 1)))) ++ cs) := hD
                                  have h208 : 48 ≤ u (((ρ 17 0 + 1) + 1) + 1) ∧ u (((ρ 17 0 + 1) + 1) + 1) ≤ 57 := h208
                                  refine lv_goto (tgt := 218) hx hb dX12_readStatement_211 (by decide) ?_
                                  refine li_iast (g := (ρ 23)) (W2 := wM am ty τ (up (up (up (up (up (up (up ρ 20 (ug (ρ 20) (ρ 19 0) (ρ 17 0))) 21 (ug (ρ 21) (ρ 19 0) (u (ρ 17 0)))) 24 (ug (ρ 24) (ρ 19 0) 0)) 22 (ug (ρ 22) (ρ 19 0) (u (ρ 17 0 + 1) - 48))) 18 (sc (0))) 17 (sc (nmE u (((ρ 17 0 + 1) + 1) + 1)))) 23 (ug (ρ 23) (ρ 19 0) (nmV u (((ρ 17 0 + 1) + 1) + 1)))) ++ cs) hx hb hK hP hD hS 12 0 (aM_12 _ _ _ _ _) rfl (by omega) (by omega) (by decide) rfl dX12_readStatement_218 (fun H locs hP hD hS => ?_)
                                  refine lv_aload_n hx hb dX12_readStatement_219 rfl (lv_at hl 2 rfl) ?_
                                  refine va_get (D := G) (ci := 11) (v := .int (ii 0)) (C := RX12) (T := TX12) (N := 52) hx hb hts in_X12 hown hK hP 0 (aM_0 _ _ _ _ _) rfl 18 (by decide) (hts _ q1283) (fun _ h9 => h9) rfl dX12_readStatement_220 ?_
                                  refine li_if_ne (tgt := 258) hx hb ⟨by decide, by decide⟩ dX12_readStatement_223 (by decide) (fun c223 => ?_) (fun c223 => ?_)
                                  · exact absurd c223 (by decide)
                                  · refine lv_iload_n hx hb dX12_readStatement_226 rfl (lv_at hl 1 rfl) ?_
                                    refine li_bipush hx hb dX12_readStatement_227 (by decide) ?_
                                    refine li_icmp_ne (tgt := 258) hx hb ⟨Int.le_trans (by decide) hzb1.1, Int.le_trans hzb1.2 (by decide)⟩ ⟨by decide, by decide⟩ dX12_readStatement_229 (by decide) (fun c229 => ?_) (fun c229 => ?_)
                                    · exfalso
                                      omega
                                    · refine lv_aload_n hx hb dX12_readStatement_232 rfl (lv_at hl 2 rfl) ?_
                                      refine kR (va_runV (As := []) (rest := []) ⟨hx, hb, hml, hown, hts⟩ (m_hereM l G am ty τ (up (up (up (up (up (up (up ρ 20 (ug (ρ 20) (ρ 19 0) (ρ 17 0))) 21 (ug (ρ 21) (ρ 19 0) (u (ρ 17 0)))) 24 (ug (ρ 24) (ρ 19 0) 0)) 22 (ug (ρ 22) (ρ 19 0) (u (ρ 17 0 + 1) - 48))) 18 (sc (0))) 17 (sc (nmE u (((ρ 17 0 + 1) + 1) + 1)))) 23 (ug (ρ 23) (ρ 19 0) (nmV u (((ρ 17 0 + 1) + 1) + 1)))) cs _ hu (show 0 ≤ (nmE u (((ρ 17 0 + 1) + 1) + 1)) ∧ (nmE u (((ρ 17 0 + 1) + 1) + 1)) ≤ 110 from (by have q1 := nmE_b u (ρ 17 0 + 1); have q2 := nmE_b u (ρ 17 0 + 1 + 1 + 1); exact ⟨by omega, by omega⟩)) (show 0 ≤ (ρ 15 0) ∧ (ρ 15 0) ≤ 700 ∧ 0 ≤ (ρ 16 0) ∧ (ρ 16 0) ≤ 100 from hbe)) (cwV 0 hts (lw_V q1443 q1445 qs39 q87 q1446) rfl rfl rfl (by decide +kernel) ⟨Nat.le_of_ble_eq_true rfl, Nat.le_of_ble_eq_true rfl⟩) (pvR (r := (RX12, TX12, 52)) hK hP hD hX 0 (aM_0 _ _ _ _ _) rfl) rfl rfl hl.1 rfl (lv_room (Nat.le_of_ble_eq_true rfl)) dX12_readStatement_233 ⟨Nat.le_of_ble_eq_true rfl, Nat.le_of_ble_eq_true rfl⟩) (fun v hv => ?_)
                                      obtain ⟨rfl, hzb233, hzl233⟩ := hv
                                      have hzb233 : -1 ≤ u (nmE u (((ρ 17 0 + 1) + 1) + 1)) ∧ u (nmE u (((ρ 17 0 + 1) + 1) + 1)) ≤ 255 := hzb233
                                      have hzl233 : 0 ≤ u (nmE u (((ρ 17 0 + 1) + 1) + 1)) → (nmE u (((ρ 17 0 + 1) + 1) + 1)) < (ρ 16 0) := hzl233
                                      refine li_top (b := (u (nmE u (((ρ 17 0 + 1) + 1) + 1)))) rfl ?_
                                      refine li_bipush hx hb dX12_readStatement_236 (by decide) ?_
                                      refine li_icmp_ne (tgt := 258) hx hb ⟨Int.le_trans (by decide) hzb233.1, Int.le_trans hzb233.2 (by decide)⟩ ⟨by decide, by decide⟩ dX12_readStatement_238 (by decide) (fun c238 => ?_) (fun c238 => ?_)
                                      · have hdE : dE u (ρ 17 0) = nmE u (((ρ 17 0 + 1) + 1) + 1) := if_neg c238
                                        refine lv_aload_n hx hb dX12_readStatement_258 rfl (lv_at hl 2 rfl) ?_
                                        refine li_bipush hx hb dX12_readStatement_259 (by decide) ?_
                                        refine kM (va_runV (As := [.int (ii 59)]) (rest := []) ⟨hx, hb, hml, hown, hts⟩ ((m_takeM0 l G am ty τ (up (up (up (up (up (up (up ρ 20 (ug (ρ 20) (ρ 19 0) (ρ 17 0))) 21 (ug (ρ 21) (ρ 19 0) (u (ρ 17 0)))) 24 (ug (ρ 24) (ρ 19 0) 0)) 22 (ug (ρ 22) (ρ 19 0) (u (ρ 17 0 + 1) - 48))) 18 (sc (0))) 17 (sc (nmE u (((ρ 17 0 + 1) + 1) + 1)))) 23 (ug (ρ 23) (ρ 19 0) (nmV u (((ρ 17 0 + 1) + 1) + 1)))) cs 59 _ hu (show 0 ≤ (nmE u (((ρ 17 0 + 1) + 1) + 1)) ∧ (nmE u (((ρ 17 0 + 1) + 1) + 1)) ≤ 110 from (by have q1 := nmE_b u (ρ 17 0 + 1); have q2 := nmE_b u (ρ 17 0 + 1 + 1 + 1); exact ⟨by omega, by omega⟩)) (show 0 ≤ (ρ 15 0) ∧ (ρ 15 0) ≤ 700 ∧ 0 ≤ (ρ 16 0) ∧ (ρ 16 0) ≤ 100 from hbe) (show rg 59 from ⟨by decide, by decide⟩) (show 0 = 0 from rfl)) H.size) (cwV 1 hts (lw_V q1457 q1459 qs42 q87 q1460) rfl rfl rfl (by decide +kernel) ⟨Nat.le_of_ble_eq_true rfl, Nat.le_of_ble_eq_true rfl⟩) (pvM (r := (RX12, TX12, 52)) hK hP hD hX 0 (aM_0 _ _ _ _ _) rfl) rfl rfl hl.1 rfl (lv_room (Nat.le_of_ble_eq_true rfl)) dX12_readStatement_261 ⟨Nat.le_of_ble_eq_true rfl, Nat.le_of_ble_eq_true rfl⟩) hD hS hA (fun v ws1 H locs hv hP hD hS => ?_)
                                        obtain ⟨b261, a261, rfl, rfl, ⟨h261, rfl, rfl⟩ | ⟨h261, rfl, rfl⟩⟩ := hv
                                        · have hP : va_P G gcl (wM am ty τ (up (up (up (up (up (up (up ρ 20 (ug (ρ 20) (ρ 19 0) (ρ 17 0))) 21 (ug (ρ 21) (ρ 19 0) (u (ρ 17 0)))) 24 (ug (ρ 24) (ρ 19 0) 0)) 22 (ug (ρ 22) (ρ 19 0) (u (ρ 17 0 + 1) - 48))) 23 (ug (ρ 23) (ρ 19 0) (nmV u (((ρ 17 0 + 1) + 1) + 1)))) 18 (sc (0))) 17 (sc ((nmE u (((ρ 17 0 + 1) + 1) + 1)) + 1))) ++ cs) H := hP
                                          have hD : va_D A (wM am ty τ (up (up (up (up (up (up (up ρ 20 (ug (ρ 20) (ρ 19 0) (ρ 17 0))) 21 (ug (ρ 21) (ρ 19 0) (u (ρ 17 0)))) 24 (ug (ρ 24) (ρ 19 0) 0)) 22 (ug (ρ 22) (ρ 19 0) (u (ρ 17 0 + 1) - 48))) 23 (ug (ρ 23) (ρ 19 0) (nmV u (((ρ 17 0 + 1) + 1) + 1)))) 18 (sc (0))) 17 (sc ((nmE u (((ρ 17 0 + 1) + 1) + 1)) + 1))) ++ cs) := hD
                                          have h261 : u (nmE u (((ρ 17 0 + 1) + 1) + 1)) = 59 := h261
                                          refine lv_aload_n hx hb dX12_readStatement_264 rfl (lv_at hl 2 rfl) ?_
                                          refine lv_dup hx hb dX12_readStatement_265 rfl ?_
                                          refine va_get (D := G) (ci := 11) (v := .int (ii (ρ 19 0))) (C := RX12) (T := TX12) (N := 52) hx hb hts in_X12 hown hK hP 0 (aM_0 _ _ _ _ _) rfl 19 (by decide) (hts _ q1284) (fun _ h9 => h9) rfl dX12_readStatement_266 ?_
                                          refine li_iconst hx hb dX12_readStatement_269 ?_
                                          refine li_add hx hb dX12_readStatement_270 ?_
                                          refine va_put (D := G) (ci := 11) (v := .int (ii (ρ 19 0 + 1))) (ty := .int) (C := RX12) (T := TX12) (N := 52) hx hb hts in_X12 tyX12 tyX12_ok nmX12 hown hK hP hD hS 0 (aM_0 _ _ _ _ _) rfl 19 (by decide) (hts _ q1284) (fun _ h9 => h9) rfl (tyX12_ok 19 (by decide)) rfl rfl (Nat.le_of_ble_eq_true rfl) dX12_readStatement_271 (fun H locs hP hD hS => ?_)
                                          have hP : va_P G gcl (wM am ty τ (up (up (up (up (up (up (up (up ρ 20 (ug (ρ 20) (ρ 19 0) (ρ 17 0))) 21 (ug (ρ 21) (ρ 19 0) (u (ρ 17 0)))) 24 (ug (ρ 24) (ρ 19 0) 0)) 22 (ug (ρ 22) (ρ 19 0) (u (ρ 17 0 + 1) - 48))) 23 (ug (ρ 23) (ρ 19 0) (nmV u (((ρ 17 0 + 1) + 1) + 1)))) 18 (sc (0))) 17 (sc ((nmE u (((ρ 17 0 + 1) + 1) + 1)) + 1))) 19 (sc (ρ 19 0 + 1))) ++ cs) H := hP
                                          have hD : va_D A (wM am ty τ (up (up (up (up (up (up (up (up ρ 20 (ug (ρ 20) (ρ 19 0) (ρ 17 0))) 21 (ug (ρ 21) (ρ 19 0) (u (ρ 17 0)))) 24 (ug (ρ 24) (ρ 19 0) 0)) 22 (ug (ρ 22) (ρ 19 0) (u (ρ 17 0 + 1) - 48))) 23 (ug (ρ 23) (ρ 19 0) (nmV u (((ρ 17 0 + 1) + 1) + 1)))) 18 (sc (0))) 17 (sc ((nmE u (((ρ 17 0 + 1) + 1) + 1)) + 1))) 19 (sc (ρ 19 0 + 1))) ++ cs) := hD
                                          exact eMv hQ hx hb hr hlk hP hD hS (Nat.le_of_ble_eq_true rfl) (Nat.le_of_ble_eq_true rfl) dX12_readStatement_274 (⟨0, (nmE u (((ρ 17 0 + 1) + 1) + 1)) + 1, (ug (ρ 22) (ρ 19 0) (u (ρ 17 0 + 1) - 48)), (ug (ρ 23) (ρ 19 0) (nmV u (((ρ 17 0 + 1) + 1) + 1))), (ug (ρ 24) (ρ 19 0) 0), rfl, rfl, .inl ⟨by rw [stB_d c20]; unfold dB; rw [hdE]; omega, rfl, by unfold stE; rw [hdE]; omega, by rw [ug_s]; unfold stX; omega, fun q => by first | omega | (rw [ug_s]; unfold stY; omega), by rw [ug_s]; unfold stZ; omega⟩, fun j q => ⟨by first | rw [ug_n q, ug_n q] | rw [ug_n q] | rfl, by first | rw [ug_n q, ug_n q] | rw [ug_n q] | rfl, by first | rw [ug_n q, ug_n q] | rw [ug_n q] | rfl⟩⟩)
                                        · have hP : va_P G gcl (wM am ty τ (up (up (up (up (up (up (up ρ 20 (ug (ρ 20) (ρ 19 0) (ρ 17 0))) 21 (ug (ρ 21) (ρ 19 0) (u (ρ 17 0)))) 24 (ug (ρ 24) (ρ 19 0) 0)) 22 (ug (ρ 22) (ρ 19 0) (u (ρ 17 0 + 1) - 48))) 23 (ug (ρ 23) (ρ 19 0) (nmV u (((ρ 17 0 + 1) + 1) + 1)))) 18 (sc (1))) 17 (sc ((nmE u (((ρ 17 0 + 1) + 1) + 1))))) ++ cs) H := hP
                                          have hD : va_D A (wM am ty τ (up (up (up (up (up (up (up ρ 20 (ug (ρ 20) (ρ 19 0) (ρ 17 0))) 21 (ug (ρ 21) (ρ 19 0) (u (ρ 17 0)))) 24 (ug (ρ 24) (ρ 19 0) 0)) 22 (ug (ρ 22) (ρ 19 0) (u (ρ 17 0 + 1) - 48))) 23 (ug (ρ 23) (ρ 19 0) (nmV u (((ρ 17 0 + 1) + 1) + 1)))) 18 (sc (1))) 17 (sc ((nmE u (((ρ 17 0 + 1) + 1) + 1))))) ++ cs) := hD
                                          have h261 : ¬ u (nmE u (((ρ 17 0 + 1) + 1) + 1)) = 59 := h261
                                          refine lv_aload_n hx hb dX12_readStatement_264 rfl (lv_at hl 2 rfl) ?_
                                          refine lv_dup hx hb dX12_readStatement_265 rfl ?_
                                          refine va_get (D := G) (ci := 11) (v := .int (ii (ρ 19 0))) (C := RX12) (T := TX12) (N := 52) hx hb hts in_X12 hown hK hP 0 (aM_0 _ _ _ _ _) rfl 19 (by decide) (hts _ q1284) (fun _ h9 => h9) rfl dX12_readStatement_266 ?_
                                          refine li_iconst hx hb dX12_readStatement_269 ?_
                                          refine li_add hx hb dX12_readStatement_270 ?_
                                          refine va_put (D := G) (ci := 11) (v := .int (ii (ρ 19 0 + 1))) (ty := .int) (C := RX12) (T := TX12) (N := 52) hx hb hts in_X12 tyX12 tyX12_ok nmX12 hown hK hP hD hS 0 (aM_0 _ _ _ _ _) rfl 19 (by decide) (hts _ q1284) (fun _ h9 => h9) rfl (tyX12_ok 19 (by decide)) rfl rfl (Nat.le_of_ble_eq_true rfl) dX12_readStatement_271 (fun H locs hP hD hS => ?_)
                                          have hP : va_P G gcl (wM am ty τ (up (up (up (up (up (up (up (up ρ 20 (ug (ρ 20) (ρ 19 0) (ρ 17 0))) 21 (ug (ρ 21) (ρ 19 0) (u (ρ 17 0)))) 24 (ug (ρ 24) (ρ 19 0) 0)) 22 (ug (ρ 22) (ρ 19 0) (u (ρ 17 0 + 1) - 48))) 23 (ug (ρ 23) (ρ 19 0) (nmV u (((ρ 17 0 + 1) + 1) + 1)))) 18 (sc (1))) 17 (sc ((nmE u (((ρ 17 0 + 1) + 1) + 1))))) 19 (sc (ρ 19 0 + 1))) ++ cs) H := hP
                                          have hD : va_D A (wM am ty τ (up (up (up (up (up (up (up (up ρ 20 (ug (ρ 20) (ρ 19 0) (ρ 17 0))) 21 (ug (ρ 21) (ρ 19 0) (u (ρ 17 0)))) 24 (ug (ρ 24) (ρ 19 0) 0)) 22 (ug (ρ 22) (ρ 19 0) (u (ρ 17 0 + 1) - 48))) 23 (ug (ρ 23) (ρ 19 0) (nmV u (((ρ 17 0 + 1) + 1) + 1)))) 18 (sc (1))) 17 (sc ((nmE u (((ρ 17 0 + 1) + 1) + 1))))) 19 (sc (ρ 19 0 + 1))) ++ cs) := hD
                                          exact eMv hQ hx hb hr hlk hP hD hS (Nat.le_of_ble_eq_true rfl) (Nat.le_of_ble_eq_true rfl) dX12_readStatement_274 (⟨1, (nmE u (((ρ 17 0 + 1) + 1) + 1)), (ug (ρ 22) (ρ 19 0) (u (ρ 17 0 + 1) - 48)), (ug (ρ 23) (ρ 19 0) (nmV u (((ρ 17 0 + 1) + 1) + 1))), (ug (ρ 24) (ρ 19 0) 0), rfl, rfl, .inr ⟨by rw [stB_d c20]; unfold dB; rw [hdE]; omega, rfl, by rw [stB_d c20]; unfold dB; rw [hdE]; omega⟩, fun j q => ⟨by first | rw [ug_n q, ug_n q] | rw [ug_n q] | rfl, by first | rw [ug_n q, ug_n q] | rw [ug_n q] | rfl, by first | rw [ug_n q, ug_n q] | rw [ug_n q] | rfl⟩⟩)
                                      · refine lv_aload_n hx hb dX12_readStatement_241 rfl (lv_at hl 2 rfl) ?_
                                        refine va_get (D := G) (ci := 11) (v := .ref (am 13)) (C := RX12) (T := TX12) (N := 52) hx hb hts in_X12 hown hK hP 0 (aM_0 _ _ _ _ _) rfl 24 (by decide) (hts _ q1289) (fun _ h9 => h9) rfl dX12_readStatement_242 ?_
                                        refine lv_iload_n hx hb dX12_readStatement_245 rfl (lv_at hl 0 rfl) ?_
                                        refine li_iconst hx hb dX12_readStatement_246 ?_
                                        refine li_zast (g := (ug (ρ 24) (ρ 19 0) 0)) (W2 := wM am ty τ (up (up (up (up (up (up (up ρ 20 (ug (ρ 20) (ρ 19 0) (ρ 17 0))) 21 (ug (ρ 21) (ρ 19 0) (u (ρ 17 0)))) 22 (ug (ρ 22) (ρ 19 0) (u (ρ 17 0 + 1) - 48))) 18 (sc (0))) 17 (sc (nmE u (((ρ 17 0 + 1) + 1) + 1)))) 23 (ug (ρ 23) (ρ 19 0) (nmV u (((ρ 17 0 + 1) + 1) + 1)))) 24 (ug (ug (ρ 24) (ρ 19 0) 0) (ρ 19 0) 1)) ++ cs) hx hb hK hP hD hS 13 1 (aM_13 _ _ _ _ _) rfl (by omega) (by omega) (by decide) (by omega) rfl dX12_readStatement_247 (fun H locs hP hD hS => ?_)
                                        refine lv_aload_n hx hb dX12_readStatement_248 rfl (lv_at hl 2 rfl) ?_
                                        refine lv_dup hx hb dX12_readStatement_249 rfl ?_
                                        refine va_get (D := G) (ci := 11) (v := .int (ii (nmE u (((ρ 17 0 + 1) + 1) + 1)))) (C := RX12) (T := TX12) (N := 52) hx hb hts in_X12 hown hK hP 0 (aM_0 _ _ _ _ _) rfl 17 (by decide) (hts _ q1282) (fun _ h9 => h9) rfl dX12_readStatement_250 ?_
                                        refine li_iconst hx hb dX12_readStatement_253 ?_
                                        refine li_add hx hb dX12_readStatement_254 ?_
                                        refine va_put (D := G) (ci := 11) (v := .int (ii (nmE u (((ρ 17 0 + 1) + 1) + 1) + 1))) (ty := .int) (C := RX12) (T := TX12) (N := 52) hx hb hts in_X12 tyX12 tyX12_ok nmX12 hown hK hP hD hS 0 (aM_0 _ _ _ _ _) rfl 17 (by decide) (hts _ q1282) (fun _ h9 => h9) rfl (tyX12_ok 17 (by decide)) rfl rfl (Nat.le_of_ble_eq_true rfl) dX12_readStatement_255 (fun H locs hP hD hS => ?_)
                                        have hP : va_P G gcl (wM am ty τ (up (up (up (up (up (up (up ρ 20 (ug (ρ 20) (ρ 19 0) (ρ 17 0))) 21 (ug (ρ 21) (ρ 19 0) (u (ρ 17 0)))) 22 (ug (ρ 22) (ρ 19 0) (u (ρ 17 0 + 1) - 48))) 18 (sc (0))) 23 (ug (ρ 23) (ρ 19 0) (nmV u (((ρ 17 0 + 1) + 1) + 1)))) 24 (ug (ug (ρ 24) (ρ 19 0) 0) (ρ 19 0) 1)) 17 (sc (nmE u (((ρ 17 0 + 1) + 1) + 1) + 1))) ++ cs) H := hP
                                        have hD : va_D A (wM am ty τ (up (up (up (up (up (up (up ρ 20 (ug (ρ 20) (ρ 19 0) (ρ 17 0))) 21 (ug (ρ 21) (ρ 19 0) (u (ρ 17 0)))) 22 (ug (ρ 22) (ρ 19 0) (u (ρ 17 0 + 1) - 48))) 18 (sc (0))) 23 (ug (ρ 23) (ρ 19 0) (nmV u (((ρ 17 0 + 1) + 1) + 1)))) 24 (ug (ug (ρ 24) (ρ 19 0) 0) (ρ 19 0) 1)) 17 (sc (nmE u (((ρ 17 0 + 1) + 1) + 1) + 1))) ++ cs) := hD
                                        have hdE : dE u (ρ 17 0) = nmE u (((ρ 17 0 + 1) + 1) + 1) + 1 := if_pos c238
                                        refine lv_aload_n hx hb dX12_readStatement_258 rfl (lv_at hl 2 rfl) ?_
                                        refine li_bipush hx hb dX12_readStatement_259 (by decide) ?_
                                        refine kM (va_runV (As := [.int (ii 59)]) (rest := []) ⟨hx, hb, hml, hown, hts⟩ ((m_takeM0 l G am ty τ (up (up (up (up (up (up (up ρ 20 (ug (ρ 20) (ρ 19 0) (ρ 17 0))) 21 (ug (ρ 21) (ρ 19 0) (u (ρ 17 0)))) 22 (ug (ρ 22) (ρ 19 0) (u (ρ 17 0 + 1) - 48))) 18 (sc (0))) 23 (ug (ρ 23) (ρ 19 0) (nmV u (((ρ 17 0 + 1) + 1) + 1)))) 24 (ug (ug (ρ 24) (ρ 19 0) 0) (ρ 19 0) 1)) 17 (sc (nmE u (((ρ 17 0 + 1) + 1) + 1) + 1))) cs 59 _ hu (show 0 ≤ (nmE u (((ρ 17 0 + 1) + 1) + 1) + 1) ∧ (nmE u (((ρ 17 0 + 1) + 1) + 1) + 1) ≤ 110 from (by have q1 := nmE_b u (ρ 17 0 + 1); have q2 := nmE_b u (ρ 17 0 + 1 + 1 + 1); exact ⟨by omega, by omega⟩)) (show 0 ≤ (ρ 15 0) ∧ (ρ 15 0) ≤ 700 ∧ 0 ≤ (ρ 16 0) ∧ (ρ 16 0) ≤ 100 from hbe) (show rg 59 from ⟨by decide, by decide⟩) (show 0 = 0 from rfl)) H.size) (cwV 1 hts (lw_V q1457 q1459 qs42 q87 q1460) rfl rfl rfl (by decide +kernel) ⟨Nat.le_of_ble_eq_true rfl, Nat.le_of_ble_eq_true rfl⟩) (pvM (r := (RX12, TX12, 52)) hK hP hD hX 0 (aM_0 _ _ _ _ _) rfl) rfl rfl hl.1 rfl (lv_room (Nat.le_of_ble_eq_true rfl)) dX12_readStatement_261 ⟨Nat.le_of_ble_eq_true rfl, Nat.le_of_ble_eq_true rfl⟩) hD hS hA (fun v ws1 H locs hv hP hD hS => ?_)
                                        obtain ⟨b261, a261, rfl, rfl, ⟨h261, rfl, rfl⟩ | ⟨h261, rfl, rfl⟩⟩ := hv
                                        · have hP : va_P G gcl (wM am ty τ (up (up (up (up (up (up (up ρ 20 (ug (ρ 20) (ρ 19 0) (ρ 17 0))) 21 (ug (ρ 21) (ρ 19 0) (u (ρ 17 0)))) 22 (ug (ρ 22) (ρ 19 0) (u (ρ 17 0 + 1) - 48))) 23 (ug (ρ 23) (ρ 19 0) (nmV u (((ρ 17 0 + 1) + 1) + 1)))) 24 (ug (ug (ρ 24) (ρ 19 0) 0) (ρ 19 0) 1)) 18 (sc (0))) 17 (sc ((nmE u (((ρ 17 0 + 1) + 1) + 1) + 1) + 1))) ++ cs) H := hP
                                          have hD : va_D A (wM am ty τ (up (up (up (up (up (up (up ρ 20 (ug (ρ 20) (ρ 19 0) (ρ 17 0))) 21 (ug (ρ 21) (ρ 19 0) (u (ρ 17 0)))) 22 (ug (ρ 22) (ρ 19 0) (u (ρ 17 0 + 1) - 48))) 23 (ug (ρ 23) (ρ 19 0) (nmV u (((ρ 17 0 + 1) + 1) + 1)))) 24 (ug (ug (ρ 24) (ρ 19 0) 0) (ρ 19 0) 1)) 18 (sc (0))) 17 (sc ((nmE u (((ρ 17 0 + 1) + 1) + 1) + 1) + 1))) ++ cs) := hD
                                          have h261 : u (nmE u (((ρ 17 0 + 1) + 1) + 1) + 1) = 59 := h261
                                          refine lv_aload_n hx hb dX12_readStatement_264 rfl (lv_at hl 2 rfl) ?_
                                          refine lv_dup hx hb dX12_readStatement_265 rfl ?_
                                          refine va_get (D := G) (ci := 11) (v := .int (ii (ρ 19 0))) (C := RX12) (T := TX12) (N := 52) hx hb hts in_X12 hown hK hP 0 (aM_0 _ _ _ _ _) rfl 19 (by decide) (hts _ q1284) (fun _ h9 => h9) rfl dX12_readStatement_266 ?_
                                          refine li_iconst hx hb dX12_readStatement_269 ?_
                                          refine li_add hx hb dX12_readStatement_270 ?_
                                          refine va_put (D := G) (ci := 11) (v := .int (ii (ρ 19 0 + 1))) (ty := .int) (C := RX12) (T := TX12) (N := 52) hx hb hts in_X12 tyX12 tyX12_ok nmX12 hown hK hP hD hS 0 (aM_0 _ _ _ _ _) rfl 19 (by decide) (hts _ q1284) (fun _ h9 => h9) rfl (tyX12_ok 19 (by decide)) rfl rfl (Nat.le_of_ble_eq_true rfl) dX12_readStatement_271 (fun H locs hP hD hS => ?_)
                                          have hP : va_P G gcl (wM am ty τ (up (up (up (up (up (up (up (up ρ 20 (ug (ρ 20) (ρ 19 0) (ρ 17 0))) 21 (ug (ρ 21) (ρ 19 0) (u (ρ 17 0)))) 22 (ug (ρ 22) (ρ 19 0) (u (ρ 17 0 + 1) - 48))) 23 (ug (ρ 23) (ρ 19 0) (nmV u (((ρ 17 0 + 1) + 1) + 1)))) 24 (ug (ug (ρ 24) (ρ 19 0) 0) (ρ 19 0) 1)) 18 (sc (0))) 17 (sc ((nmE u (((ρ 17 0 + 1) + 1) + 1) + 1) + 1))) 19 (sc (ρ 19 0 + 1))) ++ cs) H := hP
                                          have hD : va_D A (wM am ty τ (up (up (up (up (up (up (up (up ρ 20 (ug (ρ 20) (ρ 19 0) (ρ 17 0))) 21 (ug (ρ 21) (ρ 19 0) (u (ρ 17 0)))) 22 (ug (ρ 22) (ρ 19 0) (u (ρ 17 0 + 1) - 48))) 23 (ug (ρ 23) (ρ 19 0) (nmV u (((ρ 17 0 + 1) + 1) + 1)))) 24 (ug (ug (ρ 24) (ρ 19 0) 0) (ρ 19 0) 1)) 18 (sc (0))) 17 (sc ((nmE u (((ρ 17 0 + 1) + 1) + 1) + 1) + 1))) 19 (sc (ρ 19 0 + 1))) ++ cs) := hD
                                          exact eMv hQ hx hb hr hlk hP hD hS (Nat.le_of_ble_eq_true rfl) (Nat.le_of_ble_eq_true rfl) dX12_readStatement_274 (⟨0, (nmE u (((ρ 17 0 + 1) + 1) + 1) + 1) + 1, (ug (ρ 22) (ρ 19 0) (u (ρ 17 0 + 1) - 48)), (ug (ρ 23) (ρ 19 0) (nmV u (((ρ 17 0 + 1) + 1) + 1))), (ug (ug (ρ 24) (ρ 19 0) 0) (ρ 19 0) 1), rfl, rfl, .inl ⟨by rw [stB_d c20]; unfold dB; rw [hdE]; omega, rfl, by unfold stE; rw [hdE]; omega, by rw [ug_s]; unfold stX; omega, fun q => by first | omega | (rw [ug_s]; unfold stY; omega), by rw [ug_s]; unfold stZ; omega⟩, fun j q => ⟨by first | rw [ug_n q, ug_n q] | rw [ug_n q] | rfl, by first | rw [ug_n q, ug_n q] | rw [ug_n q] | rfl, by first | rw [ug_n q, ug_n q] | rw [ug_n q] | rfl⟩⟩)
                                        · have hP : va_P G gcl (wM am ty τ (up (up (up (up (up (up (up ρ 20 (ug (ρ 20) (ρ 19 0) (ρ 17 0))) 21 (ug (ρ 21) (ρ 19 0) (u (ρ 17 0)))) 22 (ug (ρ 22) (ρ 19 0) (u (ρ 17 0 + 1) - 48))) 23 (ug (ρ 23) (ρ 19 0) (nmV u (((ρ 17 0 + 1) + 1) + 1)))) 24 (ug (ug (ρ 24) (ρ 19 0) 0) (ρ 19 0) 1)) 18 (sc (1))) 17 (sc ((nmE u (((ρ 17 0 + 1) + 1) + 1) + 1)))) ++ cs) H := hP
                                          have hD : va_D A (wM am ty τ (up (up (up (up (up (up (up ρ 20 (ug (ρ 20) (ρ 19 0) (ρ 17 0))) 21 (ug (ρ 21) (ρ 19 0) (u (ρ 17 0)))) 22 (ug (ρ 22) (ρ 19 0) (u (ρ 17 0 + 1) - 48))) 23 (ug (ρ 23) (ρ 19 0) (nmV u (((ρ 17 0 + 1) + 1) + 1)))) 24 (ug (ug (ρ 24) (ρ 19 0) 0) (ρ 19 0) 1)) 18 (sc (1))) 17 (sc ((nmE u (((ρ 17 0 + 1) + 1) + 1) + 1)))) ++ cs) := hD
                                          have h261 : ¬ u (nmE u (((ρ 17 0 + 1) + 1) + 1) + 1) = 59 := h261
                                          refine lv_aload_n hx hb dX12_readStatement_264 rfl (lv_at hl 2 rfl) ?_
                                          refine lv_dup hx hb dX12_readStatement_265 rfl ?_
                                          refine va_get (D := G) (ci := 11) (v := .int (ii (ρ 19 0))) (C := RX12) (T := TX12) (N := 52) hx hb hts in_X12 hown hK hP 0 (aM_0 _ _ _ _ _) rfl 19 (by decide) (hts _ q1284) (fun _ h9 => h9) rfl dX12_readStatement_266 ?_
                                          refine li_iconst hx hb dX12_readStatement_269 ?_
                                          refine li_add hx hb dX12_readStatement_270 ?_
                                          refine va_put (D := G) (ci := 11) (v := .int (ii (ρ 19 0 + 1))) (ty := .int) (C := RX12) (T := TX12) (N := 52) hx hb hts in_X12 tyX12 tyX12_ok nmX12 hown hK hP hD hS 0 (aM_0 _ _ _ _ _) rfl 19 (by decide) (hts _ q1284) (fun _ h9 => h9) rfl (tyX12_ok 19 (by decide)) rfl rfl (Nat.le_of_ble_eq_true rfl) dX12_readStatement_271 (fun H locs hP hD hS => ?_)
                                          have hP : va_P G gcl (wM am ty τ (up (up (up (up (up (up (up (up ρ 20 (ug (ρ 20) (ρ 19 0) (ρ 17 0))) 21 (ug (ρ 21) (ρ 19 0) (u (ρ 17 0)))) 22 (ug (ρ 22) (ρ 19 0) (u (ρ 17 0 + 1) - 48))) 23 (ug (ρ 23) (ρ 19 0) (nmV u (((ρ 17 0 + 1) + 1) + 1)))) 24 (ug (ug (ρ 24) (ρ 19 0) 0) (ρ 19 0) 1)) 18 (sc (1))) 17 (sc ((nmE u (((ρ 17 0 + 1) + 1) + 1) + 1)))) 19 (sc (ρ 19 0 + 1))) ++ cs) H := hP
                                          have hD : va_D A (wM am ty τ (up (up (up (up (up (up (up (up ρ 20 (ug (ρ 20) (ρ 19 0) (ρ 17 0))) 21 (ug (ρ 21) (ρ 19 0) (u (ρ 17 0)))) 22 (ug (ρ 22) (ρ 19 0) (u (ρ 17 0 + 1) - 48))) 23 (ug (ρ 23) (ρ 19 0) (nmV u (((ρ 17 0 + 1) + 1) + 1)))) 24 (ug (ug (ρ 24) (ρ 19 0) 0) (ρ 19 0) 1)) 18 (sc (1))) 17 (sc ((nmE u (((ρ 17 0 + 1) + 1) + 1) + 1)))) 19 (sc (ρ 19 0 + 1))) ++ cs) := hD
                                          exact eMv hQ hx hb hr hlk hP hD hS (Nat.le_of_ble_eq_true rfl) (Nat.le_of_ble_eq_true rfl) dX12_readStatement_274 (⟨1, (nmE u (((ρ 17 0 + 1) + 1) + 1) + 1), (ug (ρ 22) (ρ 19 0) (u (ρ 17 0 + 1) - 48)), (ug (ρ 23) (ρ 19 0) (nmV u (((ρ 17 0 + 1) + 1) + 1))), (ug (ug (ρ 24) (ρ 19 0) 0) (ρ 19 0) 1), rfl, rfl, .inr ⟨by rw [stB_d c20]; unfold dB; rw [hdE]; omega, rfl, by rw [stB_d c20]; unfold dB; rw [hdE]; omega⟩, fun j q => ⟨by first | rw [ug_n q, ug_n q] | rw [ug_n q] | rfl, by first | rw [ug_n q, ug_n q] | rw [ug_n q] | rfl, by first | rw [ug_n q, ug_n q] | rw [ug_n q] | rfl⟩⟩)
                                · have hP : va_P G gcl (wM am ty τ (up (up (up (up (up (up ρ 20 (ug (ρ 20) (ρ 19 0) (ρ 17 0))) 21 (ug (ρ 21) (ρ 19 0) (u (ρ 17 0)))) 24 (ug (ρ 24) (ρ 19 0) 0)) 22 (ug (ρ 22) (ρ 19 0) (u (ρ 17 0 + 1) - 48))) 18 (sc (1))) 17 (sc ((((ρ 17 0 + 1) + 1) + 1)))) ++ cs) H := hP
                                  have hD : va_D A (wM am ty τ (up (up (up (up (up (up ρ 20 (ug (ρ 20) (ρ 19 0) (ρ 17 0))) 21 (ug (ρ 21) (ρ 19 0) (u (ρ 17 0)))) 24 (ug (ρ 24) (ρ 19 0) 0)) 22 (ug (ρ 22) (ρ 19 0) (u (ρ 17 0 + 1) - 48))) 18 (sc (1))) 17 (sc ((((ρ 17 0 + 1) + 1) + 1)))) ++ cs) := hD
                                  have h208 : ¬ (48 ≤ u (((ρ 17 0 + 1) + 1) + 1) ∧ u (((ρ 17 0 + 1) + 1) + 1) ≤ 57) := h208
                                  refine lv_goto (tgt := 218) hx hb dX12_readStatement_211 (by decide) ?_
                                  refine li_iast (g := (ρ 23)) (W2 := wM am ty τ (up (up (up (up (up (up (up ρ 20 (ug (ρ 20) (ρ 19 0) (ρ 17 0))) 21 (ug (ρ 21) (ρ 19 0) (u (ρ 17 0)))) 24 (ug (ρ 24) (ρ 19 0) 0)) 22 (ug (ρ 22) (ρ 19 0) (u (ρ 17 0 + 1) - 48))) 18 (sc (1))) 17 (sc ((((ρ 17 0 + 1) + 1) + 1)))) 23 (ug (ρ 23) (ρ 19 0) 0)) ++ cs) hx hb hK hP hD hS 12 0 (aM_12 _ _ _ _ _) rfl (by omega) (by omega) (by decide) rfl dX12_readStatement_218 (fun H locs hP hD hS => ?_)
                                  refine lv_aload_n hx hb dX12_readStatement_219 rfl (lv_at hl 2 rfl) ?_
                                  refine va_get (D := G) (ci := 11) (v := .int (ii 1)) (C := RX12) (T := TX12) (N := 52) hx hb hts in_X12 hown hK hP 0 (aM_0 _ _ _ _ _) rfl 18 (by decide) (hts _ q1283) (fun _ h9 => h9) rfl dX12_readStatement_220 ?_
                                  refine li_if_ne (tgt := 258) hx hb ⟨by decide, by decide⟩ dX12_readStatement_223 (by decide) (fun c223 => ?_) (fun c223 => ?_)
                                  · refine lv_aload_n hx hb dX12_readStatement_258 rfl (lv_at hl 2 rfl) ?_
                                    refine li_bipush hx hb dX12_readStatement_259 (by decide) ?_
                                    refine kM (va_runV (As := [.int (ii 59)]) (rest := []) ⟨hx, hb, hml, hown, hts⟩ ((m_takeM1 l G am ty τ (up (up (up (up (up (up (up ρ 20 (ug (ρ 20) (ρ 19 0) (ρ 17 0))) 21 (ug (ρ 21) (ρ 19 0) (u (ρ 17 0)))) 24 (ug (ρ 24) (ρ 19 0) 0)) 22 (ug (ρ 22) (ρ 19 0) (u (ρ 17 0 + 1) - 48))) 18 (sc (1))) 17 (sc ((((ρ 17 0 + 1) + 1) + 1)))) 23 (ug (ρ 23) (ρ 19 0) 0)) cs 59 (show 1 = 1 from rfl)) H.size) (cwV 1 hts (lw_V q1457 q1459 qs42 q87 q1460) rfl rfl rfl (by decide +kernel) ⟨Nat.le_of_ble_eq_true rfl, Nat.le_of_ble_eq_true rfl⟩) (pvM (r := (RX12, TX12, 52)) hK hP hD hX 0 (aM_0 _ _ _ _ _) rfl) rfl rfl hl.1 rfl (lv_room (Nat.le_of_ble_eq_true rfl)) dX12_readStatement_261 ⟨Nat.le_of_ble_eq_true rfl, Nat.le_of_ble_eq_true rfl⟩) hD hS hA (fun v ws1 H locs hv hP hD hS => ?_)
                                    obtain ⟨rfl, rfl⟩ := hv
                                    have hP : va_P G gcl (wM am ty τ (up (up (up (up (up (up (up ρ 20 (ug (ρ 20) (ρ 19 0) (ρ 17 0))) 21 (ug (ρ 21) (ρ 19 0) (u (ρ 17 0)))) 24 (ug (ρ 24) (ρ 19 0) 0)) 22 (ug (ρ 22) (ρ 19 0) (u (ρ 17 0 + 1) - 48))) 17 (sc ((((ρ 17 0 + 1) + 1) + 1)))) 23 (ug (ρ 23) (ρ 19 0) 0)) 18 (sc (1))) ++ cs) H := hP
                                    have hD : va_D A (wM am ty τ (up (up (up (up (up (up (up ρ 20 (ug (ρ 20) (ρ 19 0) (ρ 17 0))) 21 (ug (ρ 21) (ρ 19 0) (u (ρ 17 0)))) 24 (ug (ρ 24) (ρ 19 0) 0)) 22 (ug (ρ 22) (ρ 19 0) (u (ρ 17 0 + 1) - 48))) 17 (sc ((((ρ 17 0 + 1) + 1) + 1)))) 23 (ug (ρ 23) (ρ 19 0) 0)) 18 (sc (1))) ++ cs) := hD
                                    refine lv_aload_n hx hb dX12_readStatement_264 rfl (lv_at hl 2 rfl) ?_
                                    refine lv_dup hx hb dX12_readStatement_265 rfl ?_
                                    refine va_get (D := G) (ci := 11) (v := .int (ii (ρ 19 0))) (C := RX12) (T := TX12) (N := 52) hx hb hts in_X12 hown hK hP 0 (aM_0 _ _ _ _ _) rfl 19 (by decide) (hts _ q1284) (fun _ h9 => h9) rfl dX12_readStatement_266 ?_
                                    refine li_iconst hx hb dX12_readStatement_269 ?_
                                    refine li_add hx hb dX12_readStatement_270 ?_
                                    refine va_put (D := G) (ci := 11) (v := .int (ii (ρ 19 0 + 1))) (ty := .int) (C := RX12) (T := TX12) (N := 52) hx hb hts in_X12 tyX12 tyX12_ok nmX12 hown hK hP hD hS 0 (aM_0 _ _ _ _ _) rfl 19 (by decide) (hts _ q1284) (fun _ h9 => h9) rfl (tyX12_ok 19 (by decide)) rfl rfl (Nat.le_of_ble_eq_true rfl) dX12_readStatement_271 (fun H locs hP hD hS => ?_)
                                    have hP : va_P G gcl (wM am ty τ (up (up (up (up (up (up (up (up ρ 20 (ug (ρ 20) (ρ 19 0) (ρ 17 0))) 21 (ug (ρ 21) (ρ 19 0) (u (ρ 17 0)))) 24 (ug (ρ 24) (ρ 19 0) 0)) 22 (ug (ρ 22) (ρ 19 0) (u (ρ 17 0 + 1) - 48))) 17 (sc ((((ρ 17 0 + 1) + 1) + 1)))) 23 (ug (ρ 23) (ρ 19 0) 0)) 18 (sc (1))) 19 (sc (ρ 19 0 + 1))) ++ cs) H := hP
                                    have hD : va_D A (wM am ty τ (up (up (up (up (up (up (up (up ρ 20 (ug (ρ 20) (ρ 19 0) (ρ 17 0))) 21 (ug (ρ 21) (ρ 19 0) (u (ρ 17 0)))) 24 (ug (ρ 24) (ρ 19 0) 0)) 22 (ug (ρ 22) (ρ 19 0) (u (ρ 17 0 + 1) - 48))) 17 (sc ((((ρ 17 0 + 1) + 1) + 1)))) 23 (ug (ρ 23) (ρ 19 0) 0)) 18 (sc (1))) 19 (sc (ρ 19 0 + 1))) ++ cs) := hD
                                    exact eMv hQ hx hb hr hlk hP hD hS (Nat.le_of_ble_eq_true rfl) (Nat.le_of_ble_eq_true rfl) dX12_readStatement_274 (⟨1, (((ρ 17 0 + 1) + 1) + 1), (ug (ρ 22) (ρ 19 0) (u (ρ 17 0 + 1) - 48)), (ug (ρ 23) (ρ 19 0) 0), (ug (ρ 24) (ρ 19 0) 0), rfl, rfl, .inr ⟨by rw [stB_d c20]; unfold dB; omega, rfl, by rw [stB_d c20]; unfold dB; omega⟩, fun j q => ⟨by first | rw [ug_n q, ug_n q] | rw [ug_n q] | rfl, by first | rw [ug_n q, ug_n q] | rw [ug_n q] | rfl, by first | rw [ug_n q, ug_n q] | rw [ug_n q] | rfl⟩⟩)
                                  · exact absurd c223 (by decide)
                      · have hP : va_P G gcl (wM am ty τ (up (up (up (up (up (up ρ 20 (ug (ρ 20) (ρ 19 0) (ρ 17 0))) 21 (ug (ρ 21) (ρ 19 0) (u (ρ 17 0)))) 24 (ug (ρ 24) (ρ 19 0) 0)) 22 (ug (ρ 22) (ρ 19 0) (u (ρ 17 0 + 1) - 48))) 18 (sc (1))) 17 (sc (((ρ 17 0 + 1) + 1)))) ++ cs) H := hP
                        have hD : va_D A (wM am ty τ (up (up (up (up (up (up ρ 20 (ug (ρ 20) (ρ 19 0) (ρ 17 0))) 21 (ug (ρ 21) (ρ 19 0) (u (ρ 17 0)))) 24 (ug (ρ 24) (ρ 19 0) 0)) 22 (ug (ρ 22) (ρ 19 0) (u (ρ 17 0 + 1) - 48))) 18 (sc (1))) 17 (sc (((ρ 17 0 + 1) + 1)))) ++ cs) := hD
                        have h174 : ¬ u ((ρ 17 0 + 1) + 1) = 32 := h174
                        refine lv_aload_n hx hb dX12_readStatement_177 rfl (lv_at hl 2 rfl) ?_
                        refine va_get (D := G) (ci := 11) (v := .int (ii 1)) (C := RX12) (T := TX12) (N := 52) hx hb hts in_X12 hown hK hP 0 (aM_0 _ _ _ _ _) rfl 18 (by decide) (hts _ q1283) (fun _ h9 => h9) rfl dX12_readStatement_178 ?_
                        refine li_if_ne (tgt := 219) hx hb ⟨by decide, by decide⟩ dX12_readStatement_181 (by decide) (fun c181 => ?_) (fun c181 => ?_)
                        · refine lv_aload_n hx hb dX12_readStatement_219 rfl (lv_at hl 2 rfl) ?_
                          refine va_get (D := G) (ci := 11) (v := .int (ii 1)) (C := RX12) (T := TX12) (N := 52) hx hb hts in_X12 hown hK hP 0 (aM_0 _ _ _ _ _) rfl 18 (by decide) (hts _ q1283) (fun _ h9 => h9) rfl dX12_readStatement_220 ?_
                          refine li_if_ne (tgt := 258) hx hb ⟨by decide, by decide⟩ dX12_readStatement_223 (by decide) (fun c223 => ?_) (fun c223 => ?_)
                          · refine lv_aload_n hx hb dX12_readStatement_258 rfl (lv_at hl 2 rfl) ?_
                            refine li_bipush hx hb dX12_readStatement_259 (by decide) ?_
                            refine kM (va_runV (As := [.int (ii 59)]) (rest := []) ⟨hx, hb, hml, hown, hts⟩ ((m_takeM1 l G am ty τ (up (up (up (up (up (up ρ 20 (ug (ρ 20) (ρ 19 0) (ρ 17 0))) 21 (ug (ρ 21) (ρ 19 0) (u (ρ 17 0)))) 24 (ug (ρ 24) (ρ 19 0) 0)) 22 (ug (ρ 22) (ρ 19 0) (u (ρ 17 0 + 1) - 48))) 18 (sc (1))) 17 (sc (((ρ 17 0 + 1) + 1)))) cs 59 (show 1 = 1 from rfl)) H.size) (cwV 1 hts (lw_V q1457 q1459 qs42 q87 q1460) rfl rfl rfl (by decide +kernel) ⟨Nat.le_of_ble_eq_true rfl, Nat.le_of_ble_eq_true rfl⟩) (pvM (r := (RX12, TX12, 52)) hK hP hD hX 0 (aM_0 _ _ _ _ _) rfl) rfl rfl hl.1 rfl (lv_room (Nat.le_of_ble_eq_true rfl)) dX12_readStatement_261 ⟨Nat.le_of_ble_eq_true rfl, Nat.le_of_ble_eq_true rfl⟩) hD hS hA (fun v ws1 H locs hv hP hD hS => ?_)
                            obtain ⟨rfl, rfl⟩ := hv
                            have hP : va_P G gcl (wM am ty τ (up (up (up (up (up (up ρ 20 (ug (ρ 20) (ρ 19 0) (ρ 17 0))) 21 (ug (ρ 21) (ρ 19 0) (u (ρ 17 0)))) 24 (ug (ρ 24) (ρ 19 0) 0)) 22 (ug (ρ 22) (ρ 19 0) (u (ρ 17 0 + 1) - 48))) 17 (sc (((ρ 17 0 + 1) + 1)))) 18 (sc (1))) ++ cs) H := hP
                            have hD : va_D A (wM am ty τ (up (up (up (up (up (up ρ 20 (ug (ρ 20) (ρ 19 0) (ρ 17 0))) 21 (ug (ρ 21) (ρ 19 0) (u (ρ 17 0)))) 24 (ug (ρ 24) (ρ 19 0) 0)) 22 (ug (ρ 22) (ρ 19 0) (u (ρ 17 0 + 1) - 48))) 17 (sc (((ρ 17 0 + 1) + 1)))) 18 (sc (1))) ++ cs) := hD
                            refine lv_aload_n hx hb dX12_readStatement_264 rfl (lv_at hl 2 rfl) ?_
                            refine lv_dup hx hb dX12_readStatement_265 rfl ?_
                            refine va_get (D := G) (ci := 11) (v := .int (ii (ρ 19 0))) (C := RX12) (T := TX12) (N := 52) hx hb hts in_X12 hown hK hP 0 (aM_0 _ _ _ _ _) rfl 19 (by decide) (hts _ q1284) (fun _ h9 => h9) rfl dX12_readStatement_266 ?_
                            refine li_iconst hx hb dX12_readStatement_269 ?_
                            refine li_add hx hb dX12_readStatement_270 ?_
                            refine va_put (D := G) (ci := 11) (v := .int (ii (ρ 19 0 + 1))) (ty := .int) (C := RX12) (T := TX12) (N := 52) hx hb hts in_X12 tyX12 tyX12_ok nmX12 hown hK hP hD hS 0 (aM_0 _ _ _ _ _) rfl 19 (by decide) (hts _ q1284) (fun _ h9 => h9) rfl (tyX12_ok 19 (by decide)) rfl rfl (Nat.le_of_ble_eq_true rfl) dX12_readStatement_271 (fun H locs hP hD hS => ?_)
                            have hP : va_P G gcl (wM am ty τ (up (up (up (up (up (up (up ρ 20 (ug (ρ 20) (ρ 19 0) (ρ 17 0))) 21 (ug (ρ 21) (ρ 19 0) (u (ρ 17 0)))) 24 (ug (ρ 24) (ρ 19 0) 0)) 22 (ug (ρ 22) (ρ 19 0) (u (ρ 17 0 + 1) - 48))) 17 (sc (((ρ 17 0 + 1) + 1)))) 18 (sc (1))) 19 (sc (ρ 19 0 + 1))) ++ cs) H := hP
                            have hD : va_D A (wM am ty τ (up (up (up (up (up (up (up ρ 20 (ug (ρ 20) (ρ 19 0) (ρ 17 0))) 21 (ug (ρ 21) (ρ 19 0) (u (ρ 17 0)))) 24 (ug (ρ 24) (ρ 19 0) 0)) 22 (ug (ρ 22) (ρ 19 0) (u (ρ 17 0 + 1) - 48))) 17 (sc (((ρ 17 0 + 1) + 1)))) 18 (sc (1))) 19 (sc (ρ 19 0 + 1))) ++ cs) := hD
                            exact eMv hQ hx hb hr hlk hP hD hS (Nat.le_of_ble_eq_true rfl) (Nat.le_of_ble_eq_true rfl) dX12_readStatement_274 (⟨1, ((ρ 17 0 + 1) + 1), (ug (ρ 22) (ρ 19 0) (u (ρ 17 0 + 1) - 48)), (ρ 23), (ug (ρ 24) (ρ 19 0) 0), rfl, rfl, .inr ⟨by rw [stB_d c20]; unfold dB; omega, rfl, by rw [stB_d c20]; unfold dB; omega⟩, fun j q => ⟨by first | rw [ug_n q, ug_n q] | rw [ug_n q] | rfl, by first | rw [ug_n q, ug_n q] | rw [ug_n q] | rfl, by first | rw [ug_n q, ug_n q] | rw [ug_n q] | rfl⟩⟩)
                          · exact absurd c223 (by decide)
                        · exact absurd c181 (by decide)
                    · exfalso
                      omega
              · have hP : va_P G gcl (wM am ty τ (up (up (up (up (up ρ 20 (ug (ρ 20) (ρ 19 0) (ρ 17 0))) 21 (ug (ρ 21) (ρ 19 0) (u (ρ 17 0)))) 24 (ug (ρ 24) (ρ 19 0) 0)) 18 (sc (1))) 17 (sc ((ρ 17 0 + 1)))) ++ cs) H := hP
                have hD : va_D A (wM am ty τ (up (up (up (up (up ρ 20 (ug (ρ 20) (ρ 19 0) (ρ 17 0))) 21 (ug (ρ 21) (ρ 19 0) (u (ρ 17 0)))) 24 (ug (ρ 24) (ρ 19 0) 0)) 18 (sc (1))) 17 (sc ((ρ 17 0 + 1)))) ++ cs) := hD
                have h135 : ¬ (48 ≤ u (ρ 17 0 + 1) ∧ u (ρ 17 0 + 1) ≤ 57) := h135
                refine lv_goto (tgt := 145) hx hb dX12_readStatement_138 (by decide) ?_
                refine li_iast (g := (ρ 22)) (W2 := wM am ty τ (up (up (up (up (up (up ρ 20 (ug (ρ 20) (ρ 19 0) (ρ 17 0))) 21 (ug (ρ 21) (ρ 19 0) (u (ρ 17 0)))) 24 (ug (ρ 24) (ρ 19 0) 0)) 18 (sc (1))) 17 (sc ((ρ 17 0 + 1)))) 22 (ug (ρ 22) (ρ 19 0) 0)) ++ cs) hx hb hK hP hD hS 11 0 (aM_11 _ _ _ _ _) rfl (by omega) (by omega) (by decide) rfl dX12_readStatement_145 (fun H locs hP hD hS => ?_)
                refine lv_aload_n hx hb dX12_readStatement_146 rfl (lv_at hl 2 rfl) ?_
                refine va_get (D := G) (ci := 11) (v := .int (ii 1)) (C := RX12) (T := TX12) (N := 52) hx hb hts in_X12 hown hK hP 0 (aM_0 _ _ _ _ _) rfl 18 (by decide) (hts _ q1283) (fun _ h9 => h9) rfl dX12_readStatement_147 ?_
                refine li_if_ne (tgt := 177) hx hb ⟨by decide, by decide⟩ dX12_readStatement_150 (by decide) (fun c150 => ?_) (fun c150 => ?_)
                · refine lv_aload_n hx hb dX12_readStatement_177 rfl (lv_at hl 2 rfl) ?_
                  refine va_get (D := G) (ci := 11) (v := .int (ii 1)) (C := RX12) (T := TX12) (N := 52) hx hb hts in_X12 hown hK hP 0 (aM_0 _ _ _ _ _) rfl 18 (by decide) (hts _ q1283) (fun _ h9 => h9) rfl dX12_readStatement_178 ?_
                  refine li_if_ne (tgt := 219) hx hb ⟨by decide, by decide⟩ dX12_readStatement_181 (by decide) (fun c181 => ?_) (fun c181 => ?_)
                  · refine lv_aload_n hx hb dX12_readStatement_219 rfl (lv_at hl 2 rfl) ?_
                    refine va_get (D := G) (ci := 11) (v := .int (ii 1)) (C := RX12) (T := TX12) (N := 52) hx hb hts in_X12 hown hK hP 0 (aM_0 _ _ _ _ _) rfl 18 (by decide) (hts _ q1283) (fun _ h9 => h9) rfl dX12_readStatement_220 ?_
                    refine li_if_ne (tgt := 258) hx hb ⟨by decide, by decide⟩ dX12_readStatement_223 (by decide) (fun c223 => ?_) (fun c223 => ?_)
                    · refine lv_aload_n hx hb dX12_readStatement_258 rfl (lv_at hl 2 rfl) ?_
                      refine li_bipush hx hb dX12_readStatement_259 (by decide) ?_
                      refine kM (va_runV (As := [.int (ii 59)]) (rest := []) ⟨hx, hb, hml, hown, hts⟩ ((m_takeM1 l G am ty τ (up (up (up (up (up (up ρ 20 (ug (ρ 20) (ρ 19 0) (ρ 17 0))) 21 (ug (ρ 21) (ρ 19 0) (u (ρ 17 0)))) 24 (ug (ρ 24) (ρ 19 0) 0)) 18 (sc (1))) 17 (sc ((ρ 17 0 + 1)))) 22 (ug (ρ 22) (ρ 19 0) 0)) cs 59 (show 1 = 1 from rfl)) H.size) (cwV 1 hts (lw_V q1457 q1459 qs42 q87 q1460) rfl rfl rfl (by decide +kernel) ⟨Nat.le_of_ble_eq_true rfl, Nat.le_of_ble_eq_true rfl⟩) (pvM (r := (RX12, TX12, 52)) hK hP hD hX 0 (aM_0 _ _ _ _ _) rfl) rfl rfl hl.1 rfl (lv_room (Nat.le_of_ble_eq_true rfl)) dX12_readStatement_261 ⟨Nat.le_of_ble_eq_true rfl, Nat.le_of_ble_eq_true rfl⟩) hD hS hA (fun v ws1 H locs hv hP hD hS => ?_)
                      obtain ⟨rfl, rfl⟩ := hv
                      have hP : va_P G gcl (wM am ty τ (up (up (up (up (up (up ρ 20 (ug (ρ 20) (ρ 19 0) (ρ 17 0))) 21 (ug (ρ 21) (ρ 19 0) (u (ρ 17 0)))) 24 (ug (ρ 24) (ρ 19 0) 0)) 17 (sc ((ρ 17 0 + 1)))) 22 (ug (ρ 22) (ρ 19 0) 0)) 18 (sc (1))) ++ cs) H := hP
                      have hD : va_D A (wM am ty τ (up (up (up (up (up (up ρ 20 (ug (ρ 20) (ρ 19 0) (ρ 17 0))) 21 (ug (ρ 21) (ρ 19 0) (u (ρ 17 0)))) 24 (ug (ρ 24) (ρ 19 0) 0)) 17 (sc ((ρ 17 0 + 1)))) 22 (ug (ρ 22) (ρ 19 0) 0)) 18 (sc (1))) ++ cs) := hD
                      refine lv_aload_n hx hb dX12_readStatement_264 rfl (lv_at hl 2 rfl) ?_
                      refine lv_dup hx hb dX12_readStatement_265 rfl ?_
                      refine va_get (D := G) (ci := 11) (v := .int (ii (ρ 19 0))) (C := RX12) (T := TX12) (N := 52) hx hb hts in_X12 hown hK hP 0 (aM_0 _ _ _ _ _) rfl 19 (by decide) (hts _ q1284) (fun _ h9 => h9) rfl dX12_readStatement_266 ?_
                      refine li_iconst hx hb dX12_readStatement_269 ?_
                      refine li_add hx hb dX12_readStatement_270 ?_
                      refine va_put (D := G) (ci := 11) (v := .int (ii (ρ 19 0 + 1))) (ty := .int) (C := RX12) (T := TX12) (N := 52) hx hb hts in_X12 tyX12 tyX12_ok nmX12 hown hK hP hD hS 0 (aM_0 _ _ _ _ _) rfl 19 (by decide) (hts _ q1284) (fun _ h9 => h9) rfl (tyX12_ok 19 (by decide)) rfl rfl (Nat.le_of_ble_eq_true rfl) dX12_readStatement_271 (fun H locs hP hD hS => ?_)
                      have hP : va_P G gcl (wM am ty τ (up (up (up (up (up (up (up ρ 20 (ug (ρ 20) (ρ 19 0) (ρ 17 0))) 21 (ug (ρ 21) (ρ 19 0) (u (ρ 17 0)))) 24 (ug (ρ 24) (ρ 19 0) 0)) 17 (sc ((ρ 17 0 + 1)))) 22 (ug (ρ 22) (ρ 19 0) 0)) 18 (sc (1))) 19 (sc (ρ 19 0 + 1))) ++ cs) H := hP
                      have hD : va_D A (wM am ty τ (up (up (up (up (up (up (up ρ 20 (ug (ρ 20) (ρ 19 0) (ρ 17 0))) 21 (ug (ρ 21) (ρ 19 0) (u (ρ 17 0)))) 24 (ug (ρ 24) (ρ 19 0) 0)) 17 (sc ((ρ 17 0 + 1)))) 22 (ug (ρ 22) (ρ 19 0) 0)) 18 (sc (1))) 19 (sc (ρ 19 0 + 1))) ++ cs) := hD
                      exact eMv hQ hx hb hr hlk hP hD hS (Nat.le_of_ble_eq_true rfl) (Nat.le_of_ble_eq_true rfl) dX12_readStatement_274 (⟨1, (ρ 17 0 + 1), (ug (ρ 22) (ρ 19 0) 0), (ρ 23), (ug (ρ 24) (ρ 19 0) 0), rfl, rfl, .inr ⟨by rw [stB_d c20]; unfold dB; omega, rfl, by rw [stB_d c20]; unfold dB; omega⟩, fun j q => ⟨by first | rw [ug_n q, ug_n q] | rw [ug_n q] | rfl, by first | rw [ug_n q, ug_n q] | rw [ug_n q] | rfl, by first | rw [ug_n q, ug_n q] | rw [ug_n q] | rfl⟩⟩)
                    · exact absurd c223 (by decide)
                  · exact absurd c181 (by decide)
                · exact absurd c150 (by decide)
            · exfalso
              omega
        · exact absurd c109 (by decide)
      · exact absurd c88 (by decide)
    · refine lv_iload_n hx hb dX12_readStatement_23 rfl (lv_at hl 1 rfl) ?_
      refine li_bipush hx hb dX12_readStatement_24 (by decide) ?_
      refine li_icmp_eq (tgt := 51) hx hb ⟨Int.le_trans (by decide) hzb1.1, Int.le_trans hzb1.2 (by decide)⟩ ⟨by decide, by decide⟩ dX12_readStatement_26 (by decide) (fun c26 => ?_) (fun c26 => ?_)
      · refine li_iconst hx hb dX12_readStatement_51 ?_
        refine va_put (D := G) (ci := 11) (v := .int (ii 0)) (ty := .boolean) (C := RX12) (T := TX12) (N := 52) hx hb hts in_X12 tyX12 tyX12_ok nmX12 hown hK hP hD hS 0 (aM_0 _ _ _ _ _) rfl 18 (by decide) (hts _ q1283) (fun _ h9 => h9) rfl (tyX12_ok 18 (by decide)) (nrw_z (by omega)) (fit_z (by omega)) (Nat.le_of_ble_eq_true rfl) dX12_readStatement_52 (fun H locs hP hD hS => ?_)
        have hP : va_P G gcl (wM am ty τ (up ρ 18 (sc (0))) ++ cs) H := hP
        have hD : va_D A (wM am ty τ (up ρ 18 (sc (0))) ++ cs) := hD
        refine lv_aload_n hx hb dX12_readStatement_55 rfl (lv_at hl 2 rfl) ?_
        refine va_get (D := G) (ci := 11) (v := .ref (am 9)) (C := RX12) (T := TX12) (N := 52) hx hb hts in_X12 hown hK hP 0 (aM_0 _ _ _ _ _) rfl 20 (by decide) (hts _ q1285) (fun _ h9 => h9) rfl dX12_readStatement_56 ?_
        refine lv_iload_n hx hb dX12_readStatement_59 rfl (lv_at hl 0 rfl) ?_
        refine lv_aload_n hx hb dX12_readStatement_60 rfl (lv_at hl 2 rfl) ?_
        refine va_get (D := G) (ci := 11) (v := .int (ii (ρ 17 0))) (C := RX12) (T := TX12) (N := 52) hx hb hts in_X12 hown hK hP 0 (aM_0 _ _ _ _ _) rfl 17 (by decide) (hts _ q1282) (fun _ h9 => h9) rfl dX12_readStatement_61 ?_
        refine li_iast (g := (ρ 20)) (W2 := wM am ty τ (up (up ρ 18 (sc (0))) 20 (ug (ρ 20) (ρ 19 0) (ρ 17 0))) ++ cs) hx hb hK hP hD hS 9 0 (aM_9 _ _ _ _ _) rfl (by omega) (by omega) (by decide) rfl dX12_readStatement_64 (fun H locs hP hD hS => ?_)
        refine lv_aload_n hx hb dX12_readStatement_65 rfl (lv_at hl 2 rfl) ?_
        refine va_get (D := G) (ci := 11) (v := .ref (am 10)) (C := RX12) (T := TX12) (N := 52) hx hb hts in_X12 hown hK hP 0 (aM_0 _ _ _ _ _) rfl 21 (by decide) (hts _ q1286) (fun _ h9 => h9) rfl dX12_readStatement_66 ?_
        refine lv_iload_n hx hb dX12_readStatement_69 rfl (lv_at hl 0 rfl) ?_
        refine lv_iload_n hx hb dX12_readStatement_70 rfl (lv_at hl 1 rfl) ?_
        refine li_iast (g := (ρ 21)) (W2 := wM am ty τ (up (up (up ρ 18 (sc (0))) 20 (ug (ρ 20) (ρ 19 0) (ρ 17 0))) 21 (ug (ρ 21) (ρ 19 0) (u (ρ 17 0)))) ++ cs) hx hb hK hP hD hS 10 0 (aM_10 _ _ _ _ _) rfl (by omega) (by omega) (by decide) rfl dX12_readStatement_71 (fun H locs hP hD hS => ?_)
        refine lv_aload_n hx hb dX12_readStatement_72 rfl (lv_at hl 2 rfl) ?_
        refine va_get (D := G) (ci := 11) (v := .ref (am 13)) (C := RX12) (T := TX12) (N := 52) hx hb hts in_X12 hown hK hP 0 (aM_0 _ _ _ _ _) rfl 24 (by decide) (hts _ q1289) (fun _ h9 => h9) rfl dX12_readStatement_73 ?_
        refine lv_iload_n hx hb dX12_readStatement_76 rfl (lv_at hl 0 rfl) ?_
        refine li_iconst hx hb dX12_readStatement_77 ?_
        refine li_zast (g := (ρ 24)) (W2 := wM am ty τ (up (up (up (up ρ 18 (sc (0))) 20 (ug (ρ 20) (ρ 19 0) (ρ 17 0))) 21 (ug (ρ 21) (ρ 19 0) (u (ρ 17 0)))) 24 (ug (ρ 24) (ρ 19 0) 0)) ++ cs) hx hb hK hP hD hS 13 1 (aM_13 _ _ _ _ _) rfl (by omega) (by omega) (by decide) (by omega) rfl dX12_readStatement_78 (fun H locs hP hD hS => ?_)
        refine lv_aload_n hx hb dX12_readStatement_79 rfl (lv_at hl 2 rfl) ?_
        refine lv_dup hx hb dX12_readStatement_80 rfl ?_
        refine va_get (D := G) (ci := 11) (v := .int (ii (ρ 17 0))) (C := RX12) (T := TX12) (N := 52) hx hb hts in_X12 hown hK hP 0 (aM_0 _ _ _ _ _) rfl 17 (by decide) (hts _ q1282) (fun _ h9 => h9) rfl dX12_readStatement_81 ?_
        refine lv_aload_n hx hb dX12_readStatement_84 rfl (lv_at hl 2 rfl) ?_
        refine va_get (D := G) (ci := 11) (v := .int (ii 0)) (C := RX12) (T := TX12) (N := 52) hx hb hts in_X12 hown hK hP 0 (aM_0 _ _ _ _ _) rfl 18 (by decide) (hts _ q1283) (fun _ h9 => h9) rfl dX12_readStatement_85 ?_
        refine li_if_eq (tgt := 95) hx hb ⟨by decide, by decide⟩ dX12_readStatement_88 (by decide) (fun c88 => ?_) (fun c88 => ?_)
        · refine li_iconst hx hb dX12_readStatement_95 ?_
          refine li_add hx hb dX12_readStatement_96 ?_
          refine va_put (D := G) (ci := 11) (v := .int (ii (ρ 17 0 + 1))) (ty := .int) (C := RX12) (T := TX12) (N := 52) hx hb hts in_X12 tyX12 tyX12_ok nmX12 hown hK hP hD hS 0 (aM_0 _ _ _ _ _) rfl 17 (by decide) (hts _ q1282) (fun _ h9 => h9) rfl (tyX12_ok 17 (by decide)) rfl rfl (Nat.le_of_ble_eq_true rfl) dX12_readStatement_97 (fun H locs hP hD hS => ?_)
          have hP : va_P G gcl (wM am ty τ (up (up (up (up (up ρ 18 (sc (0))) 20 (ug (ρ 20) (ρ 19 0) (ρ 17 0))) 21 (ug (ρ 21) (ρ 19 0) (u (ρ 17 0)))) 24 (ug (ρ 24) (ρ 19 0) 0)) 17 (sc (ρ 17 0 + 1))) ++ cs) H := hP
          have hD : va_D A (wM am ty τ (up (up (up (up (up ρ 18 (sc (0))) 20 (ug (ρ 20) (ρ 19 0) (ρ 17 0))) 21 (ug (ρ 21) (ρ 19 0) (u (ρ 17 0)))) 24 (ug (ρ 24) (ρ 19 0) 0)) 17 (sc (ρ 17 0 + 1))) ++ cs) := hD
          refine lv_aload_n hx hb dX12_readStatement_100 rfl (lv_at hl 2 rfl) ?_
          refine va_get (D := G) (ci := 11) (v := .ref (am 11)) (C := RX12) (T := TX12) (N := 52) hx hb hts in_X12 hown hK hP 0 (aM_0 _ _ _ _ _) rfl 22 (by decide) (hts _ q1287) (fun _ h9 => h9) rfl dX12_readStatement_101 ?_
          refine lv_iload_n hx hb dX12_readStatement_104 rfl (lv_at hl 0 rfl) ?_
          refine lv_aload_n hx hb dX12_readStatement_105 rfl (lv_at hl 2 rfl) ?_
          refine va_get (D := G) (ci := 11) (v := .int (ii 0)) (C := RX12) (T := TX12) (N := 52) hx hb hts in_X12 hown hK hP 0 (aM_0 _ _ _ _ _) rfl 18 (by decide) (hts _ q1283) (fun _ h9 => h9) rfl dX12_readStatement_106 ?_
          refine li_if_eq (tgt := 116) hx hb ⟨by decide, by decide⟩ dX12_readStatement_109 (by decide) (fun c109 => ?_) (fun c109 => ?_)
          · refine lv_iload_n hx hb dX12_readStatement_116 rfl (lv_at hl 1 rfl) ?_
            refine li_bipush hx hb dX12_readStatement_117 (by decide) ?_
            refine li_icmp_eq (tgt := 134) hx hb ⟨Int.le_trans (by decide) hzb1.1, Int.le_trans hzb1.2 (by decide)⟩ ⟨by decide, by decide⟩ dX12_readStatement_119 (by decide) (fun c119 => ?_) (fun c119 => ?_)
            · exfalso
              omega
            · refine lv_iload_n hx hb dX12_readStatement_122 rfl (lv_at hl 1 rfl) ?_
              refine li_bipush hx hb dX12_readStatement_123 (by decide) ?_
              refine li_icmp_eq (tgt := 134) hx hb ⟨Int.le_trans (by decide) hzb1.1, Int.le_trans hzb1.2 (by decide)⟩ ⟨by decide, by decide⟩ dX12_readStatement_125 (by decide) (fun c125 => ?_) (fun c125 => ?_)
              · exfalso
                omega
              · refine lv_iload_n hx hb dX12_readStatement_128 rfl (lv_at hl 1 rfl) ?_
                refine li_bipush hx hb dX12_readStatement_129 (by decide) ?_
                refine li_icmp_ne (tgt := 141) hx hb ⟨Int.le_trans (by decide) hzb1.1, Int.le_trans hzb1.2 (by decide)⟩ ⟨by decide, by decide⟩ dX12_readStatement_131 (by decide) (fun c131 => ?_) (fun c131 => ?_)
                · exfalso
                  omega
                · refine lv_aload_n hx hb dX12_readStatement_134 rfl (lv_at hl 2 rfl) ?_
                  refine kM (va_runV (As := []) (rest := [.int (ii (ρ 19 0)), .ref (am 11)]) ⟨hx, hb, hml, hown, hts⟩ ((m_readDigitM l G am ty τ (up (up (up (up (up ρ 18 (sc (0))) 20 (ug (ρ 20) (ρ 19 0) (ρ 17 0))) 21 (ug (ρ 21) (ρ 19 0) (u (ρ 17 0)))) 24 (ug (ρ 24) (ρ 19 0) 0)) 17 (sc (ρ 17 0 + 1))) cs _ hu (show 0 ≤ (ρ 17 0 + 1) ∧ (ρ 17 0 + 1) ≤ 110 from (by have q1 := nmE_b u (ρ 17 0 + 1); have q2 := nmE_b u (ρ 17 0 + 1 + 1 + 1); exact ⟨by omega, by omega⟩)) (show 0 ≤ (ρ 15 0) ∧ (ρ 15 0) ≤ 700 ∧ 0 ≤ (ρ 16 0) ∧ (ρ 16 0) ≤ 100 from hbe) (show ∀ x, 0 ≤ x → x < (ρ 16 0) → -128 ≤ (τ 50) ((ρ 15 0) + x) ∧ (τ 50) ((ρ 15 0) + x) ≤ 127 from hby) (show 0 = 0 from rfl)) H.size) (cwV 0 hts (lw_V q1447 q1449 qs40 q87 q1450) rfl rfl rfl (by decide +kernel) ⟨Nat.le_of_ble_eq_true rfl, Nat.le_of_ble_eq_true rfl⟩) (pvM (r := (RX12, TX12, 52)) hK hP hD hX 0 (aM_0 _ _ _ _ _) rfl) rfl rfl hl.1 rfl (lv_room (Nat.le_of_ble_eq_true rfl)) dX12_readStatement_135 ⟨Nat.le_of_ble_eq_true rfl, Nat.le_of_ble_eq_true rfl⟩) hD hS hA (fun v ws1 H locs hv hP hD hS => ?_)
                  obtain ⟨z135, b135, a135, rfl, rfl, ⟨h135, rfl, rfl, rfl⟩ | ⟨h135, rfl, rfl, rfl⟩⟩ := hv
                  · have hP : va_P G gcl (wM am ty τ (up (up (up (up (up ρ 20 (ug (ρ 20) (ρ 19 0) (ρ 17 0))) 21 (ug (ρ 21) (ρ 19 0) (u (ρ 17 0)))) 24 (ug (ρ 24) (ρ 19 0) 0)) 18 (sc (0))) 17 (sc ((ρ 17 0 + 1) + 1))) ++ cs) H := hP
                    have hD : va_D A (wM am ty τ (up (up (up (up (up ρ 20 (ug (ρ 20) (ρ 19 0) (ρ 17 0))) 21 (ug (ρ 21) (ρ 19 0) (u (ρ 17 0)))) 24 (ug (ρ 24) (ρ 19 0) 0)) 18 (sc (0))) 17 (sc ((ρ 17 0 + 1) + 1))) ++ cs) := hD
                    have h135 : 48 ≤ u (ρ 17 0 + 1) ∧ u (ρ 17 0 + 1) ≤ 57 := h135
                    refine lv_goto (tgt := 145) hx hb dX12_readStatement_138 (by decide) ?_
                    refine li_iast (g := (ρ 22)) (W2 := wM am ty τ (up (up (up (up (up (up ρ 20 (ug (ρ 20) (ρ 19 0) (ρ 17 0))) 21 (ug (ρ 21) (ρ 19 0) (u (ρ 17 0)))) 24 (ug (ρ 24) (ρ 19 0) 0)) 18 (sc (0))) 17 (sc ((ρ 17 0 + 1) + 1))) 22 (ug (ρ 22) (ρ 19 0) (u (ρ 17 0 + 1) - 48))) ++ cs) hx hb hK hP hD hS 11 0 (aM_11 _ _ _ _ _) rfl (by omega) (by omega) (by decide) rfl dX12_readStatement_145 (fun H locs hP hD hS => ?_)
                    refine lv_aload_n hx hb dX12_readStatement_146 rfl (lv_at hl 2 rfl) ?_
                    refine va_get (D := G) (ci := 11) (v := .int (ii 0)) (C := RX12) (T := TX12) (N := 52) hx hb hts in_X12 hown hK hP 0 (aM_0 _ _ _ _ _) rfl 18 (by decide) (hts _ q1283) (fun _ h9 => h9) rfl dX12_readStatement_147 ?_
                    refine li_if_ne (tgt := 177) hx hb ⟨by decide, by decide⟩ dX12_readStatement_150 (by decide) (fun c150 => ?_) (fun c150 => ?_)
                    · exact absurd c150 (by decide)
                    · refine lv_iload_n hx hb dX12_readStatement_153 rfl (lv_at hl 1 rfl) ?_
                      refine li_bipush hx hb dX12_readStatement_154 (by decide) ?_
                      refine li_icmp_eq (tgt := 171) hx hb ⟨Int.le_trans (by decide) hzb1.1, Int.le_trans hzb1.2 (by decide)⟩ ⟨by decide, by decide⟩ dX12_readStatement_156 (by decide) (fun c156 => ?_) (fun c156 => ?_)
                      · exfalso
                        omega
                      · refine lv_iload_n hx hb dX12_readStatement_159 rfl (lv_at hl 1 rfl) ?_
                        refine li_bipush hx hb dX12_readStatement_160 (by decide) ?_
                        refine li_icmp_eq (tgt := 171) hx hb ⟨Int.le_trans (by decide) hzb1.1, Int.le_trans hzb1.2 (by decide)⟩ ⟨by decide, by decide⟩ dX12_readStatement_162 (by decide) (fun c162 => ?_) (fun c162 => ?_)
                        · exfalso
                          omega
                        · refine lv_iload_n hx hb dX12_readStatement_165 rfl (lv_at hl 1 rfl) ?_
                          refine li_bipush hx hb dX12_readStatement_166 (by decide) ?_
                          refine li_icmp_ne (tgt := 177) hx hb ⟨Int.le_trans (by decide) hzb1.1, Int.le_trans hzb1.2 (by decide)⟩ ⟨by decide, by decide⟩ dX12_readStatement_168 (by decide) (fun c168 => ?_) (fun c168 => ?_)
                          · refine lv_aload_n hx hb dX12_readStatement_177 rfl (lv_at hl 2 rfl) ?_
                            refine va_get (D := G) (ci := 11) (v := .int (ii 0)) (C := RX12) (T := TX12) (N := 52) hx hb hts in_X12 hown hK hP 0 (aM_0 _ _ _ _ _) rfl 18 (by decide) (hts _ q1283) (fun _ h9 => h9) rfl dX12_readStatement_178 ?_
                            refine li_if_ne (tgt := 219) hx hb ⟨by decide, by decide⟩ dX12_readStatement_181 (by decide) (fun c181 => ?_) (fun c181 => ?_)
                            · exact absurd c181 (by decide)
                            · refine lv_iload_n hx hb dX12_readStatement_184 rfl (lv_at hl 1 rfl) ?_
                              refine li_bipush hx hb dX12_readStatement_185 (by decide) ?_
                              refine li_icmp_eq (tgt := 219) hx hb ⟨Int.le_trans (by decide) hzb1.1, Int.le_trans hzb1.2 (by decide)⟩ ⟨by decide, by decide⟩ dX12_readStatement_187 (by decide) (fun c187 => ?_) (fun c187 => ?_)
                              · exfalso
                                omega
                              · refine lv_iload_n hx hb dX12_readStatement_190 rfl (lv_at hl 1 rfl) ?_
                                refine li_bipush hx hb dX12_readStatement_191 (by decide) ?_
                                refine li_icmp_eq (tgt := 219) hx hb ⟨Int.le_trans (by decide) hzb1.1, Int.le_trans hzb1.2 (by decide)⟩ ⟨by decide, by decide⟩ dX12_readStatement_193 (by decide) (fun c193 => ?_) (fun c193 => ?_)
                                · exfalso
                                  omega
                                · refine lv_aload_n hx hb dX12_readStatement_196 rfl (lv_at hl 2 rfl) ?_
                                  refine va_get (D := G) (ci := 11) (v := .ref (am 12)) (C := RX12) (T := TX12) (N := 52) hx hb hts in_X12 hown hK hP 0 (aM_0 _ _ _ _ _) rfl 23 (by decide) (hts _ q1288) (fun _ h9 => h9) rfl dX12_readStatement_197 ?_
                                  refine lv_iload_n hx hb dX12_readStatement_200 rfl (lv_at hl 0 rfl) ?_
                                  refine lv_iload_n hx hb dX12_readStatement_201 rfl (lv_at hl 1 rfl) ?_
                                  refine li_bipush hx hb dX12_readStatement_202 (by decide) ?_
                                  refine li_icmp_ne (tgt := 214) hx hb ⟨Int.le_trans (by decide) hzb1.1, Int.le_trans hzb1.2 (by decide)⟩ ⟨by decide, by decide⟩ dX12_readStatement_204 (by decide) (fun c204 => ?_) (fun c204 => ?_)
                                  · refine lv_aload_n hx hb dX12_readStatement_214 rfl (lv_at hl 2 rfl) ?_
                                    refine kM (va_runV (As := []) (rest := [.int (ii (ρ 19 0)), .ref (am 12)]) ⟨hx, hb, hml, hown, hts⟩ ((m_readDigitM l G am ty τ (up (up (up (up (up (up ρ 20 (ug (ρ 20) (ρ 19 0) (ρ 17 0))) 21 (ug (ρ 21) (ρ 19 0) (u (ρ 17 0)))) 24 (ug (ρ 24) (ρ 19 0) 0)) 18 (sc (0))) 17 (sc ((ρ 17 0 + 1) + 1))) 22 (ug (ρ 22) (ρ 19 0) (u (ρ 17 0 + 1) - 48))) cs _ hu (show 0 ≤ ((ρ 17 0 + 1) + 1) ∧ ((ρ 17 0 + 1) + 1) ≤ 110 from (by have q1 := nmE_b u (ρ 17 0 + 1); have q2 := nmE_b u (ρ 17 0 + 1 + 1 + 1); exact ⟨by omega, by omega⟩)) (show 0 ≤ (ρ 15 0) ∧ (ρ 15 0) ≤ 700 ∧ 0 ≤ (ρ 16 0) ∧ (ρ 16 0) ≤ 100 from hbe) (show ∀ x, 0 ≤ x → x < (ρ 16 0) → -128 ≤ (τ 50) ((ρ 15 0) + x) ∧ (τ 50) ((ρ 15 0) + x) ≤ 127 from hby) (show 0 = 0 from rfl)) H.size) (cwV 0 hts (lw_V q1447 q1449 qs40 q87 q1450) rfl rfl rfl (by decide +kernel) ⟨Nat.le_of_ble_eq_true rfl, Nat.le_of_ble_eq_true rfl⟩) (pvM (r := (RX12, TX12, 52)) hK hP hD hX 0 (aM_0 _ _ _ _ _) rfl) rfl rfl hl.1 rfl (lv_room (Nat.le_of_ble_eq_true rfl)) dX12_readStatement_215 ⟨Nat.le_of_ble_eq_true rfl, Nat.le_of_ble_eq_true rfl⟩) hD hS hA (fun v ws1 H locs hv hP hD hS => ?_)
                                    obtain ⟨z215, b215, a215, rfl, rfl, ⟨h215, rfl, rfl, rfl⟩ | ⟨h215, rfl, rfl, rfl⟩⟩ := hv
                                    · have hP : va_P G gcl (wM am ty τ (up (up (up (up (up (up ρ 20 (ug (ρ 20) (ρ 19 0) (ρ 17 0))) 21 (ug (ρ 21) (ρ 19 0) (u (ρ 17 0)))) 24 (ug (ρ 24) (ρ 19 0) 0)) 22 (ug (ρ 22) (ρ 19 0) (u (ρ 17 0 + 1) - 48))) 18 (sc (0))) 17 (sc (((ρ 17 0 + 1) + 1) + 1))) ++ cs) H := hP
                                      have hD : va_D A (wM am ty τ (up (up (up (up (up (up ρ 20 (ug (ρ 20) (ρ 19 0) (ρ 17 0))) 21 (ug (ρ 21) (ρ 19 0) (u (ρ 17 0)))) 24 (ug (ρ 24) (ρ 19 0) 0)) 22 (ug (ρ 22) (ρ 19 0) (u (ρ 17 0 + 1) - 48))) 18 (sc (0))) 17 (sc (((ρ 17 0 + 1) + 1) + 1))) ++ cs) := hD
                                      have h215 : 48 ≤ u ((ρ 17 0 + 1) + 1) ∧ u ((ρ 17 0 + 1) + 1) ≤ 57 := h215
                                      refine li_iast (g := (ρ 23)) (W2 := wM am ty τ (up (up (up (up (up (up (up ρ 20 (ug (ρ 20) (ρ 19 0) (ρ 17 0))) 21 (ug (ρ 21) (ρ 19 0) (u (ρ 17 0)))) 24 (ug (ρ 24) (ρ 19 0) 0)) 22 (ug (ρ 22) (ρ 19 0) (u (ρ 17 0 + 1) - 48))) 18 (sc (0))) 17 (sc (((ρ 17 0 + 1) + 1) + 1))) 23 (ug (ρ 23) (ρ 19 0) (u ((ρ 17 0 + 1) + 1) - 48))) ++ cs) hx hb hK hP hD hS 12 0 (aM_12 _ _ _ _ _) rfl (by omega) (by omega) (by decide) rfl dX12_readStatement_218 (fun H locs hP hD hS => ?_)
                                      refine lv_aload_n hx hb dX12_readStatement_219 rfl (lv_at hl 2 rfl) ?_
                                      refine va_get (D := G) (ci := 11) (v := .int (ii 0)) (C := RX12) (T := TX12) (N := 52) hx hb hts in_X12 hown hK hP 0 (aM_0 _ _ _ _ _) rfl 18 (by decide) (hts _ q1283) (fun _ h9 => h9) rfl dX12_readStatement_220 ?_
                                      refine li_if_ne (tgt := 258) hx hb ⟨by decide, by decide⟩ dX12_readStatement_223 (by decide) (fun c223 => ?_) (fun c223 => ?_)
                                      · exact absurd c223 (by decide)
                                      · refine lv_iload_n hx hb dX12_readStatement_226 rfl (lv_at hl 1 rfl) ?_
                                        refine li_bipush hx hb dX12_readStatement_227 (by decide) ?_
                                        refine li_icmp_ne (tgt := 258) hx hb ⟨Int.le_trans (by decide) hzb1.1, Int.le_trans hzb1.2 (by decide)⟩ ⟨by decide, by decide⟩ dX12_readStatement_229 (by decide) (fun c229 => ?_) (fun c229 => ?_)
                                        · refine lv_aload_n hx hb dX12_readStatement_258 rfl (lv_at hl 2 rfl) ?_
                                          refine li_bipush hx hb dX12_readStatement_259 (by decide) ?_
                                          refine kM (va_runV (As := [.int (ii 59)]) (rest := []) ⟨hx, hb, hml, hown, hts⟩ ((m_takeM0 l G am ty τ (up (up (up (up (up (up (up ρ 20 (ug (ρ 20) (ρ 19 0) (ρ 17 0))) 21 (ug (ρ 21) (ρ 19 0) (u (ρ 17 0)))) 24 (ug (ρ 24) (ρ 19 0) 0)) 22 (ug (ρ 22) (ρ 19 0) (u (ρ 17 0 + 1) - 48))) 18 (sc (0))) 17 (sc (((ρ 17 0 + 1) + 1) + 1))) 23 (ug (ρ 23) (ρ 19 0) (u ((ρ 17 0 + 1) + 1) - 48))) cs 59 _ hu (show 0 ≤ (((ρ 17 0 + 1) + 1) + 1) ∧ (((ρ 17 0 + 1) + 1) + 1) ≤ 110 from (by have q1 := nmE_b u (ρ 17 0 + 1); have q2 := nmE_b u (ρ 17 0 + 1 + 1 + 1); exact ⟨by omega, by omega⟩)) (show 0 ≤ (ρ 15 0) ∧ (ρ 15 0) ≤ 700 ∧ 0 ≤ (ρ 16 0) ∧ (ρ 16 0) ≤ 100 from hbe) (show rg 59 from ⟨by decide, by decide⟩) (show 0 = 0 from rfl)) H.size) (cwV 1 hts (lw_V q1457 q1459 qs42 q87 q1460) rfl rfl rfl (by decide +kernel) ⟨Nat.le_of_ble_eq_true rfl, Nat.le_of_ble_eq_true rfl⟩) (pvM (r := (RX12, TX12, 52)) hK hP hD hX 0 (aM_0 _ _ _ _ _) rfl) rfl rfl hl.1 rfl (lv_room (Nat.le_of_ble_eq_true rfl)) dX12_readStatement_261 ⟨Nat.le_of_ble_eq_true rfl, Nat.le_of_ble_eq_true rfl⟩) hD hS hA (fun v ws1 H locs hv hP hD hS => ?_)
                                          obtain ⟨b261, a261, rfl, rfl, ⟨h261, rfl, rfl⟩ | ⟨h261, rfl, rfl⟩⟩ := hv
                                          · have hP : va_P G gcl (wM am ty τ (up (up (up (up (up (up (up ρ 20 (ug (ρ 20) (ρ 19 0) (ρ 17 0))) 21 (ug (ρ 21) (ρ 19 0) (u (ρ 17 0)))) 24 (ug (ρ 24) (ρ 19 0) 0)) 22 (ug (ρ 22) (ρ 19 0) (u (ρ 17 0 + 1) - 48))) 23 (ug (ρ 23) (ρ 19 0) (u ((ρ 17 0 + 1) + 1) - 48))) 18 (sc (0))) 17 (sc ((((ρ 17 0 + 1) + 1) + 1) + 1))) ++ cs) H := hP
                                            have hD : va_D A (wM am ty τ (up (up (up (up (up (up (up ρ 20 (ug (ρ 20) (ρ 19 0) (ρ 17 0))) 21 (ug (ρ 21) (ρ 19 0) (u (ρ 17 0)))) 24 (ug (ρ 24) (ρ 19 0) 0)) 22 (ug (ρ 22) (ρ 19 0) (u (ρ 17 0 + 1) - 48))) 23 (ug (ρ 23) (ρ 19 0) (u ((ρ 17 0 + 1) + 1) - 48))) 18 (sc (0))) 17 (sc ((((ρ 17 0 + 1) + 1) + 1) + 1))) ++ cs) := hD
                                            have h261 : u (((ρ 17 0 + 1) + 1) + 1) = 59 := h261
                                            refine lv_aload_n hx hb dX12_readStatement_264 rfl (lv_at hl 2 rfl) ?_
                                            refine lv_dup hx hb dX12_readStatement_265 rfl ?_
                                            refine va_get (D := G) (ci := 11) (v := .int (ii (ρ 19 0))) (C := RX12) (T := TX12) (N := 52) hx hb hts in_X12 hown hK hP 0 (aM_0 _ _ _ _ _) rfl 19 (by decide) (hts _ q1284) (fun _ h9 => h9) rfl dX12_readStatement_266 ?_
                                            refine li_iconst hx hb dX12_readStatement_269 ?_
                                            refine li_add hx hb dX12_readStatement_270 ?_
                                            refine va_put (D := G) (ci := 11) (v := .int (ii (ρ 19 0 + 1))) (ty := .int) (C := RX12) (T := TX12) (N := 52) hx hb hts in_X12 tyX12 tyX12_ok nmX12 hown hK hP hD hS 0 (aM_0 _ _ _ _ _) rfl 19 (by decide) (hts _ q1284) (fun _ h9 => h9) rfl (tyX12_ok 19 (by decide)) rfl rfl (Nat.le_of_ble_eq_true rfl) dX12_readStatement_271 (fun H locs hP hD hS => ?_)
                                            have hP : va_P G gcl (wM am ty τ (up (up (up (up (up (up (up (up ρ 20 (ug (ρ 20) (ρ 19 0) (ρ 17 0))) 21 (ug (ρ 21) (ρ 19 0) (u (ρ 17 0)))) 24 (ug (ρ 24) (ρ 19 0) 0)) 22 (ug (ρ 22) (ρ 19 0) (u (ρ 17 0 + 1) - 48))) 23 (ug (ρ 23) (ρ 19 0) (u ((ρ 17 0 + 1) + 1) - 48))) 18 (sc (0))) 17 (sc ((((ρ 17 0 + 1) + 1) + 1) + 1))) 19 (sc (ρ 19 0 + 1))) ++ cs) H := hP
                                            have hD : va_D A (wM am ty τ (up (up (up (up (up (up (up (up ρ 20 (ug (ρ 20) (ρ 19 0) (ρ 17 0))) 21 (ug (ρ 21) (ρ 19 0) (u (ρ 17 0)))) 24 (ug (ρ 24) (ρ 19 0) 0)) 22 (ug (ρ 22) (ρ 19 0) (u (ρ 17 0 + 1) - 48))) 23 (ug (ρ 23) (ρ 19 0) (u ((ρ 17 0 + 1) + 1) - 48))) 18 (sc (0))) 17 (sc ((((ρ 17 0 + 1) + 1) + 1) + 1))) 19 (sc (ρ 19 0 + 1))) ++ cs) := hD
                                            exact eMv hQ hx hb hr hlk hP hD hS (Nat.le_of_ble_eq_true rfl) (Nat.le_of_ble_eq_true rfl) dX12_readStatement_274 (⟨0, (((ρ 17 0 + 1) + 1) + 1) + 1, (ug (ρ 22) (ρ 19 0) (u (ρ 17 0 + 1) - 48)), (ug (ρ 23) (ρ 19 0) (u ((ρ 17 0 + 1) + 1) - 48)), (ug (ρ 24) (ρ 19 0) 0), rfl, rfl, .inl ⟨by rw [stB_p c26]; unfold pB; omega, rfl, by unfold stE; omega, by rw [ug_s]; unfold stX; omega, fun q => by first | omega | (rw [ug_s]; unfold stY; omega), by rw [ug_s]; unfold stZ; omega⟩, fun j q => ⟨by first | rw [ug_n q, ug_n q] | rw [ug_n q] | rfl, by first | rw [ug_n q, ug_n q] | rw [ug_n q] | rfl, by first | rw [ug_n q, ug_n q] | rw [ug_n q] | rfl⟩⟩)
                                          · have hP : va_P G gcl (wM am ty τ (up (up (up (up (up (up (up ρ 20 (ug (ρ 20) (ρ 19 0) (ρ 17 0))) 21 (ug (ρ 21) (ρ 19 0) (u (ρ 17 0)))) 24 (ug (ρ 24) (ρ 19 0) 0)) 22 (ug (ρ 22) (ρ 19 0) (u (ρ 17 0 + 1) - 48))) 23 (ug (ρ 23) (ρ 19 0) (u ((ρ 17 0 + 1) + 1) - 48))) 18 (sc (1))) 17 (sc ((((ρ 17 0 + 1) + 1) + 1)))) ++ cs) H := hP
                                            have hD : va_D A (wM am ty τ (up (up (up (up (up (up (up ρ 20 (ug (ρ 20) (ρ 19 0) (ρ 17 0))) 21 (ug (ρ 21) (ρ 19 0) (u (ρ 17 0)))) 24 (ug (ρ 24) (ρ 19 0) 0)) 22 (ug (ρ 22) (ρ 19 0) (u (ρ 17 0 + 1) - 48))) 23 (ug (ρ 23) (ρ 19 0) (u ((ρ 17 0 + 1) + 1) - 48))) 18 (sc (1))) 17 (sc ((((ρ 17 0 + 1) + 1) + 1)))) ++ cs) := hD
                                            have h261 : ¬ u (((ρ 17 0 + 1) + 1) + 1) = 59 := h261
                                            refine lv_aload_n hx hb dX12_readStatement_264 rfl (lv_at hl 2 rfl) ?_
                                            refine lv_dup hx hb dX12_readStatement_265 rfl ?_
                                            refine va_get (D := G) (ci := 11) (v := .int (ii (ρ 19 0))) (C := RX12) (T := TX12) (N := 52) hx hb hts in_X12 hown hK hP 0 (aM_0 _ _ _ _ _) rfl 19 (by decide) (hts _ q1284) (fun _ h9 => h9) rfl dX12_readStatement_266 ?_
                                            refine li_iconst hx hb dX12_readStatement_269 ?_
                                            refine li_add hx hb dX12_readStatement_270 ?_
                                            refine va_put (D := G) (ci := 11) (v := .int (ii (ρ 19 0 + 1))) (ty := .int) (C := RX12) (T := TX12) (N := 52) hx hb hts in_X12 tyX12 tyX12_ok nmX12 hown hK hP hD hS 0 (aM_0 _ _ _ _ _) rfl 19 (by decide) (hts _ q1284) (fun _ h9 => h9) rfl (tyX12_ok 19 (by decide)) rfl rfl (Nat.le_of_ble_eq_true rfl) dX12_readStatement_271 (fun H locs hP hD hS => ?_)
                                            have hP : va_P G gcl (wM am ty τ (up (up (up (up (up (up (up (up ρ 20 (ug (ρ 20) (ρ 19 0) (ρ 17 0))) 21 (ug (ρ 21) (ρ 19 0) (u (ρ 17 0)))) 24 (ug (ρ 24) (ρ 19 0) 0)) 22 (ug (ρ 22) (ρ 19 0) (u (ρ 17 0 + 1) - 48))) 23 (ug (ρ 23) (ρ 19 0) (u ((ρ 17 0 + 1) + 1) - 48))) 18 (sc (1))) 17 (sc ((((ρ 17 0 + 1) + 1) + 1)))) 19 (sc (ρ 19 0 + 1))) ++ cs) H := hP
                                            have hD : va_D A (wM am ty τ (up (up (up (up (up (up (up (up ρ 20 (ug (ρ 20) (ρ 19 0) (ρ 17 0))) 21 (ug (ρ 21) (ρ 19 0) (u (ρ 17 0)))) 24 (ug (ρ 24) (ρ 19 0) 0)) 22 (ug (ρ 22) (ρ 19 0) (u (ρ 17 0 + 1) - 48))) 23 (ug (ρ 23) (ρ 19 0) (u ((ρ 17 0 + 1) + 1) - 48))) 18 (sc (1))) 17 (sc ((((ρ 17 0 + 1) + 1) + 1)))) 19 (sc (ρ 19 0 + 1))) ++ cs) := hD
                                            exact eMv hQ hx hb hr hlk hP hD hS (Nat.le_of_ble_eq_true rfl) (Nat.le_of_ble_eq_true rfl) dX12_readStatement_274 (⟨1, (((ρ 17 0 + 1) + 1) + 1), (ug (ρ 22) (ρ 19 0) (u (ρ 17 0 + 1) - 48)), (ug (ρ 23) (ρ 19 0) (u ((ρ 17 0 + 1) + 1) - 48)), (ug (ρ 24) (ρ 19 0) 0), rfl, rfl, .inr ⟨by rw [stB_p c26]; unfold pB; omega, rfl, by rw [stB_p c26]; unfold pB; omega⟩, fun j q => ⟨by first | rw [ug_n q, ug_n q] | rw [ug_n q] | rfl, by first | rw [ug_n q, ug_n q] | rw [ug_n q] | rfl, by first | rw [ug_n q, ug_n q] | rw [ug_n q] | rfl⟩⟩)
                                        · exfalso
                                          omega
                                    · have hP : va_P G gcl (wM am ty τ (up (up (up (up (up (up ρ 20 (ug (ρ 20) (ρ 19 0) (ρ 17 0))) 21 (ug (ρ 21) (ρ 19 0) (u (ρ 17 0)))) 24 (ug (ρ 24) (ρ 19 0) 0)) 22 (ug (ρ 22) (ρ 19 0) (u (ρ 17 0 + 1) - 48))) 18 (sc (1))) 17 (sc (((ρ 17 0 + 1) + 1)))) ++ cs) H := hP
                                      have hD : va_D A (wM am ty τ (up (up (up (up (up (up ρ 20 (ug (ρ 20) (ρ 19 0) (ρ 17 0))) 21 (ug (ρ 21) (ρ 19 0) (u (ρ 17 0)))) 24 (ug (ρ 24) (ρ 19 0) 0)) 22 (ug (ρ 22) (ρ 19 0) (u (ρ 17 0 + 1) - 48))) 18 (sc (1))) 17 (sc (((ρ 17 0 + 1) + 1)))) ++ cs) := hD
                                      have h215 : ¬ (48 ≤ u ((ρ 17 0 + 1) + 1) ∧ u ((ρ 17 0 + 1) + 1) ≤ 57) := h215
                                      refine li_iast (g := (ρ 23)) (W2 := wM am ty τ (up (up (up (up (up (up (up ρ 20 (ug (ρ 20) (ρ 19 0) (ρ 17 0))) 21 (ug (ρ 21) (ρ 19 0) (u (ρ 17 0)))) 24 (ug (ρ 24) (ρ 19 0) 0)) 22 (ug (ρ 22) (ρ 19 0) (u (ρ 17 0 + 1) - 48))) 18 (sc (1))) 17 (sc (((ρ 17 0 + 1) + 1)))) 23 (ug (ρ 23) (ρ 19 0) 0)) ++ cs) hx hb hK hP hD hS 12 0 (aM_12 _ _ _ _ _) rfl (by omega) (by omega) (by decide) rfl dX12_readStatement_218 (fun H locs hP hD hS => ?_)
                                      refine lv_aload_n hx hb dX12_readStatement_219 rfl (lv_at hl 2 rfl) ?_
                                      refine va_get (D := G) (ci := 11) (v := .int (ii 1)) (C := RX12) (T := TX12) (N := 52) hx hb hts in_X12 hown hK hP 0 (aM_0 _ _ _ _ _) rfl 18 (by decide) (hts _ q1283) (fun _ h9 => h9) rfl dX12_readStatement_220 ?_
                                      refine li_if_ne (tgt := 258) hx hb ⟨by decide, by decide⟩ dX12_readStatement_223 (by decide) (fun c223 => ?_) (fun c223 => ?_)
                                      · refine lv_aload_n hx hb dX12_readStatement_258 rfl (lv_at hl 2 rfl) ?_
                                        refine li_bipush hx hb dX12_readStatement_259 (by decide) ?_
                                        refine kM (va_runV (As := [.int (ii 59)]) (rest := []) ⟨hx, hb, hml, hown, hts⟩ ((m_takeM1 l G am ty τ (up (up (up (up (up (up (up ρ 20 (ug (ρ 20) (ρ 19 0) (ρ 17 0))) 21 (ug (ρ 21) (ρ 19 0) (u (ρ 17 0)))) 24 (ug (ρ 24) (ρ 19 0) 0)) 22 (ug (ρ 22) (ρ 19 0) (u (ρ 17 0 + 1) - 48))) 18 (sc (1))) 17 (sc (((ρ 17 0 + 1) + 1)))) 23 (ug (ρ 23) (ρ 19 0) 0)) cs 59 (show 1 = 1 from rfl)) H.size) (cwV 1 hts (lw_V q1457 q1459 qs42 q87 q1460) rfl rfl rfl (by decide +kernel) ⟨Nat.le_of_ble_eq_true rfl, Nat.le_of_ble_eq_true rfl⟩) (pvM (r := (RX12, TX12, 52)) hK hP hD hX 0 (aM_0 _ _ _ _ _) rfl) rfl rfl hl.1 rfl (lv_room (Nat.le_of_ble_eq_true rfl)) dX12_readStatement_261 ⟨Nat.le_of_ble_eq_true rfl, Nat.le_of_ble_eq_true rfl⟩) hD hS hA (fun v ws1 H locs hv hP hD hS => ?_)
                                        obtain ⟨rfl, rfl⟩ := hv
                                        have hP : va_P G gcl (wM am ty τ (up (up (up (up (up (up (up ρ 20 (ug (ρ 20) (ρ 19 0) (ρ 17 0))) 21 (ug (ρ 21) (ρ 19 0) (u (ρ 17 0)))) 24 (ug (ρ 24) (ρ 19 0) 0)) 22 (ug (ρ 22) (ρ 19 0) (u (ρ 17 0 + 1) - 48))) 17 (sc (((ρ 17 0 + 1) + 1)))) 23 (ug (ρ 23) (ρ 19 0) 0)) 18 (sc (1))) ++ cs) H := hP
                                        have hD : va_D A (wM am ty τ (up (up (up (up (up (up (up ρ 20 (ug (ρ 20) (ρ 19 0) (ρ 17 0))) 21 (ug (ρ 21) (ρ 19 0) (u (ρ 17 0)))) 24 (ug (ρ 24) (ρ 19 0) 0)) 22 (ug (ρ 22) (ρ 19 0) (u (ρ 17 0 + 1) - 48))) 17 (sc (((ρ 17 0 + 1) + 1)))) 23 (ug (ρ 23) (ρ 19 0) 0)) 18 (sc (1))) ++ cs) := hD
                                        refine lv_aload_n hx hb dX12_readStatement_264 rfl (lv_at hl 2 rfl) ?_
                                        refine lv_dup hx hb dX12_readStatement_265 rfl ?_
                                        refine va_get (D := G) (ci := 11) (v := .int (ii (ρ 19 0))) (C := RX12) (T := TX12) (N := 52) hx hb hts in_X12 hown hK hP 0 (aM_0 _ _ _ _ _) rfl 19 (by decide) (hts _ q1284) (fun _ h9 => h9) rfl dX12_readStatement_266 ?_
                                        refine li_iconst hx hb dX12_readStatement_269 ?_
                                        refine li_add hx hb dX12_readStatement_270 ?_
                                        refine va_put (D := G) (ci := 11) (v := .int (ii (ρ 19 0 + 1))) (ty := .int) (C := RX12) (T := TX12) (N := 52) hx hb hts in_X12 tyX12 tyX12_ok nmX12 hown hK hP hD hS 0 (aM_0 _ _ _ _ _) rfl 19 (by decide) (hts _ q1284) (fun _ h9 => h9) rfl (tyX12_ok 19 (by decide)) rfl rfl (Nat.le_of_ble_eq_true rfl) dX12_readStatement_271 (fun H locs hP hD hS => ?_)
                                        have hP : va_P G gcl (wM am ty τ (up (up (up (up (up (up (up (up ρ 20 (ug (ρ 20) (ρ 19 0) (ρ 17 0))) 21 (ug (ρ 21) (ρ 19 0) (u (ρ 17 0)))) 24 (ug (ρ 24) (ρ 19 0) 0)) 22 (ug (ρ 22) (ρ 19 0) (u (ρ 17 0 + 1) - 48))) 17 (sc (((ρ 17 0 + 1) + 1)))) 23 (ug (ρ 23) (ρ 19 0) 0)) 18 (sc (1))) 19 (sc (ρ 19 0 + 1))) ++ cs) H := hP
                                        have hD : va_D A (wM am ty τ (up (up (up (up (up (up (up (up ρ 20 (ug (ρ 20) (ρ 19 0) (ρ 17 0))) 21 (ug (ρ 21) (ρ 19 0) (u (ρ 17 0)))) 24 (ug (ρ 24) (ρ 19 0) 0)) 22 (ug (ρ 22) (ρ 19 0) (u (ρ 17 0 + 1) - 48))) 17 (sc (((ρ 17 0 + 1) + 1)))) 23 (ug (ρ 23) (ρ 19 0) 0)) 18 (sc (1))) 19 (sc (ρ 19 0 + 1))) ++ cs) := hD
                                        exact eMv hQ hx hb hr hlk hP hD hS (Nat.le_of_ble_eq_true rfl) (Nat.le_of_ble_eq_true rfl) dX12_readStatement_274 (⟨1, ((ρ 17 0 + 1) + 1), (ug (ρ 22) (ρ 19 0) (u (ρ 17 0 + 1) - 48)), (ug (ρ 23) (ρ 19 0) 0), (ug (ρ 24) (ρ 19 0) 0), rfl, rfl, .inr ⟨by rw [stB_p c26]; unfold pB; omega, rfl, by rw [stB_p c26]; unfold pB; omega⟩, fun j q => ⟨by first | rw [ug_n q, ug_n q] | rw [ug_n q] | rfl, by first | rw [ug_n q, ug_n q] | rw [ug_n q] | rfl, by first | rw [ug_n q, ug_n q] | rw [ug_n q] | rfl⟩⟩)
                                      · exact absurd c223 (by decide)
                                  · exfalso
                                    omega
                          · exfalso
                            omega
                  · have hP : va_P G gcl (wM am ty τ (up (up (up (up (up ρ 20 (ug (ρ 20) (ρ 19 0) (ρ 17 0))) 21 (ug (ρ 21) (ρ 19 0) (u (ρ 17 0)))) 24 (ug (ρ 24) (ρ 19 0) 0)) 18 (sc (1))) 17 (sc ((ρ 17 0 + 1)))) ++ cs) H := hP
                    have hD : va_D A (wM am ty τ (up (up (up (up (up ρ 20 (ug (ρ 20) (ρ 19 0) (ρ 17 0))) 21 (ug (ρ 21) (ρ 19 0) (u (ρ 17 0)))) 24 (ug (ρ 24) (ρ 19 0) 0)) 18 (sc (1))) 17 (sc ((ρ 17 0 + 1)))) ++ cs) := hD
                    have h135 : ¬ (48 ≤ u (ρ 17 0 + 1) ∧ u (ρ 17 0 + 1) ≤ 57) := h135
                    refine lv_goto (tgt := 145) hx hb dX12_readStatement_138 (by decide) ?_
                    refine li_iast (g := (ρ 22)) (W2 := wM am ty τ (up (up (up (up (up (up ρ 20 (ug (ρ 20) (ρ 19 0) (ρ 17 0))) 21 (ug (ρ 21) (ρ 19 0) (u (ρ 17 0)))) 24 (ug (ρ 24) (ρ 19 0) 0)) 18 (sc (1))) 17 (sc ((ρ 17 0 + 1)))) 22 (ug (ρ 22) (ρ 19 0) 0)) ++ cs) hx hb hK hP hD hS 11 0 (aM_11 _ _ _ _ _) rfl (by omega) (by omega) (by decide) rfl dX12_readStatement_145 (fun H locs hP hD hS => ?_)
                    refine lv_aload_n hx hb dX12_readStatement_146 rfl (lv_at hl 2 rfl) ?_
                    refine va_get (D := G) (ci := 11) (v := .int (ii 1)) (C := RX12) (T := TX12) (N := 52) hx hb hts in_X12 hown hK hP 0 (aM_0 _ _ _ _ _) rfl 18 (by decide) (hts _ q1283) (fun _ h9 => h9) rfl dX12_readStatement_147 ?_
                    refine li_if_ne (tgt := 177) hx hb ⟨by decide, by decide⟩ dX12_readStatement_150 (by decide) (fun c150 => ?_) (fun c150 => ?_)
                    · refine lv_aload_n hx hb dX12_readStatement_177 rfl (lv_at hl 2 rfl) ?_
                      refine va_get (D := G) (ci := 11) (v := .int (ii 1)) (C := RX12) (T := TX12) (N := 52) hx hb hts in_X12 hown hK hP 0 (aM_0 _ _ _ _ _) rfl 18 (by decide) (hts _ q1283) (fun _ h9 => h9) rfl dX12_readStatement_178 ?_
                      refine li_if_ne (tgt := 219) hx hb ⟨by decide, by decide⟩ dX12_readStatement_181 (by decide) (fun c181 => ?_) (fun c181 => ?_)
                      · refine lv_aload_n hx hb dX12_readStatement_219 rfl (lv_at hl 2 rfl) ?_
                        refine va_get (D := G) (ci := 11) (v := .int (ii 1)) (C := RX12) (T := TX12) (N := 52) hx hb hts in_X12 hown hK hP 0 (aM_0 _ _ _ _ _) rfl 18 (by decide) (hts _ q1283) (fun _ h9 => h9) rfl dX12_readStatement_220 ?_
                        refine li_if_ne (tgt := 258) hx hb ⟨by decide, by decide⟩ dX12_readStatement_223 (by decide) (fun c223 => ?_) (fun c223 => ?_)
                        · refine lv_aload_n hx hb dX12_readStatement_258 rfl (lv_at hl 2 rfl) ?_
                          refine li_bipush hx hb dX12_readStatement_259 (by decide) ?_
                          refine kM (va_runV (As := [.int (ii 59)]) (rest := []) ⟨hx, hb, hml, hown, hts⟩ ((m_takeM1 l G am ty τ (up (up (up (up (up (up ρ 20 (ug (ρ 20) (ρ 19 0) (ρ 17 0))) 21 (ug (ρ 21) (ρ 19 0) (u (ρ 17 0)))) 24 (ug (ρ 24) (ρ 19 0) 0)) 18 (sc (1))) 17 (sc ((ρ 17 0 + 1)))) 22 (ug (ρ 22) (ρ 19 0) 0)) cs 59 (show 1 = 1 from rfl)) H.size) (cwV 1 hts (lw_V q1457 q1459 qs42 q87 q1460) rfl rfl rfl (by decide +kernel) ⟨Nat.le_of_ble_eq_true rfl, Nat.le_of_ble_eq_true rfl⟩) (pvM (r := (RX12, TX12, 52)) hK hP hD hX 0 (aM_0 _ _ _ _ _) rfl) rfl rfl hl.1 rfl (lv_room (Nat.le_of_ble_eq_true rfl)) dX12_readStatement_261 ⟨Nat.le_of_ble_eq_true rfl, Nat.le_of_ble_eq_true rfl⟩) hD hS hA (fun v ws1 H locs hv hP hD hS => ?_)
                          obtain ⟨rfl, rfl⟩ := hv
                          have hP : va_P G gcl (wM am ty τ (up (up (up (up (up (up ρ 20 (ug (ρ 20) (ρ 19 0) (ρ 17 0))) 21 (ug (ρ 21) (ρ 19 0) (u (ρ 17 0)))) 24 (ug (ρ 24) (ρ 19 0) 0)) 17 (sc ((ρ 17 0 + 1)))) 22 (ug (ρ 22) (ρ 19 0) 0)) 18 (sc (1))) ++ cs) H := hP
                          have hD : va_D A (wM am ty τ (up (up (up (up (up (up ρ 20 (ug (ρ 20) (ρ 19 0) (ρ 17 0))) 21 (ug (ρ 21) (ρ 19 0) (u (ρ 17 0)))) 24 (ug (ρ 24) (ρ 19 0) 0)) 17 (sc ((ρ 17 0 + 1)))) 22 (ug (ρ 22) (ρ 19 0) 0)) 18 (sc (1))) ++ cs) := hD
                          refine lv_aload_n hx hb dX12_readStatement_264 rfl (lv_at hl 2 rfl) ?_
                          refine lv_dup hx hb dX12_readStatement_265 rfl ?_
                          refine va_get (D := G) (ci := 11) (v := .int (ii (ρ 19 0))) (C := RX12) (T := TX12) (N := 52) hx hb hts in_X12 hown hK hP 0 (aM_0 _ _ _ _ _) rfl 19 (by decide) (hts _ q1284) (fun _ h9 => h9) rfl dX12_readStatement_266 ?_
                          refine li_iconst hx hb dX12_readStatement_269 ?_
                          refine li_add hx hb dX12_readStatement_270 ?_
                          refine va_put (D := G) (ci := 11) (v := .int (ii (ρ 19 0 + 1))) (ty := .int) (C := RX12) (T := TX12) (N := 52) hx hb hts in_X12 tyX12 tyX12_ok nmX12 hown hK hP hD hS 0 (aM_0 _ _ _ _ _) rfl 19 (by decide) (hts _ q1284) (fun _ h9 => h9) rfl (tyX12_ok 19 (by decide)) rfl rfl (Nat.le_of_ble_eq_true rfl) dX12_readStatement_271 (fun H locs hP hD hS => ?_)
                          have hP : va_P G gcl (wM am ty τ (up (up (up (up (up (up (up ρ 20 (ug (ρ 20) (ρ 19 0) (ρ 17 0))) 21 (ug (ρ 21) (ρ 19 0) (u (ρ 17 0)))) 24 (ug (ρ 24) (ρ 19 0) 0)) 17 (sc ((ρ 17 0 + 1)))) 22 (ug (ρ 22) (ρ 19 0) 0)) 18 (sc (1))) 19 (sc (ρ 19 0 + 1))) ++ cs) H := hP
                          have hD : va_D A (wM am ty τ (up (up (up (up (up (up (up ρ 20 (ug (ρ 20) (ρ 19 0) (ρ 17 0))) 21 (ug (ρ 21) (ρ 19 0) (u (ρ 17 0)))) 24 (ug (ρ 24) (ρ 19 0) 0)) 17 (sc ((ρ 17 0 + 1)))) 22 (ug (ρ 22) (ρ 19 0) 0)) 18 (sc (1))) 19 (sc (ρ 19 0 + 1))) ++ cs) := hD
                          exact eMv hQ hx hb hr hlk hP hD hS (Nat.le_of_ble_eq_true rfl) (Nat.le_of_ble_eq_true rfl) dX12_readStatement_274 (⟨1, (ρ 17 0 + 1), (ug (ρ 22) (ρ 19 0) 0), (ρ 23), (ug (ρ 24) (ρ 19 0) 0), rfl, rfl, .inr ⟨by rw [stB_p c26]; unfold pB; omega, rfl, by rw [stB_p c26]; unfold pB; omega⟩, fun j q => ⟨by first | rw [ug_n q, ug_n q] | rw [ug_n q] | rfl, by first | rw [ug_n q, ug_n q] | rw [ug_n q] | rfl, by first | rw [ug_n q, ug_n q] | rw [ug_n q] | rfl⟩⟩)
                        · exact absurd c223 (by decide)
                      · exact absurd c181 (by decide)
                    · exact absurd c150 (by decide)
          · exact absurd c109 (by decide)
        · exact absurd c88 (by decide)
      · refine lv_iload_n hx hb dX12_readStatement_29 rfl (lv_at hl 1 rfl) ?_
        refine li_bipush hx hb dX12_readStatement_30 (by decide) ?_
        refine li_icmp_eq (tgt := 51) hx hb ⟨Int.le_trans (by decide) hzb1.1, Int.le_trans hzb1.2 (by decide)⟩ ⟨by decide, by decide⟩ dX12_readStatement_32 (by decide) (fun c32 => ?_) (fun c32 => ?_)
        · refine li_iconst hx hb dX12_readStatement_51 ?_
          refine va_put (D := G) (ci := 11) (v := .int (ii 0)) (ty := .boolean) (C := RX12) (T := TX12) (N := 52) hx hb hts in_X12 tyX12 tyX12_ok nmX12 hown hK hP hD hS 0 (aM_0 _ _ _ _ _) rfl 18 (by decide) (hts _ q1283) (fun _ h9 => h9) rfl (tyX12_ok 18 (by decide)) (nrw_z (by omega)) (fit_z (by omega)) (Nat.le_of_ble_eq_true rfl) dX12_readStatement_52 (fun H locs hP hD hS => ?_)
          have hP : va_P G gcl (wM am ty τ (up ρ 18 (sc (0))) ++ cs) H := hP
          have hD : va_D A (wM am ty τ (up ρ 18 (sc (0))) ++ cs) := hD
          refine lv_aload_n hx hb dX12_readStatement_55 rfl (lv_at hl 2 rfl) ?_
          refine va_get (D := G) (ci := 11) (v := .ref (am 9)) (C := RX12) (T := TX12) (N := 52) hx hb hts in_X12 hown hK hP 0 (aM_0 _ _ _ _ _) rfl 20 (by decide) (hts _ q1285) (fun _ h9 => h9) rfl dX12_readStatement_56 ?_
          refine lv_iload_n hx hb dX12_readStatement_59 rfl (lv_at hl 0 rfl) ?_
          refine lv_aload_n hx hb dX12_readStatement_60 rfl (lv_at hl 2 rfl) ?_
          refine va_get (D := G) (ci := 11) (v := .int (ii (ρ 17 0))) (C := RX12) (T := TX12) (N := 52) hx hb hts in_X12 hown hK hP 0 (aM_0 _ _ _ _ _) rfl 17 (by decide) (hts _ q1282) (fun _ h9 => h9) rfl dX12_readStatement_61 ?_
          refine li_iast (g := (ρ 20)) (W2 := wM am ty τ (up (up ρ 18 (sc (0))) 20 (ug (ρ 20) (ρ 19 0) (ρ 17 0))) ++ cs) hx hb hK hP hD hS 9 0 (aM_9 _ _ _ _ _) rfl (by omega) (by omega) (by decide) rfl dX12_readStatement_64 (fun H locs hP hD hS => ?_)
          refine lv_aload_n hx hb dX12_readStatement_65 rfl (lv_at hl 2 rfl) ?_
          refine va_get (D := G) (ci := 11) (v := .ref (am 10)) (C := RX12) (T := TX12) (N := 52) hx hb hts in_X12 hown hK hP 0 (aM_0 _ _ _ _ _) rfl 21 (by decide) (hts _ q1286) (fun _ h9 => h9) rfl dX12_readStatement_66 ?_
          refine lv_iload_n hx hb dX12_readStatement_69 rfl (lv_at hl 0 rfl) ?_
          refine lv_iload_n hx hb dX12_readStatement_70 rfl (lv_at hl 1 rfl) ?_
          refine li_iast (g := (ρ 21)) (W2 := wM am ty τ (up (up (up ρ 18 (sc (0))) 20 (ug (ρ 20) (ρ 19 0) (ρ 17 0))) 21 (ug (ρ 21) (ρ 19 0) (u (ρ 17 0)))) ++ cs) hx hb hK hP hD hS 10 0 (aM_10 _ _ _ _ _) rfl (by omega) (by omega) (by decide) rfl dX12_readStatement_71 (fun H locs hP hD hS => ?_)
          refine lv_aload_n hx hb dX12_readStatement_72 rfl (lv_at hl 2 rfl) ?_
          refine va_get (D := G) (ci := 11) (v := .ref (am 13)) (C := RX12) (T := TX12) (N := 52) hx hb hts in_X12 hown hK hP 0 (aM_0 _ _ _ _ _) rfl 24 (by decide) (hts _ q1289) (fun _ h9 => h9) rfl dX12_readStatement_73 ?_
          refine lv_iload_n hx hb dX12_readStatement_76 rfl (lv_at hl 0 rfl) ?_
          refine li_iconst hx hb dX12_readStatement_77 ?_
          refine li_zast (g := (ρ 24)) (W2 := wM am ty τ (up (up (up (up ρ 18 (sc (0))) 20 (ug (ρ 20) (ρ 19 0) (ρ 17 0))) 21 (ug (ρ 21) (ρ 19 0) (u (ρ 17 0)))) 24 (ug (ρ 24) (ρ 19 0) 0)) ++ cs) hx hb hK hP hD hS 13 1 (aM_13 _ _ _ _ _) rfl (by omega) (by omega) (by decide) (by omega) rfl dX12_readStatement_78 (fun H locs hP hD hS => ?_)
          refine lv_aload_n hx hb dX12_readStatement_79 rfl (lv_at hl 2 rfl) ?_
          refine lv_dup hx hb dX12_readStatement_80 rfl ?_
          refine va_get (D := G) (ci := 11) (v := .int (ii (ρ 17 0))) (C := RX12) (T := TX12) (N := 52) hx hb hts in_X12 hown hK hP 0 (aM_0 _ _ _ _ _) rfl 17 (by decide) (hts _ q1282) (fun _ h9 => h9) rfl dX12_readStatement_81 ?_
          refine lv_aload_n hx hb dX12_readStatement_84 rfl (lv_at hl 2 rfl) ?_
          refine va_get (D := G) (ci := 11) (v := .int (ii 0)) (C := RX12) (T := TX12) (N := 52) hx hb hts in_X12 hown hK hP 0 (aM_0 _ _ _ _ _) rfl 18 (by decide) (hts _ q1283) (fun _ h9 => h9) rfl dX12_readStatement_85 ?_
          refine li_if_eq (tgt := 95) hx hb ⟨by decide, by decide⟩ dX12_readStatement_88 (by decide) (fun c88 => ?_) (fun c88 => ?_)
          · refine li_iconst hx hb dX12_readStatement_95 ?_
            refine li_add hx hb dX12_readStatement_96 ?_
            refine va_put (D := G) (ci := 11) (v := .int (ii (ρ 17 0 + 1))) (ty := .int) (C := RX12) (T := TX12) (N := 52) hx hb hts in_X12 tyX12 tyX12_ok nmX12 hown hK hP hD hS 0 (aM_0 _ _ _ _ _) rfl 17 (by decide) (hts _ q1282) (fun _ h9 => h9) rfl (tyX12_ok 17 (by decide)) rfl rfl (Nat.le_of_ble_eq_true rfl) dX12_readStatement_97 (fun H locs hP hD hS => ?_)
            have hP : va_P G gcl (wM am ty τ (up (up (up (up (up ρ 18 (sc (0))) 20 (ug (ρ 20) (ρ 19 0) (ρ 17 0))) 21 (ug (ρ 21) (ρ 19 0) (u (ρ 17 0)))) 24 (ug (ρ 24) (ρ 19 0) 0)) 17 (sc (ρ 17 0 + 1))) ++ cs) H := hP
            have hD : va_D A (wM am ty τ (up (up (up (up (up ρ 18 (sc (0))) 20 (ug (ρ 20) (ρ 19 0) (ρ 17 0))) 21 (ug (ρ 21) (ρ 19 0) (u (ρ 17 0)))) 24 (ug (ρ 24) (ρ 19 0) 0)) 17 (sc (ρ 17 0 + 1))) ++ cs) := hD
            refine lv_aload_n hx hb dX12_readStatement_100 rfl (lv_at hl 2 rfl) ?_
            refine va_get (D := G) (ci := 11) (v := .ref (am 11)) (C := RX12) (T := TX12) (N := 52) hx hb hts in_X12 hown hK hP 0 (aM_0 _ _ _ _ _) rfl 22 (by decide) (hts _ q1287) (fun _ h9 => h9) rfl dX12_readStatement_101 ?_
            refine lv_iload_n hx hb dX12_readStatement_104 rfl (lv_at hl 0 rfl) ?_
            refine lv_aload_n hx hb dX12_readStatement_105 rfl (lv_at hl 2 rfl) ?_
            refine va_get (D := G) (ci := 11) (v := .int (ii 0)) (C := RX12) (T := TX12) (N := 52) hx hb hts in_X12 hown hK hP 0 (aM_0 _ _ _ _ _) rfl 18 (by decide) (hts _ q1283) (fun _ h9 => h9) rfl dX12_readStatement_106 ?_
            refine li_if_eq (tgt := 116) hx hb ⟨by decide, by decide⟩ dX12_readStatement_109 (by decide) (fun c109 => ?_) (fun c109 => ?_)
            · refine lv_iload_n hx hb dX12_readStatement_116 rfl (lv_at hl 1 rfl) ?_
              refine li_bipush hx hb dX12_readStatement_117 (by decide) ?_
              refine li_icmp_eq (tgt := 134) hx hb ⟨Int.le_trans (by decide) hzb1.1, Int.le_trans hzb1.2 (by decide)⟩ ⟨by decide, by decide⟩ dX12_readStatement_119 (by decide) (fun c119 => ?_) (fun c119 => ?_)
              · exfalso
                omega
              · refine lv_iload_n hx hb dX12_readStatement_122 rfl (lv_at hl 1 rfl) ?_
                refine li_bipush hx hb dX12_readStatement_123 (by decide) ?_
                refine li_icmp_eq (tgt := 134) hx hb ⟨Int.le_trans (by decide) hzb1.1, Int.le_trans hzb1.2 (by decide)⟩ ⟨by decide, by decide⟩ dX12_readStatement_125 (by decide) (fun c125 => ?_) (fun c125 => ?_)
                · exfalso
                  omega
                · refine lv_iload_n hx hb dX12_readStatement_128 rfl (lv_at hl 1 rfl) ?_
                  refine li_bipush hx hb dX12_readStatement_129 (by decide) ?_
                  refine li_icmp_ne (tgt := 141) hx hb ⟨Int.le_trans (by decide) hzb1.1, Int.le_trans hzb1.2 (by decide)⟩ ⟨by decide, by decide⟩ dX12_readStatement_131 (by decide) (fun c131 => ?_) (fun c131 => ?_)
                  · refine lv_aload_n hx hb dX12_readStatement_141 rfl (lv_at hl 2 rfl) ?_
                    refine kM (va_runV (As := []) (rest := [.int (ii (ρ 19 0)), .ref (am 11)]) ⟨hx, hb, hml, hown, hts⟩ ((m_readNumberM l G am ty τ (up (up (up (up (up ρ 18 (sc (0))) 20 (ug (ρ 20) (ρ 19 0) (ρ 17 0))) 21 (ug (ρ 21) (ρ 19 0) (u (ρ 17 0)))) 24 (ug (ρ 24) (ρ 19 0) 0)) 17 (sc (ρ 17 0 + 1))) cs _ hu (show 0 ≤ (ρ 17 0 + 1) ∧ (ρ 17 0 + 1) ≤ 110 from (by have q1 := nmE_b u (ρ 17 0 + 1); have q2 := nmE_b u (ρ 17 0 + 1 + 1 + 1); exact ⟨by omega, by omega⟩)) (show 0 ≤ (ρ 15 0) ∧ (ρ 15 0) ≤ 700 ∧ 0 ≤ (ρ 16 0) ∧ (ρ 16 0) ≤ 100 from hbe) (show ∀ x, 0 ≤ x → x < (ρ 16 0) → -128 ≤ (τ 50) ((ρ 15 0) + x) ∧ (τ 50) ((ρ 15 0) + x) ≤ 127 from hby) (show (ρ 17 0 + 1) ≤ 107 from (by have q1 := nmE_b u (ρ 17 0 + 1); have q2 := nmE_b u (ρ 17 0 + 1 + 1 + 1); omega)) (show 0 = 0 from rfl)) H.size) (cwV 0 hts (lw_V q1453 q1455 qs41 q87 q1456) rfl rfl rfl (by decide +kernel) ⟨Nat.le_of_ble_eq_true rfl, Nat.le_of_ble_eq_true rfl⟩) (pvM (r := (RX12, TX12, 52)) hK hP hD hX 0 (aM_0 _ _ _ _ _) rfl) rfl rfl hl.1 rfl (lv_room (Nat.le_of_ble_eq_true rfl)) dX12_readStatement_142 ⟨Nat.le_of_ble_eq_true rfl, Nat.le_of_ble_eq_true rfl⟩) hD hS hA (fun v ws1 H locs hv hP hD hS => ?_)
                    obtain ⟨z142, b142, a142, rfl, rfl, ⟨h142, rfl, rfl, rfl⟩ | ⟨h142, rfl, rfl, rfl⟩⟩ := hv
                    · have hP : va_P G gcl (wM am ty τ (up (up (up (up (up ρ 20 (ug (ρ 20) (ρ 19 0) (ρ 17 0))) 21 (ug (ρ 21) (ρ 19 0) (u (ρ 17 0)))) 24 (ug (ρ 24) (ρ 19 0) 0)) 18 (sc (0))) 17 (sc (nmE u (ρ 17 0 + 1)))) ++ cs) H := hP
                      have hD : va_D A (wM am ty τ (up (up (up (up (up ρ 20 (ug (ρ 20) (ρ 19 0) (ρ 17 0))) 21 (ug (ρ 21) (ρ 19 0) (u (ρ 17 0)))) 24 (ug (ρ 24) (ρ 19 0) 0)) 18 (sc (0))) 17 (sc (nmE u (ρ 17 0 + 1)))) ++ cs) := hD
                      have h142 : 48 ≤ u (ρ 17 0 + 1) ∧ u (ρ 17 0 + 1) ≤ 57 := h142
                      refine li_iast (g := (ρ 22)) (W2 := wM am ty τ (up (up (up (up (up (up ρ 20 (ug (ρ 20) (ρ 19 0) (ρ 17 0))) 21 (ug (ρ 21) (ρ 19 0) (u (ρ 17 0)))) 24 (ug (ρ 24) (ρ 19 0) 0)) 18 (sc (0))) 17 (sc (nmE u (ρ 17 0 + 1)))) 22 (ug (ρ 22) (ρ 19 0) (nmV u (ρ 17 0 + 1)))) ++ cs) hx hb hK hP hD hS 11 0 (aM_11 _ _ _ _ _) rfl (by omega) (by omega) (by decide) rfl dX12_readStatement_145 (fun H locs hP hD hS => ?_)
                      refine lv_aload_n hx hb dX12_readStatement_146 rfl (lv_at hl 2 rfl) ?_
                      refine va_get (D := G) (ci := 11) (v := .int (ii 0)) (C := RX12) (T := TX12) (N := 52) hx hb hts in_X12 hown hK hP 0 (aM_0 _ _ _ _ _) rfl 18 (by decide) (hts _ q1283) (fun _ h9 => h9) rfl dX12_readStatement_147 ?_
                      refine li_if_ne (tgt := 177) hx hb ⟨by decide, by decide⟩ dX12_readStatement_150 (by decide) (fun c150 => ?_) (fun c150 => ?_)
                      · exact absurd c150 (by decide)
                      · refine lv_iload_n hx hb dX12_readStatement_153 rfl (lv_at hl 1 rfl) ?_
                        refine li_bipush hx hb dX12_readStatement_154 (by decide) ?_
                        refine li_icmp_eq (tgt := 171) hx hb ⟨Int.le_trans (by decide) hzb1.1, Int.le_trans hzb1.2 (by decide)⟩ ⟨by decide, by decide⟩ dX12_readStatement_156 (by decide) (fun c156 => ?_) (fun c156 => ?_)
                        · exfalso
                          omega
                        · refine lv_iload_n hx hb dX12_readStatement_159 rfl (lv_at hl 1 rfl) ?_
                          refine li_bipush hx hb dX12_readStatement_160 (by decide) ?_
                          refine li_icmp_eq (tgt := 171) hx hb ⟨Int.le_trans (by decide) hzb1.1, Int.le_trans hzb1.2 (by decide)⟩ ⟨by decide, by decide⟩ dX12_readStatement_162 (by decide) (fun c162 => ?_) (fun c162 => ?_)
                          · exfalso
                            omega
                          · refine lv_iload_n hx hb dX12_readStatement_165 rfl (lv_at hl 1 rfl) ?_
                            refine li_bipush hx hb dX12_readStatement_166 (by decide) ?_
                            refine li_icmp_ne (tgt := 177) hx hb ⟨Int.le_trans (by decide) hzb1.1, Int.le_trans hzb1.2 (by decide)⟩ ⟨by decide, by decide⟩ dX12_readStatement_168 (by decide) (fun c168 => ?_) (fun c168 => ?_)
                            · exfalso
                              omega
                            · refine lv_aload_n hx hb dX12_readStatement_171 rfl (lv_at hl 2 rfl) ?_
                              refine li_bipush hx hb dX12_readStatement_172 (by decide) ?_
                              refine kM (va_runV (As := [.int (ii 32)]) (rest := []) ⟨hx, hb, hml, hown, hts⟩ ((m_takeM0 l G am ty τ (up (up (up (up (up (up ρ 20 (ug (ρ 20) (ρ 19 0) (ρ 17 0))) 21 (ug (ρ 21) (ρ 19 0) (u (ρ 17 0)))) 24 (ug (ρ 24) (ρ 19 0) 0)) 18 (sc (0))) 17 (sc (nmE u (ρ 17 0 + 1)))) 22 (ug (ρ 22) (ρ 19 0) (nmV u (ρ 17 0 + 1)))) cs 32 _ hu (show 0 ≤ (nmE u (ρ 17 0 + 1)) ∧ (nmE u (ρ 17 0 + 1)) ≤ 110 from (by have q1 := nmE_b u (ρ 17 0 + 1); have q2 := nmE_b u (ρ 17 0 + 1 + 1 + 1); exact ⟨by omega, by omega⟩)) (show 0 ≤ (ρ 15 0) ∧ (ρ 15 0) ≤ 700 ∧ 0 ≤ (ρ 16 0) ∧ (ρ 16 0) ≤ 100 from hbe) (show rg 32 from ⟨by decide, by decide⟩) (show 0 = 0 from rfl)) H.size) (cwV 1 hts (lw_V q1457 q1459 qs42 q87 q1460) rfl rfl rfl (by decide +kernel) ⟨Nat.le_of_ble_eq_true rfl, Nat.le_of_ble_eq_true rfl⟩) (pvM (r := (RX12, TX12, 52)) hK hP hD hX 0 (aM_0 _ _ _ _ _) rfl) rfl rfl hl.1 rfl (lv_room (Nat.le_of_ble_eq_true rfl)) dX12_readStatement_174 ⟨Nat.le_of_ble_eq_true rfl, Nat.le_of_ble_eq_true rfl⟩) hD hS hA (fun v ws1 H locs hv hP hD hS => ?_)
                              obtain ⟨b174, a174, rfl, rfl, ⟨h174, rfl, rfl⟩ | ⟨h174, rfl, rfl⟩⟩ := hv
                              · have hP : va_P G gcl (wM am ty τ (up (up (up (up (up (up ρ 20 (ug (ρ 20) (ρ 19 0) (ρ 17 0))) 21 (ug (ρ 21) (ρ 19 0) (u (ρ 17 0)))) 24 (ug (ρ 24) (ρ 19 0) 0)) 22 (ug (ρ 22) (ρ 19 0) (nmV u (ρ 17 0 + 1)))) 18 (sc (0))) 17 (sc ((nmE u (ρ 17 0 + 1)) + 1))) ++ cs) H := hP
                                have hD : va_D A (wM am ty τ (up (up (up (up (up (up ρ 20 (ug (ρ 20) (ρ 19 0) (ρ 17 0))) 21 (ug (ρ 21) (ρ 19 0) (u (ρ 17 0)))) 24 (ug (ρ 24) (ρ 19 0) 0)) 22 (ug (ρ 22) (ρ 19 0) (nmV u (ρ 17 0 + 1)))) 18 (sc (0))) 17 (sc ((nmE u (ρ 17 0 + 1)) + 1))) ++ cs) := hD
                                have h174 : u (nmE u (ρ 17 0 + 1)) = 32 := h174
                                refine lv_aload_n hx hb dX12_readStatement_177 rfl (lv_at hl 2 rfl) ?_
                                refine va_get (D := G) (ci := 11) (v := .int (ii 0)) (C := RX12) (T := TX12) (N := 52) hx hb hts in_X12 hown hK hP 0 (aM_0 _ _ _ _ _) rfl 18 (by decide) (hts _ q1283) (fun _ h9 => h9) rfl dX12_readStatement_178 ?_
                                refine li_if_ne (tgt := 219) hx hb ⟨by decide, by decide⟩ dX12_readStatement_181 (by decide) (fun c181 => ?_) (fun c181 => ?_)
                                · exact absurd c181 (by decide)
                                · refine lv_iload_n hx hb dX12_readStatement_184 rfl (lv_at hl 1 rfl) ?_
                                  refine li_bipush hx hb dX12_readStatement_185 (by decide) ?_
                                  refine li_icmp_eq (tgt := 219) hx hb ⟨Int.le_trans (by decide) hzb1.1, Int.le_trans hzb1.2 (by decide)⟩ ⟨by decide, by decide⟩ dX12_readStatement_187 (by decide) (fun c187 => ?_) (fun c187 => ?_)
                                  · exfalso
                                    omega
                                  · refine lv_iload_n hx hb dX12_readStatement_190 rfl (lv_at hl 1 rfl) ?_
                                    refine li_bipush hx hb dX12_readStatement_191 (by decide) ?_
                                    refine li_icmp_eq (tgt := 219) hx hb ⟨Int.le_trans (by decide) hzb1.1, Int.le_trans hzb1.2 (by decide)⟩ ⟨by decide, by decide⟩ dX12_readStatement_193 (by decide) (fun c193 => ?_) (fun c193 => ?_)
                                    · exfalso
                                      omega
                                    · refine lv_aload_n hx hb dX12_readStatement_196 rfl (lv_at hl 2 rfl) ?_
                                      refine va_get (D := G) (ci := 11) (v := .ref (am 12)) (C := RX12) (T := TX12) (N := 52) hx hb hts in_X12 hown hK hP 0 (aM_0 _ _ _ _ _) rfl 23 (by decide) (hts _ q1288) (fun _ h9 => h9) rfl dX12_readStatement_197 ?_
                                      refine lv_iload_n hx hb dX12_readStatement_200 rfl (lv_at hl 0 rfl) ?_
                                      refine lv_iload_n hx hb dX12_readStatement_201 rfl (lv_at hl 1 rfl) ?_
                                      refine li_bipush hx hb dX12_readStatement_202 (by decide) ?_
                                      refine li_icmp_ne (tgt := 214) hx hb ⟨Int.le_trans (by decide) hzb1.1, Int.le_trans hzb1.2 (by decide)⟩ ⟨by decide, by decide⟩ dX12_readStatement_204 (by decide) (fun c204 => ?_) (fun c204 => ?_)
                                      · refine lv_aload_n hx hb dX12_readStatement_214 rfl (lv_at hl 2 rfl) ?_
                                        refine kM (va_runV (As := []) (rest := [.int (ii (ρ 19 0)), .ref (am 12)]) ⟨hx, hb, hml, hown, hts⟩ ((m_readDigitM l G am ty τ (up (up (up (up (up (up ρ 20 (ug (ρ 20) (ρ 19 0) (ρ 17 0))) 21 (ug (ρ 21) (ρ 19 0) (u (ρ 17 0)))) 24 (ug (ρ 24) (ρ 19 0) 0)) 22 (ug (ρ 22) (ρ 19 0) (nmV u (ρ 17 0 + 1)))) 18 (sc (0))) 17 (sc ((nmE u (ρ 17 0 + 1)) + 1))) cs _ hu (show 0 ≤ ((nmE u (ρ 17 0 + 1)) + 1) ∧ ((nmE u (ρ 17 0 + 1)) + 1) ≤ 110 from (by have q1 := nmE_b u (ρ 17 0 + 1); have q2 := nmE_b u (ρ 17 0 + 1 + 1 + 1); exact ⟨by omega, by omega⟩)) (show 0 ≤ (ρ 15 0) ∧ (ρ 15 0) ≤ 700 ∧ 0 ≤ (ρ 16 0) ∧ (ρ 16 0) ≤ 100 from hbe) (show ∀ x, 0 ≤ x → x < (ρ 16 0) → -128 ≤ (τ 50) ((ρ 15 0) + x) ∧ (τ 50) ((ρ 15 0) + x) ≤ 127 from hby) (show 0 = 0 from rfl)) H.size) (cwV 0 hts (lw_V q1447 q1449 qs40 q87 q1450) rfl rfl rfl (by decide +kernel) ⟨Nat.le_of_ble_eq_true rfl, Nat.le_of_ble_eq_true rfl⟩) (pvM (r := (RX12, TX12, 52)) hK hP hD hX 0 (aM_0 _ _ _ _ _) rfl) rfl rfl hl.1 rfl (lv_room (Nat.le_of_ble_eq_true rfl)) dX12_readStatement_215 ⟨Nat.le_of_ble_eq_true rfl, Nat.le_of_ble_eq_true rfl⟩) hD hS hA (fun v ws1 H locs hv hP hD hS => ?_)
                                        obtain ⟨z215, b215, a215, rfl, rfl, ⟨h215, rfl, rfl, rfl⟩ | ⟨h215, rfl, rfl, rfl⟩⟩ := hv
                                        · have hP : va_P G gcl (wM am ty τ (up (up (up (up (up (up ρ 20 (ug (ρ 20) (ρ 19 0) (ρ 17 0))) 21 (ug (ρ 21) (ρ 19 0) (u (ρ 17 0)))) 24 (ug (ρ 24) (ρ 19 0) 0)) 22 (ug (ρ 22) (ρ 19 0) (nmV u (ρ 17 0 + 1)))) 18 (sc (0))) 17 (sc (((nmE u (ρ 17 0 + 1)) + 1) + 1))) ++ cs) H := hP
                                          have hD : va_D A (wM am ty τ (up (up (up (up (up (up ρ 20 (ug (ρ 20) (ρ 19 0) (ρ 17 0))) 21 (ug (ρ 21) (ρ 19 0) (u (ρ 17 0)))) 24 (ug (ρ 24) (ρ 19 0) 0)) 22 (ug (ρ 22) (ρ 19 0) (nmV u (ρ 17 0 + 1)))) 18 (sc (0))) 17 (sc (((nmE u (ρ 17 0 + 1)) + 1) + 1))) ++ cs) := hD
                                          have h215 : 48 ≤ u ((nmE u (ρ 17 0 + 1)) + 1) ∧ u ((nmE u (ρ 17 0 + 1)) + 1) ≤ 57 := h215
                                          refine li_iast (g := (ρ 23)) (W2 := wM am ty τ (up (up (up (up (up (up (up ρ 20 (ug (ρ 20) (ρ 19 0) (ρ 17 0))) 21 (ug (ρ 21) (ρ 19 0) (u (ρ 17 0)))) 24 (ug (ρ 24) (ρ 19 0) 0)) 22 (ug (ρ 22) (ρ 19 0) (nmV u (ρ 17 0 + 1)))) 18 (sc (0))) 17 (sc (((nmE u (ρ 17 0 + 1)) + 1) + 1))) 23 (ug (ρ 23) (ρ 19 0) (u ((nmE u (ρ 17 0 + 1)) + 1) - 48))) ++ cs) hx hb hK hP hD hS 12 0 (aM_12 _ _ _ _ _) rfl (by omega) (by omega) (by decide) rfl dX12_readStatement_218 (fun H locs hP hD hS => ?_)
                                          refine lv_aload_n hx hb dX12_readStatement_219 rfl (lv_at hl 2 rfl) ?_
                                          refine va_get (D := G) (ci := 11) (v := .int (ii 0)) (C := RX12) (T := TX12) (N := 52) hx hb hts in_X12 hown hK hP 0 (aM_0 _ _ _ _ _) rfl 18 (by decide) (hts _ q1283) (fun _ h9 => h9) rfl dX12_readStatement_220 ?_
                                          refine li_if_ne (tgt := 258) hx hb ⟨by decide, by decide⟩ dX12_readStatement_223 (by decide) (fun c223 => ?_) (fun c223 => ?_)
                                          · exact absurd c223 (by decide)
                                          · refine lv_iload_n hx hb dX12_readStatement_226 rfl (lv_at hl 1 rfl) ?_
                                            refine li_bipush hx hb dX12_readStatement_227 (by decide) ?_
                                            refine li_icmp_ne (tgt := 258) hx hb ⟨Int.le_trans (by decide) hzb1.1, Int.le_trans hzb1.2 (by decide)⟩ ⟨by decide, by decide⟩ dX12_readStatement_229 (by decide) (fun c229 => ?_) (fun c229 => ?_)
                                            · refine lv_aload_n hx hb dX12_readStatement_258 rfl (lv_at hl 2 rfl) ?_
                                              refine li_bipush hx hb dX12_readStatement_259 (by decide) ?_
                                              refine kM (va_runV (As := [.int (ii 59)]) (rest := []) ⟨hx, hb, hml, hown, hts⟩ ((m_takeM0 l G am ty τ (up (up (up (up (up (up (up ρ 20 (ug (ρ 20) (ρ 19 0) (ρ 17 0))) 21 (ug (ρ 21) (ρ 19 0) (u (ρ 17 0)))) 24 (ug (ρ 24) (ρ 19 0) 0)) 22 (ug (ρ 22) (ρ 19 0) (nmV u (ρ 17 0 + 1)))) 18 (sc (0))) 17 (sc (((nmE u (ρ 17 0 + 1)) + 1) + 1))) 23 (ug (ρ 23) (ρ 19 0) (u ((nmE u (ρ 17 0 + 1)) + 1) - 48))) cs 59 _ hu (show 0 ≤ (((nmE u (ρ 17 0 + 1)) + 1) + 1) ∧ (((nmE u (ρ 17 0 + 1)) + 1) + 1) ≤ 110 from (by have q1 := nmE_b u (ρ 17 0 + 1); have q2 := nmE_b u (ρ 17 0 + 1 + 1 + 1); exact ⟨by omega, by omega⟩)) (show 0 ≤ (ρ 15 0) ∧ (ρ 15 0) ≤ 700 ∧ 0 ≤ (ρ 16 0) ∧ (ρ 16 0) ≤ 100 from hbe) (show rg 59 from ⟨by decide, by decide⟩) (show 0 = 0 from rfl)) H.size) (cwV 1 hts (lw_V q1457 q1459 qs42 q87 q1460) rfl rfl rfl (by decide +kernel) ⟨Nat.le_of_ble_eq_true rfl, Nat.le_of_ble_eq_true rfl⟩) (pvM (r := (RX12, TX12, 52)) hK hP hD hX 0 (aM_0 _ _ _ _ _) rfl) rfl rfl hl.1 rfl (lv_room (Nat.le_of_ble_eq_true rfl)) dX12_readStatement_261 ⟨Nat.le_of_ble_eq_true rfl, Nat.le_of_ble_eq_true rfl⟩) hD hS hA (fun v ws1 H locs hv hP hD hS => ?_)
                                              obtain ⟨b261, a261, rfl, rfl, ⟨h261, rfl, rfl⟩ | ⟨h261, rfl, rfl⟩⟩ := hv
                                              · have hP : va_P G gcl (wM am ty τ (up (up (up (up (up (up (up ρ 20 (ug (ρ 20) (ρ 19 0) (ρ 17 0))) 21 (ug (ρ 21) (ρ 19 0) (u (ρ 17 0)))) 24 (ug (ρ 24) (ρ 19 0) 0)) 22 (ug (ρ 22) (ρ 19 0) (nmV u (ρ 17 0 + 1)))) 23 (ug (ρ 23) (ρ 19 0) (u ((nmE u (ρ 17 0 + 1)) + 1) - 48))) 18 (sc (0))) 17 (sc ((((nmE u (ρ 17 0 + 1)) + 1) + 1) + 1))) ++ cs) H := hP
                                                have hD : va_D A (wM am ty τ (up (up (up (up (up (up (up ρ 20 (ug (ρ 20) (ρ 19 0) (ρ 17 0))) 21 (ug (ρ 21) (ρ 19 0) (u (ρ 17 0)))) 24 (ug (ρ 24) (ρ 19 0) 0)) 22 (ug (ρ 22) (ρ 19 0) (nmV u (ρ 17 0 + 1)))) 23 (ug (ρ 23) (ρ 19 0) (u ((nmE u (ρ 17 0 + 1)) + 1) - 48))) 18 (sc (0))) 17 (sc ((((nmE u (ρ 17 0 + 1)) + 1) + 1) + 1))) ++ cs) := hD
                                                have h261 : u (((nmE u (ρ 17 0 + 1)) + 1) + 1) = 59 := h261
                                                refine lv_aload_n hx hb dX12_readStatement_264 rfl (lv_at hl 2 rfl) ?_
                                                refine lv_dup hx hb dX12_readStatement_265 rfl ?_
                                                refine va_get (D := G) (ci := 11) (v := .int (ii (ρ 19 0))) (C := RX12) (T := TX12) (N := 52) hx hb hts in_X12 hown hK hP 0 (aM_0 _ _ _ _ _) rfl 19 (by decide) (hts _ q1284) (fun _ h9 => h9) rfl dX12_readStatement_266 ?_
                                                refine li_iconst hx hb dX12_readStatement_269 ?_
                                                refine li_add hx hb dX12_readStatement_270 ?_
                                                refine va_put (D := G) (ci := 11) (v := .int (ii (ρ 19 0 + 1))) (ty := .int) (C := RX12) (T := TX12) (N := 52) hx hb hts in_X12 tyX12 tyX12_ok nmX12 hown hK hP hD hS 0 (aM_0 _ _ _ _ _) rfl 19 (by decide) (hts _ q1284) (fun _ h9 => h9) rfl (tyX12_ok 19 (by decide)) rfl rfl (Nat.le_of_ble_eq_true rfl) dX12_readStatement_271 (fun H locs hP hD hS => ?_)
                                                have hP : va_P G gcl (wM am ty τ (up (up (up (up (up (up (up (up ρ 20 (ug (ρ 20) (ρ 19 0) (ρ 17 0))) 21 (ug (ρ 21) (ρ 19 0) (u (ρ 17 0)))) 24 (ug (ρ 24) (ρ 19 0) 0)) 22 (ug (ρ 22) (ρ 19 0) (nmV u (ρ 17 0 + 1)))) 23 (ug (ρ 23) (ρ 19 0) (u ((nmE u (ρ 17 0 + 1)) + 1) - 48))) 18 (sc (0))) 17 (sc ((((nmE u (ρ 17 0 + 1)) + 1) + 1) + 1))) 19 (sc (ρ 19 0 + 1))) ++ cs) H := hP
                                                have hD : va_D A (wM am ty τ (up (up (up (up (up (up (up (up ρ 20 (ug (ρ 20) (ρ 19 0) (ρ 17 0))) 21 (ug (ρ 21) (ρ 19 0) (u (ρ 17 0)))) 24 (ug (ρ 24) (ρ 19 0) 0)) 22 (ug (ρ 22) (ρ 19 0) (nmV u (ρ 17 0 + 1)))) 23 (ug (ρ 23) (ρ 19 0) (u ((nmE u (ρ 17 0 + 1)) + 1) - 48))) 18 (sc (0))) 17 (sc ((((nmE u (ρ 17 0 + 1)) + 1) + 1) + 1))) 19 (sc (ρ 19 0 + 1))) ++ cs) := hD
                                                exact eMv hQ hx hb hr hlk hP hD hS (Nat.le_of_ble_eq_true rfl) (Nat.le_of_ble_eq_true rfl) dX12_readStatement_274 (⟨0, (((nmE u (ρ 17 0 + 1)) + 1) + 1) + 1, (ug (ρ 22) (ρ 19 0) (nmV u (ρ 17 0 + 1))), (ug (ρ 23) (ρ 19 0) (u ((nmE u (ρ 17 0 + 1)) + 1) - 48)), (ug (ρ 24) (ρ 19 0) 0), rfl, rfl, .inl ⟨by rw [stB_r c32]; unfold rB; omega, rfl, by unfold stE; omega, by rw [ug_s]; unfold stX; omega, fun q => by first | omega | (rw [ug_s]; unfold stY; omega), by rw [ug_s]; unfold stZ; omega⟩, fun j q => ⟨by first | rw [ug_n q, ug_n q] | rw [ug_n q] | rfl, by first | rw [ug_n q, ug_n q] | rw [ug_n q] | rfl, by first | rw [ug_n q, ug_n q] | rw [ug_n q] | rfl⟩⟩)
                                              · have hP : va_P G gcl (wM am ty τ (up (up (up (up (up (up (up ρ 20 (ug (ρ 20) (ρ 19 0) (ρ 17 0))) 21 (ug (ρ 21) (ρ 19 0) (u (ρ 17 0)))) 24 (ug (ρ 24) (ρ 19 0) 0)) 22 (ug (ρ 22) (ρ 19 0) (nmV u (ρ 17 0 + 1)))) 23 (ug (ρ 23) (ρ 19 0) (u ((nmE u (ρ 17 0 + 1)) + 1) - 48))) 18 (sc (1))) 17 (sc ((((nmE u (ρ 17 0 + 1)) + 1) + 1)))) ++ cs) H := hP
                                                have hD : va_D A (wM am ty τ (up (up (up (up (up (up (up ρ 20 (ug (ρ 20) (ρ 19 0) (ρ 17 0))) 21 (ug (ρ 21) (ρ 19 0) (u (ρ 17 0)))) 24 (ug (ρ 24) (ρ 19 0) 0)) 22 (ug (ρ 22) (ρ 19 0) (nmV u (ρ 17 0 + 1)))) 23 (ug (ρ 23) (ρ 19 0) (u ((nmE u (ρ 17 0 + 1)) + 1) - 48))) 18 (sc (1))) 17 (sc ((((nmE u (ρ 17 0 + 1)) + 1) + 1)))) ++ cs) := hD
                                                have h261 : ¬ u (((nmE u (ρ 17 0 + 1)) + 1) + 1) = 59 := h261
                                                refine lv_aload_n hx hb dX12_readStatement_264 rfl (lv_at hl 2 rfl) ?_
                                                refine lv_dup hx hb dX12_readStatement_265 rfl ?_
                                                refine va_get (D := G) (ci := 11) (v := .int (ii (ρ 19 0))) (C := RX12) (T := TX12) (N := 52) hx hb hts in_X12 hown hK hP 0 (aM_0 _ _ _ _ _) rfl 19 (by decide) (hts _ q1284) (fun _ h9 => h9) rfl dX12_readStatement_266 ?_
                                                refine li_iconst hx hb dX12_readStatement_269 ?_
                                                refine li_add hx hb dX12_readStatement_270 ?_
                                                refine va_put (D := G) (ci := 11) (v := .int (ii (ρ 19 0 + 1))) (ty := .int) (C := RX12) (T := TX12) (N := 52) hx hb hts in_X12 tyX12 tyX12_ok nmX12 hown hK hP hD hS 0 (aM_0 _ _ _ _ _) rfl 19 (by decide) (hts _ q1284) (fun _ h9 => h9) rfl (tyX12_ok 19 (by decide)) rfl rfl (Nat.le_of_ble_eq_true rfl) dX12_readStatement_271 (fun H locs hP hD hS => ?_)
                                                have hP : va_P G gcl (wM am ty τ (up (up (up (up (up (up (up (up ρ 20 (ug (ρ 20) (ρ 19 0) (ρ 17 0))) 21 (ug (ρ 21) (ρ 19 0) (u (ρ 17 0)))) 24 (ug (ρ 24) (ρ 19 0) 0)) 22 (ug (ρ 22) (ρ 19 0) (nmV u (ρ 17 0 + 1)))) 23 (ug (ρ 23) (ρ 19 0) (u ((nmE u (ρ 17 0 + 1)) + 1) - 48))) 18 (sc (1))) 17 (sc ((((nmE u (ρ 17 0 + 1)) + 1) + 1)))) 19 (sc (ρ 19 0 + 1))) ++ cs) H := hP
                                                have hD : va_D A (wM am ty τ (up (up (up (up (up (up (up (up ρ 20 (ug (ρ 20) (ρ 19 0) (ρ 17 0))) 21 (ug (ρ 21) (ρ 19 0) (u (ρ 17 0)))) 24 (ug (ρ 24) (ρ 19 0) 0)) 22 (ug (ρ 22) (ρ 19 0) (nmV u (ρ 17 0 + 1)))) 23 (ug (ρ 23) (ρ 19 0) (u ((nmE u (ρ 17 0 + 1)) + 1) - 48))) 18 (sc (1))) 17 (sc ((((nmE u (ρ 17 0 + 1)) + 1) + 1)))) 19 (sc (ρ 19 0 + 1))) ++ cs) := hD
                                                exact eMv hQ hx hb hr hlk hP hD hS (Nat.le_of_ble_eq_true rfl) (Nat.le_of_ble_eq_true rfl) dX12_readStatement_274 (⟨1, (((nmE u (ρ 17 0 + 1)) + 1) + 1), (ug (ρ 22) (ρ 19 0) (nmV u (ρ 17 0 + 1))), (ug (ρ 23) (ρ 19 0) (u ((nmE u (ρ 17 0 + 1)) + 1) - 48)), (ug (ρ 24) (ρ 19 0) 0), rfl, rfl, .inr ⟨by rw [stB_r c32]; unfold rB; omega, rfl, by rw [stB_r c32]; unfold rB; omega⟩, fun j q => ⟨by first | rw [ug_n q, ug_n q] | rw [ug_n q] | rfl, by first | rw [ug_n q, ug_n q] | rw [ug_n q] | rfl, by first | rw [ug_n q, ug_n q] | rw [ug_n q] | rfl⟩⟩)
                                            · exfalso
                                              omega
                                        · have hP : va_P G gcl (wM am ty τ (up (up (up (up (up (up ρ 20 (ug (ρ 20) (ρ 19 0) (ρ 17 0))) 21 (ug (ρ 21) (ρ 19 0) (u (ρ 17 0)))) 24 (ug (ρ 24) (ρ 19 0) 0)) 22 (ug (ρ 22) (ρ 19 0) (nmV u (ρ 17 0 + 1)))) 18 (sc (1))) 17 (sc (((nmE u (ρ 17 0 + 1)) + 1)))) ++ cs) H := hP
                                          have hD : va_D A (wM am ty τ (up (up (up (up (up (up ρ 20 (ug (ρ 20) (ρ 19 0) (ρ 17 0))) 21 (ug (ρ 21) (ρ 19 0) (u (ρ 17 0)))) 24 (ug (ρ 24) (ρ 19 0) 0)) 22 (ug (ρ 22) (ρ 19 0) (nmV u (ρ 17 0 + 1)))) 18 (sc (1))) 17 (sc (((nmE u (ρ 17 0 + 1)) + 1)))) ++ cs) := hD
                                          have h215 : ¬ (48 ≤ u ((nmE u (ρ 17 0 + 1)) + 1) ∧ u ((nmE u (ρ 17 0 + 1)) + 1) ≤ 57) := h215
                                          refine li_iast (g := (ρ 23)) (W2 := wM am ty τ (up (up (up (up (up (up (up ρ 20 (ug (ρ 20) (ρ 19 0) (ρ 17 0))) 21 (ug (ρ 21) (ρ 19 0) (u (ρ 17 0)))) 24 (ug (ρ 24) (ρ 19 0) 0)) 22 (ug (ρ 22) (ρ 19 0) (nmV u (ρ 17 0 + 1)))) 18 (sc (1))) 17 (sc (((nmE u (ρ 17 0 + 1)) + 1)))) 23 (ug (ρ 23) (ρ 19 0) 0)) ++ cs) hx hb hK hP hD hS 12 0 (aM_12 _ _ _ _ _) rfl (by omega) (by omega) (by decide) rfl dX12_readStatement_218 (fun H locs hP hD hS => ?_)
                                          refine lv_aload_n hx hb dX12_readStatement_219 rfl (lv_at hl 2 rfl) ?_
                                          refine va_get (D := G) (ci := 11) (v := .int (ii 1)) (C := RX12) (T := TX12) (N := 52) hx hb hts in_X12 hown hK hP 0 (aM_0 _ _ _ _ _) rfl 18 (by decide) (hts _ q1283) (fun _ h9 => h9) rfl dX12_readStatement_220 ?_
                                          refine li_if_ne (tgt := 258) hx hb ⟨by decide, by decide⟩ dX12_readStatement_223 (by decide) (fun c223 => ?_) (fun c223 => ?_)
                                          · refine lv_aload_n hx hb dX12_readStatement_258 rfl (lv_at hl 2 rfl) ?_
                                            refine li_bipush hx hb dX12_readStatement_259 (by decide) ?_
                                            refine kM (va_runV (As := [.int (ii 59)]) (rest := []) ⟨hx, hb, hml, hown, hts⟩ ((m_takeM1 l G am ty τ (up (up (up (up (up (up (up ρ 20 (ug (ρ 20) (ρ 19 0) (ρ 17 0))) 21 (ug (ρ 21) (ρ 19 0) (u (ρ 17 0)))) 24 (ug (ρ 24) (ρ 19 0) 0)) 22 (ug (ρ 22) (ρ 19 0) (nmV u (ρ 17 0 + 1)))) 18 (sc (1))) 17 (sc (((nmE u (ρ 17 0 + 1)) + 1)))) 23 (ug (ρ 23) (ρ 19 0) 0)) cs 59 (show 1 = 1 from rfl)) H.size) (cwV 1 hts (lw_V q1457 q1459 qs42 q87 q1460) rfl rfl rfl (by decide +kernel) ⟨Nat.le_of_ble_eq_true rfl, Nat.le_of_ble_eq_true rfl⟩) (pvM (r := (RX12, TX12, 52)) hK hP hD hX 0 (aM_0 _ _ _ _ _) rfl) rfl rfl hl.1 rfl (lv_room (Nat.le_of_ble_eq_true rfl)) dX12_readStatement_261 ⟨Nat.le_of_ble_eq_true rfl, Nat.le_of_ble_eq_true rfl⟩) hD hS hA (fun v ws1 H locs hv hP hD hS => ?_)
                                            obtain ⟨rfl, rfl⟩ := hv
                                            have hP : va_P G gcl (wM am ty τ (up (up (up (up (up (up (up ρ 20 (ug (ρ 20) (ρ 19 0) (ρ 17 0))) 21 (ug (ρ 21) (ρ 19 0) (u (ρ 17 0)))) 24 (ug (ρ 24) (ρ 19 0) 0)) 22 (ug (ρ 22) (ρ 19 0) (nmV u (ρ 17 0 + 1)))) 17 (sc (((nmE u (ρ 17 0 + 1)) + 1)))) 23 (ug (ρ 23) (ρ 19 0) 0)) 18 (sc (1))) ++ cs) H := hP
                                            have hD : va_D A (wM am ty τ (up (up (up (up (up (up (up ρ 20 (ug (ρ 20) (ρ 19 0) (ρ 17 0))) 21 (ug (ρ 21) (ρ 19 0) (u (ρ 17 0)))) 24 (ug (ρ 24) (ρ 19 0) 0)) 22 (ug (ρ 22) (ρ 19 0) (nmV u (ρ 17 0 + 1)))) 17 (sc (((nmE u (ρ 17 0 + 1)) + 1)))) 23 (ug (ρ 23) (ρ 19 0) 0)) 18 (sc (1))) ++ cs) := hD
                                            refine lv_aload_n hx hb dX12_readStatement_264 rfl (lv_at hl 2 rfl) ?_
                                            refine lv_dup hx hb dX12_readStatement_265 rfl ?_
                                            refine va_get (D := G) (ci := 11) (v := .int (ii (ρ 19 0))) (C := RX12) (T := TX12) (N := 52) hx hb hts in_X12 hown hK hP 0 (aM_0 _ _ _ _ _) rfl 19 (by decide) (hts _ q1284) (fun _ h9 => h9) rfl dX12_readStatement_266 ?_
                                            refine li_iconst hx hb dX12_readStatement_269 ?_
                                            refine li_add hx hb dX12_readStatement_270 ?_
                                            refine va_put (D := G) (ci := 11) (v := .int (ii (ρ 19 0 + 1))) (ty := .int) (C := RX12) (T := TX12) (N := 52) hx hb hts in_X12 tyX12 tyX12_ok nmX12 hown hK hP hD hS 0 (aM_0 _ _ _ _ _) rfl 19 (by decide) (hts _ q1284) (fun _ h9 => h9) rfl (tyX12_ok 19 (by decide)) rfl rfl (Nat.le_of_ble_eq_true rfl) dX12_readStatement_271 (fun H locs hP hD hS => ?_)
                                            have hP : va_P G gcl (wM am ty τ (up (up (up (up (up (up (up (up ρ 20 (ug (ρ 20) (ρ 19 0) (ρ 17 0))) 21 (ug (ρ 21) (ρ 19 0) (u (ρ 17 0)))) 24 (ug (ρ 24) (ρ 19 0) 0)) 22 (ug (ρ 22) (ρ 19 0) (nmV u (ρ 17 0 + 1)))) 17 (sc (((nmE u (ρ 17 0 + 1)) + 1)))) 23 (ug (ρ 23) (ρ 19 0) 0)) 18 (sc (1))) 19 (sc (ρ 19 0 + 1))) ++ cs) H := hP
                                            have hD : va_D A (wM am ty τ (up (up (up (up (up (up (up (up ρ 20 (ug (ρ 20) (ρ 19 0) (ρ 17 0))) 21 (ug (ρ 21) (ρ 19 0) (u (ρ 17 0)))) 24 (ug (ρ 24) (ρ 19 0) 0)) 22 (ug (ρ 22) (ρ 19 0) (nmV u (ρ 17 0 + 1)))) 17 (sc (((nmE u (ρ 17 0 + 1)) + 1)))) 23 (ug (ρ 23) (ρ 19 0) 0)) 18 (sc (1))) 19 (sc (ρ 19 0 + 1))) ++ cs) := hD
                                            exact eMv hQ hx hb hr hlk hP hD hS (Nat.le_of_ble_eq_true rfl) (Nat.le_of_ble_eq_true rfl) dX12_readStatement_274 (⟨1, ((nmE u (ρ 17 0 + 1)) + 1), (ug (ρ 22) (ρ 19 0) (nmV u (ρ 17 0 + 1))), (ug (ρ 23) (ρ 19 0) 0), (ug (ρ 24) (ρ 19 0) 0), rfl, rfl, .inr ⟨by rw [stB_r c32]; unfold rB; omega, rfl, by rw [stB_r c32]; unfold rB; omega⟩, fun j q => ⟨by first | rw [ug_n q, ug_n q] | rw [ug_n q] | rfl, by first | rw [ug_n q, ug_n q] | rw [ug_n q] | rfl, by first | rw [ug_n q, ug_n q] | rw [ug_n q] | rfl⟩⟩)
                                          · exact absurd c223 (by decide)
                                      · exfalso
                                        omega
                              · have hP : va_P G gcl (wM am ty τ (up (up (up (up (up (up ρ 20 (ug (ρ 20) (ρ 19 0) (ρ 17 0))) 21 (ug (ρ 21) (ρ 19 0) (u (ρ 17 0)))) 24 (ug (ρ 24) (ρ 19 0) 0)) 22 (ug (ρ 22) (ρ 19 0) (nmV u (ρ 17 0 + 1)))) 18 (sc (1))) 17 (sc ((nmE u (ρ 17 0 + 1))))) ++ cs) H := hP
                                have hD : va_D A (wM am ty τ (up (up (up (up (up (up ρ 20 (ug (ρ 20) (ρ 19 0) (ρ 17 0))) 21 (ug (ρ 21) (ρ 19 0) (u (ρ 17 0)))) 24 (ug (ρ 24) (ρ 19 0) 0)) 22 (ug (ρ 22) (ρ 19 0) (nmV u (ρ 17 0 + 1)))) 18 (sc (1))) 17 (sc ((nmE u (ρ 17 0 + 1))))) ++ cs) := hD
                                have h174 : ¬ u (nmE u (ρ 17 0 + 1)) = 32 := h174
                                refine lv_aload_n hx hb dX12_readStatement_177 rfl (lv_at hl 2 rfl) ?_
                                refine va_get (D := G) (ci := 11) (v := .int (ii 1)) (C := RX12) (T := TX12) (N := 52) hx hb hts in_X12 hown hK hP 0 (aM_0 _ _ _ _ _) rfl 18 (by decide) (hts _ q1283) (fun _ h9 => h9) rfl dX12_readStatement_178 ?_
                                refine li_if_ne (tgt := 219) hx hb ⟨by decide, by decide⟩ dX12_readStatement_181 (by decide) (fun c181 => ?_) (fun c181 => ?_)
                                · refine lv_aload_n hx hb dX12_readStatement_219 rfl (lv_at hl 2 rfl) ?_
                                  refine va_get (D := G) (ci := 11) (v := .int (ii 1)) (C := RX12) (T := TX12) (N := 52) hx hb hts in_X12 hown hK hP 0 (aM_0 _ _ _ _ _) rfl 18 (by decide) (hts _ q1283) (fun _ h9 => h9) rfl dX12_readStatement_220 ?_
                                  refine li_if_ne (tgt := 258) hx hb ⟨by decide, by decide⟩ dX12_readStatement_223 (by decide) (fun c223 => ?_) (fun c223 => ?_)
                                  · refine lv_aload_n hx hb dX12_readStatement_258 rfl (lv_at hl 2 rfl) ?_
                                    refine li_bipush hx hb dX12_readStatement_259 (by decide) ?_
                                    refine kM (va_runV (As := [.int (ii 59)]) (rest := []) ⟨hx, hb, hml, hown, hts⟩ ((m_takeM1 l G am ty τ (up (up (up (up (up (up ρ 20 (ug (ρ 20) (ρ 19 0) (ρ 17 0))) 21 (ug (ρ 21) (ρ 19 0) (u (ρ 17 0)))) 24 (ug (ρ 24) (ρ 19 0) 0)) 22 (ug (ρ 22) (ρ 19 0) (nmV u (ρ 17 0 + 1)))) 18 (sc (1))) 17 (sc ((nmE u (ρ 17 0 + 1))))) cs 59 (show 1 = 1 from rfl)) H.size) (cwV 1 hts (lw_V q1457 q1459 qs42 q87 q1460) rfl rfl rfl (by decide +kernel) ⟨Nat.le_of_ble_eq_true rfl, Nat.le_of_ble_eq_true rfl⟩) (pvM (r := (RX12, TX12, 52)) hK hP hD hX 0 (aM_0 _ _ _ _ _) rfl) rfl rfl hl.1 rfl (lv_room (Nat.le_of_ble_eq_true rfl)) dX12_readStatement_261 ⟨Nat.le_of_ble_eq_true rfl, Nat.le_of_ble_eq_true rfl⟩) hD hS hA (fun v ws1 H locs hv hP hD hS => ?_)
                                    obtain ⟨rfl, rfl⟩ := hv
                                    have hP : va_P G gcl (wM am ty τ (up (up (up (up (up (up ρ 20 (ug (ρ 20) (ρ 19 0) (ρ 17 0))) 21 (ug (ρ 21) (ρ 19 0) (u (ρ 17 0)))) 24 (ug (ρ 24) (ρ 19 0) 0)) 22 (ug (ρ 22) (ρ 19 0) (nmV u (ρ 17 0 + 1)))) 17 (sc ((nmE u (ρ 17 0 + 1))))) 18 (sc (1))) ++ cs) H := hP
                                    have hD : va_D A (wM am ty τ (up (up (up (up (up (up ρ 20 (ug (ρ 20) (ρ 19 0) (ρ 17 0))) 21 (ug (ρ 21) (ρ 19 0) (u (ρ 17 0)))) 24 (ug (ρ 24) (ρ 19 0) 0)) 22 (ug (ρ 22) (ρ 19 0) (nmV u (ρ 17 0 + 1)))) 17 (sc ((nmE u (ρ 17 0 + 1))))) 18 (sc (1))) ++ cs) := hD
                                    refine lv_aload_n hx hb dX12_readStatement_264 rfl (lv_at hl 2 rfl) ?_
                                    refine lv_dup hx hb dX12_readStatement_265 rfl ?_
                                    refine va_get (D := G) (ci := 11) (v := .int (ii (ρ 19 0))) (C := RX12) (T := TX12) (N := 52) hx hb hts in_X12 hown hK hP 0 (aM_0 _ _ _ _ _) rfl 19 (by decide) (hts _ q1284) (fun _ h9 => h9) rfl dX12_readStatement_266 ?_
                                    refine li_iconst hx hb dX12_readStatement_269 ?_
                                    refine li_add hx hb dX12_readStatement_270 ?_
                                    refine va_put (D := G) (ci := 11) (v := .int (ii (ρ 19 0 + 1))) (ty := .int) (C := RX12) (T := TX12) (N := 52) hx hb hts in_X12 tyX12 tyX12_ok nmX12 hown hK hP hD hS 0 (aM_0 _ _ _ _ _) rfl 19 (by decide) (hts _ q1284) (fun _ h9 => h9) rfl (tyX12_ok 19 (by decide)) rfl rfl (Nat.le_of_ble_eq_true rfl) dX12_readStatement_271 (fun H locs hP hD hS => ?_)
                                    have hP : va_P G gcl (wM am ty τ (up (up (up (up (up (up (up ρ 20 (ug (ρ 20) (ρ 19 0) (ρ 17 0))) 21 (ug (ρ 21) (ρ 19 0) (u (ρ 17 0)))) 24 (ug (ρ 24) (ρ 19 0) 0)) 22 (ug (ρ 22) (ρ 19 0) (nmV u (ρ 17 0 + 1)))) 17 (sc ((nmE u (ρ 17 0 + 1))))) 18 (sc (1))) 19 (sc (ρ 19 0 + 1))) ++ cs) H := hP
                                    have hD : va_D A (wM am ty τ (up (up (up (up (up (up (up ρ 20 (ug (ρ 20) (ρ 19 0) (ρ 17 0))) 21 (ug (ρ 21) (ρ 19 0) (u (ρ 17 0)))) 24 (ug (ρ 24) (ρ 19 0) 0)) 22 (ug (ρ 22) (ρ 19 0) (nmV u (ρ 17 0 + 1)))) 17 (sc ((nmE u (ρ 17 0 + 1))))) 18 (sc (1))) 19 (sc (ρ 19 0 + 1))) ++ cs) := hD
                                    exact eMv hQ hx hb hr hlk hP hD hS (Nat.le_of_ble_eq_true rfl) (Nat.le_of_ble_eq_true rfl) dX12_readStatement_274 (⟨1, (nmE u (ρ 17 0 + 1)), (ug (ρ 22) (ρ 19 0) (nmV u (ρ 17 0 + 1))), (ρ 23), (ug (ρ 24) (ρ 19 0) 0), rfl, rfl, .inr ⟨by rw [stB_r c32]; unfold rB; omega, rfl, by rw [stB_r c32]; unfold rB; omega⟩, fun j q => ⟨by first | rw [ug_n q, ug_n q] | rw [ug_n q] | rfl, by first | rw [ug_n q, ug_n q] | rw [ug_n q] | rfl, by first | rw [ug_n q, ug_n q] | rw [ug_n q] | rfl⟩⟩)
                                  · exact absurd c223 (by decide)
                                · exact absurd c181 (by decide)
                    · have hP : va_P G gcl (wM am ty τ (up (up (up (up (up ρ 20 (ug (ρ 20) (ρ 19 0) (ρ 17 0))) 21 (ug (ρ 21) (ρ 19 0) (u (ρ 17 0)))) 24 (ug (ρ 24) (ρ 19 0) 0)) 18 (sc (1))) 17 (sc ((ρ 17 0 + 1)))) ++ cs) H := hP
                      have hD : va_D A (wM am ty τ (up (up (up (up (up ρ 20 (ug (ρ 20) (ρ 19 0) (ρ 17 0))) 21 (ug (ρ 21) (ρ 19 0) (u (ρ 17 0)))) 24 (ug (ρ 24) (ρ 19 0) 0)) 18 (sc (1))) 17 (sc ((ρ 17 0 + 1)))) ++ cs) := hD
                      have h142 : ¬ (48 ≤ u (ρ 17 0 + 1) ∧ u (ρ 17 0 + 1) ≤ 57) := h142
                      refine li_iast (g := (ρ 22)) (W2 := wM am ty τ (up (up (up (up (up (up ρ 20 (ug (ρ 20) (ρ 19 0) (ρ 17 0))) 21 (ug (ρ 21) (ρ 19 0) (u (ρ 17 0)))) 24 (ug (ρ 24) (ρ 19 0) 0)) 18 (sc (1))) 17 (sc ((ρ 17 0 + 1)))) 22 (ug (ρ 22) (ρ 19 0) 0)) ++ cs) hx hb hK hP hD hS 11 0 (aM_11 _ _ _ _ _) rfl (by omega) (by omega) (by decide) rfl dX12_readStatement_145 (fun H locs hP hD hS => ?_)
                      refine lv_aload_n hx hb dX12_readStatement_146 rfl (lv_at hl 2 rfl) ?_
                      refine va_get (D := G) (ci := 11) (v := .int (ii 1)) (C := RX12) (T := TX12) (N := 52) hx hb hts in_X12 hown hK hP 0 (aM_0 _ _ _ _ _) rfl 18 (by decide) (hts _ q1283) (fun _ h9 => h9) rfl dX12_readStatement_147 ?_
                      refine li_if_ne (tgt := 177) hx hb ⟨by decide, by decide⟩ dX12_readStatement_150 (by decide) (fun c150 => ?_) (fun c150 => ?_)
                      · refine lv_aload_n hx hb dX12_readStatement_177 rfl (lv_at hl 2 rfl) ?_
                        refine va_get (D := G) (ci := 11) (v := .int (ii 1)) (C := RX12) (T := TX12) (N := 52) hx hb hts in_X12 hown hK hP 0 (aM_0 _ _ _ _ _) rfl 18 (by decide) (hts _ q1283) (fun _ h9 => h9) rfl dX12_readStatement_178 ?_
                        refine li_if_ne (tgt := 219) hx hb ⟨by decide, by decide⟩ dX12_readStatement_181 (by decide) (fun c181 => ?_) (fun c181 => ?_)
                        · refine lv_aload_n hx hb dX12_readStatement_219 rfl (lv_at hl 2 rfl) ?_
                          refine va_get (D := G) (ci := 11) (v := .int (ii 1)) (C := RX12) (T := TX12) (N := 52) hx hb hts in_X12 hown hK hP 0 (aM_0 _ _ _ _ _) rfl 18 (by decide) (hts _ q1283) (fun _ h9 => h9) rfl dX12_readStatement_220 ?_
                          refine li_if_ne (tgt := 258) hx hb ⟨by decide, by decide⟩ dX12_readStatement_223 (by decide) (fun c223 => ?_) (fun c223 => ?_)
                          · refine lv_aload_n hx hb dX12_readStatement_258 rfl (lv_at hl 2 rfl) ?_
                            refine li_bipush hx hb dX12_readStatement_259 (by decide) ?_
                            refine kM (va_runV (As := [.int (ii 59)]) (rest := []) ⟨hx, hb, hml, hown, hts⟩ ((m_takeM1 l G am ty τ (up (up (up (up (up (up ρ 20 (ug (ρ 20) (ρ 19 0) (ρ 17 0))) 21 (ug (ρ 21) (ρ 19 0) (u (ρ 17 0)))) 24 (ug (ρ 24) (ρ 19 0) 0)) 18 (sc (1))) 17 (sc ((ρ 17 0 + 1)))) 22 (ug (ρ 22) (ρ 19 0) 0)) cs 59 (show 1 = 1 from rfl)) H.size) (cwV 1 hts (lw_V q1457 q1459 qs42 q87 q1460) rfl rfl rfl (by decide +kernel) ⟨Nat.le_of_ble_eq_true rfl, Nat.le_of_ble_eq_true rfl⟩) (pvM (r := (RX12, TX12, 52)) hK hP hD hX 0 (aM_0 _ _ _ _ _) rfl) rfl rfl hl.1 rfl (lv_room (Nat.le_of_ble_eq_true rfl)) dX12_readStatement_261 ⟨Nat.le_of_ble_eq_true rfl, Nat.le_of_ble_eq_true rfl⟩) hD hS hA (fun v ws1 H locs hv hP hD hS => ?_)
                            obtain ⟨rfl, rfl⟩ := hv
                            have hP : va_P G gcl (wM am ty τ (up (up (up (up (up (up ρ 20 (ug (ρ 20) (ρ 19 0) (ρ 17 0))) 21 (ug (ρ 21) (ρ 19 0) (u (ρ 17 0)))) 24 (ug (ρ 24) (ρ 19 0) 0)) 17 (sc ((ρ 17 0 + 1)))) 22 (ug (ρ 22) (ρ 19 0) 0)) 18 (sc (1))) ++ cs) H := hP
                            have hD : va_D A (wM am ty τ (up (up (up (up (up (up ρ 20 (ug (ρ 20) (ρ 19 0) (ρ 17 0))) 21 (ug (ρ 21) (ρ 19 0) (u (ρ 17 0)))) 24 (ug (ρ 24) (ρ 19 0) 0)) 17 (sc ((ρ 17 0 + 1)))) 22 (ug (ρ 22) (ρ 19 0) 0)) 18 (sc (1))) ++ cs) := hD
                            refine lv_aload_n hx hb dX12_readStatement_264 rfl (lv_at hl 2 rfl) ?_
                            refine lv_dup hx hb dX12_readStatement_265 rfl ?_
                            refine va_get (D := G) (ci := 11) (v := .int (ii (ρ 19 0))) (C := RX12) (T := TX12) (N := 52) hx hb hts in_X12 hown hK hP 0 (aM_0 _ _ _ _ _) rfl 19 (by decide) (hts _ q1284) (fun _ h9 => h9) rfl dX12_readStatement_266 ?_
                            refine li_iconst hx hb dX12_readStatement_269 ?_
                            refine li_add hx hb dX12_readStatement_270 ?_
                            refine va_put (D := G) (ci := 11) (v := .int (ii (ρ 19 0 + 1))) (ty := .int) (C := RX12) (T := TX12) (N := 52) hx hb hts in_X12 tyX12 tyX12_ok nmX12 hown hK hP hD hS 0 (aM_0 _ _ _ _ _) rfl 19 (by decide) (hts _ q1284) (fun _ h9 => h9) rfl (tyX12_ok 19 (by decide)) rfl rfl (Nat.le_of_ble_eq_true rfl) dX12_readStatement_271 (fun H locs hP hD hS => ?_)
                            have hP : va_P G gcl (wM am ty τ (up (up (up (up (up (up (up ρ 20 (ug (ρ 20) (ρ 19 0) (ρ 17 0))) 21 (ug (ρ 21) (ρ 19 0) (u (ρ 17 0)))) 24 (ug (ρ 24) (ρ 19 0) 0)) 17 (sc ((ρ 17 0 + 1)))) 22 (ug (ρ 22) (ρ 19 0) 0)) 18 (sc (1))) 19 (sc (ρ 19 0 + 1))) ++ cs) H := hP
                            have hD : va_D A (wM am ty τ (up (up (up (up (up (up (up ρ 20 (ug (ρ 20) (ρ 19 0) (ρ 17 0))) 21 (ug (ρ 21) (ρ 19 0) (u (ρ 17 0)))) 24 (ug (ρ 24) (ρ 19 0) 0)) 17 (sc ((ρ 17 0 + 1)))) 22 (ug (ρ 22) (ρ 19 0) 0)) 18 (sc (1))) 19 (sc (ρ 19 0 + 1))) ++ cs) := hD
                            exact eMv hQ hx hb hr hlk hP hD hS (Nat.le_of_ble_eq_true rfl) (Nat.le_of_ble_eq_true rfl) dX12_readStatement_274 (⟨1, (ρ 17 0 + 1), (ug (ρ 22) (ρ 19 0) 0), (ρ 23), (ug (ρ 24) (ρ 19 0) 0), rfl, rfl, .inr ⟨by rw [stB_r c32]; unfold rB; omega, rfl, by rw [stB_r c32]; unfold rB; omega⟩, fun j q => ⟨by first | rw [ug_n q, ug_n q] | rw [ug_n q] | rfl, by first | rw [ug_n q, ug_n q] | rw [ug_n q] | rfl, by first | rw [ug_n q, ug_n q] | rw [ug_n q] | rfl⟩⟩)
                          · exact absurd c223 (by decide)
                        · exact absurd c181 (by decide)
                      · exact absurd c150 (by decide)
                  · exfalso
                    omega
            · exact absurd c109 (by decide)
          · exact absurd c88 (by decide)
        · refine lv_iload_n hx hb dX12_readStatement_35 rfl (lv_at hl 1 rfl) ?_
          refine li_bipush hx hb dX12_readStatement_36 (by decide) ?_
          refine li_icmp_eq (tgt := 51) hx hb ⟨Int.le_trans (by decide) hzb1.1, Int.le_trans hzb1.2 (by decide)⟩ ⟨by decide, by decide⟩ dX12_readStatement_38 (by decide) (fun c38 => ?_) (fun c38 => ?_)
          · refine li_iconst hx hb dX12_readStatement_51 ?_
            refine va_put (D := G) (ci := 11) (v := .int (ii 0)) (ty := .boolean) (C := RX12) (T := TX12) (N := 52) hx hb hts in_X12 tyX12 tyX12_ok nmX12 hown hK hP hD hS 0 (aM_0 _ _ _ _ _) rfl 18 (by decide) (hts _ q1283) (fun _ h9 => h9) rfl (tyX12_ok 18 (by decide)) (nrw_z (by omega)) (fit_z (by omega)) (Nat.le_of_ble_eq_true rfl) dX12_readStatement_52 (fun H locs hP hD hS => ?_)
            have hP : va_P G gcl (wM am ty τ (up ρ 18 (sc (0))) ++ cs) H := hP
            have hD : va_D A (wM am ty τ (up ρ 18 (sc (0))) ++ cs) := hD
            refine lv_aload_n hx hb dX12_readStatement_55 rfl (lv_at hl 2 rfl) ?_
            refine va_get (D := G) (ci := 11) (v := .ref (am 9)) (C := RX12) (T := TX12) (N := 52) hx hb hts in_X12 hown hK hP 0 (aM_0 _ _ _ _ _) rfl 20 (by decide) (hts _ q1285) (fun _ h9 => h9) rfl dX12_readStatement_56 ?_
            refine lv_iload_n hx hb dX12_readStatement_59 rfl (lv_at hl 0 rfl) ?_
            refine lv_aload_n hx hb dX12_readStatement_60 rfl (lv_at hl 2 rfl) ?_
            refine va_get (D := G) (ci := 11) (v := .int (ii (ρ 17 0))) (C := RX12) (T := TX12) (N := 52) hx hb hts in_X12 hown hK hP 0 (aM_0 _ _ _ _ _) rfl 17 (by decide) (hts _ q1282) (fun _ h9 => h9) rfl dX12_readStatement_61 ?_
            refine li_iast (g := (ρ 20)) (W2 := wM am ty τ (up (up ρ 18 (sc (0))) 20 (ug (ρ 20) (ρ 19 0) (ρ 17 0))) ++ cs) hx hb hK hP hD hS 9 0 (aM_9 _ _ _ _ _) rfl (by omega) (by omega) (by decide) rfl dX12_readStatement_64 (fun H locs hP hD hS => ?_)
            refine lv_aload_n hx hb dX12_readStatement_65 rfl (lv_at hl 2 rfl) ?_
            refine va_get (D := G) (ci := 11) (v := .ref (am 10)) (C := RX12) (T := TX12) (N := 52) hx hb hts in_X12 hown hK hP 0 (aM_0 _ _ _ _ _) rfl 21 (by decide) (hts _ q1286) (fun _ h9 => h9) rfl dX12_readStatement_66 ?_
            refine lv_iload_n hx hb dX12_readStatement_69 rfl (lv_at hl 0 rfl) ?_
            refine lv_iload_n hx hb dX12_readStatement_70 rfl (lv_at hl 1 rfl) ?_
            refine li_iast (g := (ρ 21)) (W2 := wM am ty τ (up (up (up ρ 18 (sc (0))) 20 (ug (ρ 20) (ρ 19 0) (ρ 17 0))) 21 (ug (ρ 21) (ρ 19 0) (u (ρ 17 0)))) ++ cs) hx hb hK hP hD hS 10 0 (aM_10 _ _ _ _ _) rfl (by omega) (by omega) (by decide) rfl dX12_readStatement_71 (fun H locs hP hD hS => ?_)
            refine lv_aload_n hx hb dX12_readStatement_72 rfl (lv_at hl 2 rfl) ?_
            refine va_get (D := G) (ci := 11) (v := .ref (am 13)) (C := RX12) (T := TX12) (N := 52) hx hb hts in_X12 hown hK hP 0 (aM_0 _ _ _ _ _) rfl 24 (by decide) (hts _ q1289) (fun _ h9 => h9) rfl dX12_readStatement_73 ?_
            refine lv_iload_n hx hb dX12_readStatement_76 rfl (lv_at hl 0 rfl) ?_
            refine li_iconst hx hb dX12_readStatement_77 ?_
            refine li_zast (g := (ρ 24)) (W2 := wM am ty τ (up (up (up (up ρ 18 (sc (0))) 20 (ug (ρ 20) (ρ 19 0) (ρ 17 0))) 21 (ug (ρ 21) (ρ 19 0) (u (ρ 17 0)))) 24 (ug (ρ 24) (ρ 19 0) 0)) ++ cs) hx hb hK hP hD hS 13 1 (aM_13 _ _ _ _ _) rfl (by omega) (by omega) (by decide) (by omega) rfl dX12_readStatement_78 (fun H locs hP hD hS => ?_)
            refine lv_aload_n hx hb dX12_readStatement_79 rfl (lv_at hl 2 rfl) ?_
            refine lv_dup hx hb dX12_readStatement_80 rfl ?_
            refine va_get (D := G) (ci := 11) (v := .int (ii (ρ 17 0))) (C := RX12) (T := TX12) (N := 52) hx hb hts in_X12 hown hK hP 0 (aM_0 _ _ _ _ _) rfl 17 (by decide) (hts _ q1282) (fun _ h9 => h9) rfl dX12_readStatement_81 ?_
            refine lv_aload_n hx hb dX12_readStatement_84 rfl (lv_at hl 2 rfl) ?_
            refine va_get (D := G) (ci := 11) (v := .int (ii 0)) (C := RX12) (T := TX12) (N := 52) hx hb hts in_X12 hown hK hP 0 (aM_0 _ _ _ _ _) rfl 18 (by decide) (hts _ q1283) (fun _ h9 => h9) rfl dX12_readStatement_85 ?_
            refine li_if_eq (tgt := 95) hx hb ⟨by decide, by decide⟩ dX12_readStatement_88 (by decide) (fun c88 => ?_) (fun c88 => ?_)
            · refine li_iconst hx hb dX12_readStatement_95 ?_
              refine li_add hx hb dX12_readStatement_96 ?_
              refine va_put (D := G) (ci := 11) (v := .int (ii (ρ 17 0 + 1))) (ty := .int) (C := RX12) (T := TX12) (N := 52) hx hb hts in_X12 tyX12 tyX12_ok nmX12 hown hK hP hD hS 0 (aM_0 _ _ _ _ _) rfl 17 (by decide) (hts _ q1282) (fun _ h9 => h9) rfl (tyX12_ok 17 (by decide)) rfl rfl (Nat.le_of_ble_eq_true rfl) dX12_readStatement_97 (fun H locs hP hD hS => ?_)
              have hP : va_P G gcl (wM am ty τ (up (up (up (up (up ρ 18 (sc (0))) 20 (ug (ρ 20) (ρ 19 0) (ρ 17 0))) 21 (ug (ρ 21) (ρ 19 0) (u (ρ 17 0)))) 24 (ug (ρ 24) (ρ 19 0) 0)) 17 (sc (ρ 17 0 + 1))) ++ cs) H := hP
              have hD : va_D A (wM am ty τ (up (up (up (up (up ρ 18 (sc (0))) 20 (ug (ρ 20) (ρ 19 0) (ρ 17 0))) 21 (ug (ρ 21) (ρ 19 0) (u (ρ 17 0)))) 24 (ug (ρ 24) (ρ 19 0) 0)) 17 (sc (ρ 17 0 + 1))) ++ cs) := hD
              refine lv_aload_n hx hb dX12_readStatement_100 rfl (lv_at hl 2 rfl) ?_
              refine va_get (D := G) (ci := 11) (v := .ref (am 11)) (C := RX12) (T := TX12) (N := 52) hx hb hts in_X12 hown hK hP 0 (aM_0 _ _ _ _ _) rfl 22 (by decide) (hts _ q1287) (fun _ h9 => h9) rfl dX12_readStatement_101 ?_
              refine lv_iload_n hx hb dX12_readStatement_104 rfl (lv_at hl 0 rfl) ?_
              refine lv_aload_n hx hb dX12_readStatement_105 rfl (lv_at hl 2 rfl) ?_
              refine va_get (D := G) (ci := 11) (v := .int (ii 0)) (C := RX12) (T := TX12) (N := 52) hx hb hts in_X12 hown hK hP 0 (aM_0 _ _ _ _ _) rfl 18 (by decide) (hts _ q1283) (fun _ h9 => h9) rfl dX12_readStatement_106 ?_
              refine li_if_eq (tgt := 116) hx hb ⟨by decide, by decide⟩ dX12_readStatement_109 (by decide) (fun c109 => ?_) (fun c109 => ?_)
              · refine lv_iload_n hx hb dX12_readStatement_116 rfl (lv_at hl 1 rfl) ?_
                refine li_bipush hx hb dX12_readStatement_117 (by decide) ?_
                refine li_icmp_eq (tgt := 134) hx hb ⟨Int.le_trans (by decide) hzb1.1, Int.le_trans hzb1.2 (by decide)⟩ ⟨by decide, by decide⟩ dX12_readStatement_119 (by decide) (fun c119 => ?_) (fun c119 => ?_)
                · exfalso
                  omega
                · refine lv_iload_n hx hb dX12_readStatement_122 rfl (lv_at hl 1 rfl) ?_
                  refine li_bipush hx hb dX12_readStatement_123 (by decide) ?_
                  refine li_icmp_eq (tgt := 134) hx hb ⟨Int.le_trans (by decide) hzb1.1, Int.le_trans hzb1.2 (by decide)⟩ ⟨by decide, by decide⟩ dX12_readStatement_125 (by decide) (fun c125 => ?_) (fun c125 => ?_)
                  · exfalso
                    omega
                  · refine lv_iload_n hx hb dX12_readStatement_128 rfl (lv_at hl 1 rfl) ?_
                    refine li_bipush hx hb dX12_readStatement_129 (by decide) ?_
                    refine li_icmp_ne (tgt := 141) hx hb ⟨Int.le_trans (by decide) hzb1.1, Int.le_trans hzb1.2 (by decide)⟩ ⟨by decide, by decide⟩ dX12_readStatement_131 (by decide) (fun c131 => ?_) (fun c131 => ?_)
                    · refine lv_aload_n hx hb dX12_readStatement_141 rfl (lv_at hl 2 rfl) ?_
                      refine kM (va_runV (As := []) (rest := [.int (ii (ρ 19 0)), .ref (am 11)]) ⟨hx, hb, hml, hown, hts⟩ ((m_readNumberM l G am ty τ (up (up (up (up (up ρ 18 (sc (0))) 20 (ug (ρ 20) (ρ 19 0) (ρ 17 0))) 21 (ug (ρ 21) (ρ 19 0) (u (ρ 17 0)))) 24 (ug (ρ 24) (ρ 19 0) 0)) 17 (sc (ρ 17 0 + 1))) cs _ hu (show 0 ≤ (ρ 17 0 + 1) ∧ (ρ 17 0 + 1) ≤ 110 from (by have q1 := nmE_b u (ρ 17 0 + 1); have q2 := nmE_b u (ρ 17 0 + 1 + 1 + 1); exact ⟨by omega, by omega⟩)) (show 0 ≤ (ρ 15 0) ∧ (ρ 15 0) ≤ 700 ∧ 0 ≤ (ρ 16 0) ∧ (ρ 16 0) ≤ 100 from hbe) (show ∀ x, 0 ≤ x → x < (ρ 16 0) → -128 ≤ (τ 50) ((ρ 15 0) + x) ∧ (τ 50) ((ρ 15 0) + x) ≤ 127 from hby) (show (ρ 17 0 + 1) ≤ 107 from (by have q1 := nmE_b u (ρ 17 0 + 1); have q2 := nmE_b u (ρ 17 0 + 1 + 1 + 1); omega)) (show 0 = 0 from rfl)) H.size) (cwV 0 hts (lw_V q1453 q1455 qs41 q87 q1456) rfl rfl rfl (by decide +kernel) ⟨Nat.le_of_ble_eq_true rfl, Nat.le_of_ble_eq_true rfl⟩) (pvM (r := (RX12, TX12, 52)) hK hP hD hX 0 (aM_0 _ _ _ _ _) rfl) rfl rfl hl.1 rfl (lv_room (Nat.le_of_ble_eq_true rfl)) dX12_readStatement_142 ⟨Nat.le_of_ble_eq_true rfl, Nat.le_of_ble_eq_true rfl⟩) hD hS hA (fun v ws1 H locs hv hP hD hS => ?_)
                      obtain ⟨z142, b142, a142, rfl, rfl, ⟨h142, rfl, rfl, rfl⟩ | ⟨h142, rfl, rfl, rfl⟩⟩ := hv
                      · have hP : va_P G gcl (wM am ty τ (up (up (up (up (up ρ 20 (ug (ρ 20) (ρ 19 0) (ρ 17 0))) 21 (ug (ρ 21) (ρ 19 0) (u (ρ 17 0)))) 24 (ug (ρ 24) (ρ 19 0) 0)) 18 (sc (0))) 17 (sc (nmE u (ρ 17 0 + 1)))) ++ cs) H := hP
                        have hD : va_D A (wM am ty τ (up (up (up (up (up ρ 20 (ug (ρ 20) (ρ 19 0) (ρ 17 0))) 21 (ug (ρ 21) (ρ 19 0) (u (ρ 17 0)))) 24 (ug (ρ 24) (ρ 19 0) 0)) 18 (sc (0))) 17 (sc (nmE u (ρ 17 0 + 1)))) ++ cs) := hD
                        have h142 : 48 ≤ u (ρ 17 0 + 1) ∧ u (ρ 17 0 + 1) ≤ 57 := h142
                        refine li_iast (g := (ρ 22)) (W2 := wM am ty τ (up (up (up (up (up (up ρ 20 (ug (ρ 20) (ρ 19 0) (ρ 17 0))) 21 (ug (ρ 21) (ρ 19 0) (u (ρ 17 0)))) 24 (ug (ρ 24) (ρ 19 0) 0)) 18 (sc (0))) 17 (sc (nmE u (ρ 17 0 + 1)))) 22 (ug (ρ 22) (ρ 19 0) (nmV u (ρ 17 0 + 1)))) ++ cs) hx hb hK hP hD hS 11 0 (aM_11 _ _ _ _ _) rfl (by omega) (by omega) (by decide) rfl dX12_readStatement_145 (fun H locs hP hD hS => ?_)
                        refine lv_aload_n hx hb dX12_readStatement_146 rfl (lv_at hl 2 rfl) ?_
                        refine va_get (D := G) (ci := 11) (v := .int (ii 0)) (C := RX12) (T := TX12) (N := 52) hx hb hts in_X12 hown hK hP 0 (aM_0 _ _ _ _ _) rfl 18 (by decide) (hts _ q1283) (fun _ h9 => h9) rfl dX12_readStatement_147 ?_
                        refine li_if_ne (tgt := 177) hx hb ⟨by decide, by decide⟩ dX12_readStatement_150 (by decide) (fun c150 => ?_) (fun c150 => ?_)
                        · exact absurd c150 (by decide)
                        · refine lv_iload_n hx hb dX12_readStatement_153 rfl (lv_at hl 1 rfl) ?_
                          refine li_bipush hx hb dX12_readStatement_154 (by decide) ?_
                          refine li_icmp_eq (tgt := 171) hx hb ⟨Int.le_trans (by decide) hzb1.1, Int.le_trans hzb1.2 (by decide)⟩ ⟨by decide, by decide⟩ dX12_readStatement_156 (by decide) (fun c156 => ?_) (fun c156 => ?_)
                          · exfalso
                            omega
                          · refine lv_iload_n hx hb dX12_readStatement_159 rfl (lv_at hl 1 rfl) ?_
                            refine li_bipush hx hb dX12_readStatement_160 (by decide) ?_
                            refine li_icmp_eq (tgt := 171) hx hb ⟨Int.le_trans (by decide) hzb1.1, Int.le_trans hzb1.2 (by decide)⟩ ⟨by decide, by decide⟩ dX12_readStatement_162 (by decide) (fun c162 => ?_) (fun c162 => ?_)
                            · exfalso
                              omega
                            · refine lv_iload_n hx hb dX12_readStatement_165 rfl (lv_at hl 1 rfl) ?_
                              refine li_bipush hx hb dX12_readStatement_166 (by decide) ?_
                              refine li_icmp_ne (tgt := 177) hx hb ⟨Int.le_trans (by decide) hzb1.1, Int.le_trans hzb1.2 (by decide)⟩ ⟨by decide, by decide⟩ dX12_readStatement_168 (by decide) (fun c168 => ?_) (fun c168 => ?_)
                              · refine lv_aload_n hx hb dX12_readStatement_177 rfl (lv_at hl 2 rfl) ?_
                                refine va_get (D := G) (ci := 11) (v := .int (ii 0)) (C := RX12) (T := TX12) (N := 52) hx hb hts in_X12 hown hK hP 0 (aM_0 _ _ _ _ _) rfl 18 (by decide) (hts _ q1283) (fun _ h9 => h9) rfl dX12_readStatement_178 ?_
                                refine li_if_ne (tgt := 219) hx hb ⟨by decide, by decide⟩ dX12_readStatement_181 (by decide) (fun c181 => ?_) (fun c181 => ?_)
                                · exact absurd c181 (by decide)
                                · refine lv_iload_n hx hb dX12_readStatement_184 rfl (lv_at hl 1 rfl) ?_
                                  refine li_bipush hx hb dX12_readStatement_185 (by decide) ?_
                                  refine li_icmp_eq (tgt := 219) hx hb ⟨Int.le_trans (by decide) hzb1.1, Int.le_trans hzb1.2 (by decide)⟩ ⟨by decide, by decide⟩ dX12_readStatement_187 (by decide) (fun c187 => ?_) (fun c187 => ?_)
                                  · refine lv_aload_n hx hb dX12_readStatement_219 rfl (lv_at hl 2 rfl) ?_
                                    refine va_get (D := G) (ci := 11) (v := .int (ii 0)) (C := RX12) (T := TX12) (N := 52) hx hb hts in_X12 hown hK hP 0 (aM_0 _ _ _ _ _) rfl 18 (by decide) (hts _ q1283) (fun _ h9 => h9) rfl dX12_readStatement_220 ?_
                                    refine li_if_ne (tgt := 258) hx hb ⟨by decide, by decide⟩ dX12_readStatement_223 (by decide) (fun c223 => ?_) (fun c223 => ?_)
                                    · exact absurd c223 (by decide)
                                    · refine lv_iload_n hx hb dX12_readStatement_226 rfl (lv_at hl 1 rfl) ?_
                                      refine li_bipush hx hb dX12_readStatement_227 (by decide) ?_
                                      refine li_icmp_ne (tgt := 258) hx hb ⟨Int.le_trans (by decide) hzb1.1, Int.le_trans hzb1.2 (by decide)⟩ ⟨by decide, by decide⟩ dX12_readStatement_229 (by decide) (fun c229 => ?_) (fun c229 => ?_)
                                      · refine lv_aload_n hx hb dX12_readStatement_258 rfl (lv_at hl 2 rfl) ?_
                                        refine li_bipush hx hb dX12_readStatement_259 (by decide) ?_
                                        refine kM (va_runV (As := [.int (ii 59)]) (rest := []) ⟨hx, hb, hml, hown, hts⟩ ((m_takeM0 l G am ty τ (up (up (up (up (up (up ρ 20 (ug (ρ 20) (ρ 19 0) (ρ 17 0))) 21 (ug (ρ 21) (ρ 19 0) (u (ρ 17 0)))) 24 (ug (ρ 24) (ρ 19 0) 0)) 18 (sc (0))) 17 (sc (nmE u (ρ 17 0 + 1)))) 22 (ug (ρ 22) (ρ 19 0) (nmV u (ρ 17 0 + 1)))) cs 59 _ hu (show 0 ≤ (nmE u (ρ 17 0 + 1)) ∧ (nmE u (ρ 17 0 + 1)) ≤ 110 from (by have q1 := nmE_b u (ρ 17 0 + 1); have q2 := nmE_b u (ρ 17 0 + 1 + 1 + 1); exact ⟨by omega, by omega⟩)) (show 0 ≤ (ρ 15 0) ∧ (ρ 15 0) ≤ 700 ∧ 0 ≤ (ρ 16 0) ∧ (ρ 16 0) ≤ 100 from hbe) (show rg 59 from ⟨by decide, by decide⟩) (show 0 = 0 from rfl)) H.size) (cwV 1 hts (lw_V q1457 q1459 qs42 q87 q1460) rfl rfl rfl (by decide +kernel) ⟨Nat.le_of_ble_eq_true rfl, Nat.le_of_ble_eq_true rfl⟩) (pvM (r := (RX12, TX12, 52)) hK hP hD hX 0 (aM_0 _ _ _ _ _) rfl) rfl rfl hl.1 rfl (lv_room (Nat.le_of_ble_eq_true rfl)) dX12_readStatement_261 ⟨Nat.le_of_ble_eq_true rfl, Nat.le_of_ble_eq_true rfl⟩) hD hS hA (fun v ws1 H locs hv hP hD hS => ?_)
                                        obtain ⟨b261, a261, rfl, rfl, ⟨h261, rfl, rfl⟩ | ⟨h261, rfl, rfl⟩⟩ := hv
                                        · have hP : va_P G gcl (wM am ty τ (up (up (up (up (up (up ρ 20 (ug (ρ 20) (ρ 19 0) (ρ 17 0))) 21 (ug (ρ 21) (ρ 19 0) (u (ρ 17 0)))) 24 (ug (ρ 24) (ρ 19 0) 0)) 22 (ug (ρ 22) (ρ 19 0) (nmV u (ρ 17 0 + 1)))) 18 (sc (0))) 17 (sc ((nmE u (ρ 17 0 + 1)) + 1))) ++ cs) H := hP
                                          have hD : va_D A (wM am ty τ (up (up (up (up (up (up ρ 20 (ug (ρ 20) (ρ 19 0) (ρ 17 0))) 21 (ug (ρ 21) (ρ 19 0) (u (ρ 17 0)))) 24 (ug (ρ 24) (ρ 19 0) 0)) 22 (ug (ρ 22) (ρ 19 0) (nmV u (ρ 17 0 + 1)))) 18 (sc (0))) 17 (sc ((nmE u (ρ 17 0 + 1)) + 1))) ++ cs) := hD
                                          have h261 : u (nmE u (ρ 17 0 + 1)) = 59 := h261
                                          refine lv_aload_n hx hb dX12_readStatement_264 rfl (lv_at hl 2 rfl) ?_
                                          refine lv_dup hx hb dX12_readStatement_265 rfl ?_
                                          refine va_get (D := G) (ci := 11) (v := .int (ii (ρ 19 0))) (C := RX12) (T := TX12) (N := 52) hx hb hts in_X12 hown hK hP 0 (aM_0 _ _ _ _ _) rfl 19 (by decide) (hts _ q1284) (fun _ h9 => h9) rfl dX12_readStatement_266 ?_
                                          refine li_iconst hx hb dX12_readStatement_269 ?_
                                          refine li_add hx hb dX12_readStatement_270 ?_
                                          refine va_put (D := G) (ci := 11) (v := .int (ii (ρ 19 0 + 1))) (ty := .int) (C := RX12) (T := TX12) (N := 52) hx hb hts in_X12 tyX12 tyX12_ok nmX12 hown hK hP hD hS 0 (aM_0 _ _ _ _ _) rfl 19 (by decide) (hts _ q1284) (fun _ h9 => h9) rfl (tyX12_ok 19 (by decide)) rfl rfl (Nat.le_of_ble_eq_true rfl) dX12_readStatement_271 (fun H locs hP hD hS => ?_)
                                          have hP : va_P G gcl (wM am ty τ (up (up (up (up (up (up (up ρ 20 (ug (ρ 20) (ρ 19 0) (ρ 17 0))) 21 (ug (ρ 21) (ρ 19 0) (u (ρ 17 0)))) 24 (ug (ρ 24) (ρ 19 0) 0)) 22 (ug (ρ 22) (ρ 19 0) (nmV u (ρ 17 0 + 1)))) 18 (sc (0))) 17 (sc ((nmE u (ρ 17 0 + 1)) + 1))) 19 (sc (ρ 19 0 + 1))) ++ cs) H := hP
                                          have hD : va_D A (wM am ty τ (up (up (up (up (up (up (up ρ 20 (ug (ρ 20) (ρ 19 0) (ρ 17 0))) 21 (ug (ρ 21) (ρ 19 0) (u (ρ 17 0)))) 24 (ug (ρ 24) (ρ 19 0) 0)) 22 (ug (ρ 22) (ρ 19 0) (nmV u (ρ 17 0 + 1)))) 18 (sc (0))) 17 (sc ((nmE u (ρ 17 0 + 1)) + 1))) 19 (sc (ρ 19 0 + 1))) ++ cs) := hD
                                          exact eMv hQ hx hb hr hlk hP hD hS (Nat.le_of_ble_eq_true rfl) (Nat.le_of_ble_eq_true rfl) dX12_readStatement_274 (⟨0, (nmE u (ρ 17 0 + 1)) + 1, (ug (ρ 22) (ρ 19 0) (nmV u (ρ 17 0 + 1))), (ρ 23), (ug (ρ 24) (ρ 19 0) 0), rfl, rfl, .inl ⟨by rw [stB_c (.inl c38)]; unfold cB; omega, rfl, by unfold stE; omega, by rw [ug_s]; unfold stX; omega, fun q => by first | omega | (rw [ug_s]; unfold stY; omega), by rw [ug_s]; unfold stZ; omega⟩, fun j q => ⟨by first | rw [ug_n q, ug_n q] | rw [ug_n q] | rfl, by first | rw [ug_n q, ug_n q] | rw [ug_n q] | rfl, by first | rw [ug_n q, ug_n q] | rw [ug_n q] | rfl⟩⟩)
                                        · have hP : va_P G gcl (wM am ty τ (up (up (up (up (up (up ρ 20 (ug (ρ 20) (ρ 19 0) (ρ 17 0))) 21 (ug (ρ 21) (ρ 19 0) (u (ρ 17 0)))) 24 (ug (ρ 24) (ρ 19 0) 0)) 22 (ug (ρ 22) (ρ 19 0) (nmV u (ρ 17 0 + 1)))) 18 (sc (1))) 17 (sc ((nmE u (ρ 17 0 + 1))))) ++ cs) H := hP
                                          have hD : va_D A (wM am ty τ (up (up (up (up (up (up ρ 20 (ug (ρ 20) (ρ 19 0) (ρ 17 0))) 21 (ug (ρ 21) (ρ 19 0) (u (ρ 17 0)))) 24 (ug (ρ 24) (ρ 19 0) 0)) 22 (ug (ρ 22) (ρ 19 0) (nmV u (ρ 17 0 + 1)))) 18 (sc (1))) 17 (sc ((nmE u (ρ 17 0 + 1))))) ++ cs) := hD
                                          have h261 : ¬ u (nmE u (ρ 17 0 + 1)) = 59 := h261
                                          refine lv_aload_n hx hb dX12_readStatement_264 rfl (lv_at hl 2 rfl) ?_
                                          refine lv_dup hx hb dX12_readStatement_265 rfl ?_
                                          refine va_get (D := G) (ci := 11) (v := .int (ii (ρ 19 0))) (C := RX12) (T := TX12) (N := 52) hx hb hts in_X12 hown hK hP 0 (aM_0 _ _ _ _ _) rfl 19 (by decide) (hts _ q1284) (fun _ h9 => h9) rfl dX12_readStatement_266 ?_
                                          refine li_iconst hx hb dX12_readStatement_269 ?_
                                          refine li_add hx hb dX12_readStatement_270 ?_
                                          refine va_put (D := G) (ci := 11) (v := .int (ii (ρ 19 0 + 1))) (ty := .int) (C := RX12) (T := TX12) (N := 52) hx hb hts in_X12 tyX12 tyX12_ok nmX12 hown hK hP hD hS 0 (aM_0 _ _ _ _ _) rfl 19 (by decide) (hts _ q1284) (fun _ h9 => h9) rfl (tyX12_ok 19 (by decide)) rfl rfl (Nat.le_of_ble_eq_true rfl) dX12_readStatement_271 (fun H locs hP hD hS => ?_)
                                          have hP : va_P G gcl (wM am ty τ (up (up (up (up (up (up (up ρ 20 (ug (ρ 20) (ρ 19 0) (ρ 17 0))) 21 (ug (ρ 21) (ρ 19 0) (u (ρ 17 0)))) 24 (ug (ρ 24) (ρ 19 0) 0)) 22 (ug (ρ 22) (ρ 19 0) (nmV u (ρ 17 0 + 1)))) 18 (sc (1))) 17 (sc ((nmE u (ρ 17 0 + 1))))) 19 (sc (ρ 19 0 + 1))) ++ cs) H := hP
                                          have hD : va_D A (wM am ty τ (up (up (up (up (up (up (up ρ 20 (ug (ρ 20) (ρ 19 0) (ρ 17 0))) 21 (ug (ρ 21) (ρ 19 0) (u (ρ 17 0)))) 24 (ug (ρ 24) (ρ 19 0) 0)) 22 (ug (ρ 22) (ρ 19 0) (nmV u (ρ 17 0 + 1)))) 18 (sc (1))) 17 (sc ((nmE u (ρ 17 0 + 1))))) 19 (sc (ρ 19 0 + 1))) ++ cs) := hD
                                          exact eMv hQ hx hb hr hlk hP hD hS (Nat.le_of_ble_eq_true rfl) (Nat.le_of_ble_eq_true rfl) dX12_readStatement_274 (⟨1, (nmE u (ρ 17 0 + 1)), (ug (ρ 22) (ρ 19 0) (nmV u (ρ 17 0 + 1))), (ρ 23), (ug (ρ 24) (ρ 19 0) 0), rfl, rfl, .inr ⟨by rw [stB_c (.inl c38)]; unfold cB; omega, rfl, by rw [stB_c (.inl c38)]; unfold cB; omega⟩, fun j q => ⟨by first | rw [ug_n q, ug_n q] | rw [ug_n q] | rfl, by first | rw [ug_n q, ug_n q] | rw [ug_n q] | rfl, by first | rw [ug_n q, ug_n q] | rw [ug_n q] | rfl⟩⟩)
                                      · exfalso
                                        omega
                                  · exfalso
                                    omega
                              · exfalso
                                omega
                      · have hP : va_P G gcl (wM am ty τ (up (up (up (up (up ρ 20 (ug (ρ 20) (ρ 19 0) (ρ 17 0))) 21 (ug (ρ 21) (ρ 19 0) (u (ρ 17 0)))) 24 (ug (ρ 24) (ρ 19 0) 0)) 18 (sc (1))) 17 (sc ((ρ 17 0 + 1)))) ++ cs) H := hP
                        have hD : va_D A (wM am ty τ (up (up (up (up (up ρ 20 (ug (ρ 20) (ρ 19 0) (ρ 17 0))) 21 (ug (ρ 21) (ρ 19 0) (u (ρ 17 0)))) 24 (ug (ρ 24) (ρ 19 0) 0)) 18 (sc (1))) 17 (sc ((ρ 17 0 + 1)))) ++ cs) := hD
                        have h142 : ¬ (48 ≤ u (ρ 17 0 + 1) ∧ u (ρ 17 0 + 1) ≤ 57) := h142
                        refine li_iast (g := (ρ 22)) (W2 := wM am ty τ (up (up (up (up (up (up ρ 20 (ug (ρ 20) (ρ 19 0) (ρ 17 0))) 21 (ug (ρ 21) (ρ 19 0) (u (ρ 17 0)))) 24 (ug (ρ 24) (ρ 19 0) 0)) 18 (sc (1))) 17 (sc ((ρ 17 0 + 1)))) 22 (ug (ρ 22) (ρ 19 0) 0)) ++ cs) hx hb hK hP hD hS 11 0 (aM_11 _ _ _ _ _) rfl (by omega) (by omega) (by decide) rfl dX12_readStatement_145 (fun H locs hP hD hS => ?_)
                        refine lv_aload_n hx hb dX12_readStatement_146 rfl (lv_at hl 2 rfl) ?_
                        refine va_get (D := G) (ci := 11) (v := .int (ii 1)) (C := RX12) (T := TX12) (N := 52) hx hb hts in_X12 hown hK hP 0 (aM_0 _ _ _ _ _) rfl 18 (by decide) (hts _ q1283) (fun _ h9 => h9) rfl dX12_readStatement_147 ?_
                        refine li_if_ne (tgt := 177) hx hb ⟨by decide, by decide⟩ dX12_readStatement_150 (by decide) (fun c150 => ?_) (fun c150 => ?_)
                        · refine lv_aload_n hx hb dX12_readStatement_177 rfl (lv_at hl 2 rfl) ?_
                          refine va_get (D := G) (ci := 11) (v := .int (ii 1)) (C := RX12) (T := TX12) (N := 52) hx hb hts in_X12 hown hK hP 0 (aM_0 _ _ _ _ _) rfl 18 (by decide) (hts _ q1283) (fun _ h9 => h9) rfl dX12_readStatement_178 ?_
                          refine li_if_ne (tgt := 219) hx hb ⟨by decide, by decide⟩ dX12_readStatement_181 (by decide) (fun c181 => ?_) (fun c181 => ?_)
                          · refine lv_aload_n hx hb dX12_readStatement_219 rfl (lv_at hl 2 rfl) ?_
                            refine va_get (D := G) (ci := 11) (v := .int (ii 1)) (C := RX12) (T := TX12) (N := 52) hx hb hts in_X12 hown hK hP 0 (aM_0 _ _ _ _ _) rfl 18 (by decide) (hts _ q1283) (fun _ h9 => h9) rfl dX12_readStatement_220 ?_
                            refine li_if_ne (tgt := 258) hx hb ⟨by decide, by decide⟩ dX12_readStatement_223 (by decide) (fun c223 => ?_) (fun c223 => ?_)
                            · refine lv_aload_n hx hb dX12_readStatement_258 rfl (lv_at hl 2 rfl) ?_
                              refine li_bipush hx hb dX12_readStatement_259 (by decide) ?_
                              refine kM (va_runV (As := [.int (ii 59)]) (rest := []) ⟨hx, hb, hml, hown, hts⟩ ((m_takeM1 l G am ty τ (up (up (up (up (up (up ρ 20 (ug (ρ 20) (ρ 19 0) (ρ 17 0))) 21 (ug (ρ 21) (ρ 19 0) (u (ρ 17 0)))) 24 (ug (ρ 24) (ρ 19 0) 0)) 18 (sc (1))) 17 (sc ((ρ 17 0 + 1)))) 22 (ug (ρ 22) (ρ 19 0) 0)) cs 59 (show 1 = 1 from rfl)) H.size) (cwV 1 hts (lw_V q1457 q1459 qs42 q87 q1460) rfl rfl rfl (by decide +kernel) ⟨Nat.le_of_ble_eq_true rfl, Nat.le_of_ble_eq_true rfl⟩) (pvM (r := (RX12, TX12, 52)) hK hP hD hX 0 (aM_0 _ _ _ _ _) rfl) rfl rfl hl.1 rfl (lv_room (Nat.le_of_ble_eq_true rfl)) dX12_readStatement_261 ⟨Nat.le_of_ble_eq_true rfl, Nat.le_of_ble_eq_true rfl⟩) hD hS hA (fun v ws1 H locs hv hP hD hS => ?_)
                              obtain ⟨rfl, rfl⟩ := hv
                              have hP : va_P G gcl (wM am ty τ (up (up (up (up (up (up ρ 20 (ug (ρ 20) (ρ 19 0) (ρ 17 0))) 21 (ug (ρ 21) (ρ 19 0) (u (ρ 17 0)))) 24 (ug (ρ 24) (ρ 19 0) 0)) 17 (sc ((ρ 17 0 + 1)))) 22 (ug (ρ 22) (ρ 19 0) 0)) 18 (sc (1))) ++ cs) H := hP
                              have hD : va_D A (wM am ty τ (up (up (up (up (up (up ρ 20 (ug (ρ 20) (ρ 19 0) (ρ 17 0))) 21 (ug (ρ 21) (ρ 19 0) (u (ρ 17 0)))) 24 (ug (ρ 24) (ρ 19 0) 0)) 17 (sc ((ρ 17 0 + 1)))) 22 (ug (ρ 22) (ρ 19 0) 0)) 18 (sc (1))) ++ cs) := hD
                              refine lv_aload_n hx hb dX12_readStatement_264 rfl (lv_at hl 2 rfl) ?_
                              refine lv_dup hx hb dX12_readStatement_265 rfl ?_
                              refine va_get (D := G) (ci := 11) (v := .int (ii (ρ 19 0))) (C := RX12) (T := TX12) (N := 52) hx hb hts in_X12 hown hK hP 0 (aM_0 _ _ _ _ _) rfl 19 (by decide) (hts _ q1284) (fun _ h9 => h9) rfl dX12_readStatement_266 ?_
                              refine li_iconst hx hb dX12_readStatement_269 ?_
                              refine li_add hx hb dX12_readStatement_270 ?_
                              refine va_put (D := G) (ci := 11) (v := .int (ii (ρ 19 0 + 1))) (ty := .int) (C := RX12) (T := TX12) (N := 52) hx hb hts in_X12 tyX12 tyX12_ok nmX12 hown hK hP hD hS 0 (aM_0 _ _ _ _ _) rfl 19 (by decide) (hts _ q1284) (fun _ h9 => h9) rfl (tyX12_ok 19 (by decide)) rfl rfl (Nat.le_of_ble_eq_true rfl) dX12_readStatement_271 (fun H locs hP hD hS => ?_)
                              have hP : va_P G gcl (wM am ty τ (up (up (up (up (up (up (up ρ 20 (ug (ρ 20) (ρ 19 0) (ρ 17 0))) 21 (ug (ρ 21) (ρ 19 0) (u (ρ 17 0)))) 24 (ug (ρ 24) (ρ 19 0) 0)) 17 (sc ((ρ 17 0 + 1)))) 22 (ug (ρ 22) (ρ 19 0) 0)) 18 (sc (1))) 19 (sc (ρ 19 0 + 1))) ++ cs) H := hP
                              have hD : va_D A (wM am ty τ (up (up (up (up (up (up (up ρ 20 (ug (ρ 20) (ρ 19 0) (ρ 17 0))) 21 (ug (ρ 21) (ρ 19 0) (u (ρ 17 0)))) 24 (ug (ρ 24) (ρ 19 0) 0)) 17 (sc ((ρ 17 0 + 1)))) 22 (ug (ρ 22) (ρ 19 0) 0)) 18 (sc (1))) 19 (sc (ρ 19 0 + 1))) ++ cs) := hD
                              exact eMv hQ hx hb hr hlk hP hD hS (Nat.le_of_ble_eq_true rfl) (Nat.le_of_ble_eq_true rfl) dX12_readStatement_274 (⟨1, (ρ 17 0 + 1), (ug (ρ 22) (ρ 19 0) 0), (ρ 23), (ug (ρ 24) (ρ 19 0) 0), rfl, rfl, .inr ⟨by rw [stB_c (.inl c38)]; unfold cB; omega, rfl, by rw [stB_c (.inl c38)]; unfold cB; omega⟩, fun j q => ⟨by first | rw [ug_n q, ug_n q] | rw [ug_n q] | rfl, by first | rw [ug_n q, ug_n q] | rw [ug_n q] | rfl, by first | rw [ug_n q, ug_n q] | rw [ug_n q] | rfl⟩⟩)
                            · exact absurd c223 (by decide)
                          · exact absurd c181 (by decide)
                        · exact absurd c150 (by decide)
                    · exfalso
                      omega
              · exact absurd c109 (by decide)
            · exact absurd c88 (by decide)
          · refine lv_iload_n hx hb dX12_readStatement_41 rfl (lv_at hl 1 rfl) ?_
            refine li_bipush hx hb dX12_readStatement_42 (by decide) ?_
            refine li_icmp_eq (tgt := 51) hx hb ⟨Int.le_trans (by decide) hzb1.1, Int.le_trans hzb1.2 (by decide)⟩ ⟨by decide, by decide⟩ dX12_readStatement_44 (by decide) (fun c44 => ?_) (fun c44 => ?_)
            · refine li_iconst hx hb dX12_readStatement_51 ?_
              refine va_put (D := G) (ci := 11) (v := .int (ii 0)) (ty := .boolean) (C := RX12) (T := TX12) (N := 52) hx hb hts in_X12 tyX12 tyX12_ok nmX12 hown hK hP hD hS 0 (aM_0 _ _ _ _ _) rfl 18 (by decide) (hts _ q1283) (fun _ h9 => h9) rfl (tyX12_ok 18 (by decide)) (nrw_z (by omega)) (fit_z (by omega)) (Nat.le_of_ble_eq_true rfl) dX12_readStatement_52 (fun H locs hP hD hS => ?_)
              have hP : va_P G gcl (wM am ty τ (up ρ 18 (sc (0))) ++ cs) H := hP
              have hD : va_D A (wM am ty τ (up ρ 18 (sc (0))) ++ cs) := hD
              refine lv_aload_n hx hb dX12_readStatement_55 rfl (lv_at hl 2 rfl) ?_
              refine va_get (D := G) (ci := 11) (v := .ref (am 9)) (C := RX12) (T := TX12) (N := 52) hx hb hts in_X12 hown hK hP 0 (aM_0 _ _ _ _ _) rfl 20 (by decide) (hts _ q1285) (fun _ h9 => h9) rfl dX12_readStatement_56 ?_
              refine lv_iload_n hx hb dX12_readStatement_59 rfl (lv_at hl 0 rfl) ?_
              refine lv_aload_n hx hb dX12_readStatement_60 rfl (lv_at hl 2 rfl) ?_
              refine va_get (D := G) (ci := 11) (v := .int (ii (ρ 17 0))) (C := RX12) (T := TX12) (N := 52) hx hb hts in_X12 hown hK hP 0 (aM_0 _ _ _ _ _) rfl 17 (by decide) (hts _ q1282) (fun _ h9 => h9) rfl dX12_readStatement_61 ?_
              refine li_iast (g := (ρ 20)) (W2 := wM am ty τ (up (up ρ 18 (sc (0))) 20 (ug (ρ 20) (ρ 19 0) (ρ 17 0))) ++ cs) hx hb hK hP hD hS 9 0 (aM_9 _ _ _ _ _) rfl (by omega) (by omega) (by decide) rfl dX12_readStatement_64 (fun H locs hP hD hS => ?_)
              refine lv_aload_n hx hb dX12_readStatement_65 rfl (lv_at hl 2 rfl) ?_
              refine va_get (D := G) (ci := 11) (v := .ref (am 10)) (C := RX12) (T := TX12) (N := 52) hx hb hts in_X12 hown hK hP 0 (aM_0 _ _ _ _ _) rfl 21 (by decide) (hts _ q1286) (fun _ h9 => h9) rfl dX12_readStatement_66 ?_
              refine lv_iload_n hx hb dX12_readStatement_69 rfl (lv_at hl 0 rfl) ?_
              refine lv_iload_n hx hb dX12_readStatement_70 rfl (lv_at hl 1 rfl) ?_
              refine li_iast (g := (ρ 21)) (W2 := wM am ty τ (up (up (up ρ 18 (sc (0))) 20 (ug (ρ 20) (ρ 19 0) (ρ 17 0))) 21 (ug (ρ 21) (ρ 19 0) (u (ρ 17 0)))) ++ cs) hx hb hK hP hD hS 10 0 (aM_10 _ _ _ _ _) rfl (by omega) (by omega) (by decide) rfl dX12_readStatement_71 (fun H locs hP hD hS => ?_)
              refine lv_aload_n hx hb dX12_readStatement_72 rfl (lv_at hl 2 rfl) ?_
              refine va_get (D := G) (ci := 11) (v := .ref (am 13)) (C := RX12) (T := TX12) (N := 52) hx hb hts in_X12 hown hK hP 0 (aM_0 _ _ _ _ _) rfl 24 (by decide) (hts _ q1289) (fun _ h9 => h9) rfl dX12_readStatement_73 ?_
              refine lv_iload_n hx hb dX12_readStatement_76 rfl (lv_at hl 0 rfl) ?_
              refine li_iconst hx hb dX12_readStatement_77 ?_
              refine li_zast (g := (ρ 24)) (W2 := wM am ty τ (up (up (up (up ρ 18 (sc (0))) 20 (ug (ρ 20) (ρ 19 0) (ρ 17 0))) 21 (ug (ρ 21) (ρ 19 0) (u (ρ 17 0)))) 24 (ug (ρ 24) (ρ 19 0) 0)) ++ cs) hx hb hK hP hD hS 13 1 (aM_13 _ _ _ _ _) rfl (by omega) (by omega) (by decide) (by omega) rfl dX12_readStatement_78 (fun H locs hP hD hS => ?_)
              refine lv_aload_n hx hb dX12_readStatement_79 rfl (lv_at hl 2 rfl) ?_
              refine lv_dup hx hb dX12_readStatement_80 rfl ?_
              refine va_get (D := G) (ci := 11) (v := .int (ii (ρ 17 0))) (C := RX12) (T := TX12) (N := 52) hx hb hts in_X12 hown hK hP 0 (aM_0 _ _ _ _ _) rfl 17 (by decide) (hts _ q1282) (fun _ h9 => h9) rfl dX12_readStatement_81 ?_
              refine lv_aload_n hx hb dX12_readStatement_84 rfl (lv_at hl 2 rfl) ?_
              refine va_get (D := G) (ci := 11) (v := .int (ii 0)) (C := RX12) (T := TX12) (N := 52) hx hb hts in_X12 hown hK hP 0 (aM_0 _ _ _ _ _) rfl 18 (by decide) (hts _ q1283) (fun _ h9 => h9) rfl dX12_readStatement_85 ?_
              refine li_if_eq (tgt := 95) hx hb ⟨by decide, by decide⟩ dX12_readStatement_88 (by decide) (fun c88 => ?_) (fun c88 => ?_)
              · refine li_iconst hx hb dX12_readStatement_95 ?_
                refine li_add hx hb dX12_readStatement_96 ?_
                refine va_put (D := G) (ci := 11) (v := .int (ii (ρ 17 0 + 1))) (ty := .int) (C := RX12) (T := TX12) (N := 52) hx hb hts in_X12 tyX12 tyX12_ok nmX12 hown hK hP hD hS 0 (aM_0 _ _ _ _ _) rfl 17 (by decide) (hts _ q1282) (fun _ h9 => h9) rfl (tyX12_ok 17 (by decide)) rfl rfl (Nat.le_of_ble_eq_true rfl) dX12_readStatement_97 (fun H locs hP hD hS => ?_)
                have hP : va_P G gcl (wM am ty τ (up (up (up (up (up ρ 18 (sc (0))) 20 (ug (ρ 20) (ρ 19 0) (ρ 17 0))) 21 (ug (ρ 21) (ρ 19 0) (u (ρ 17 0)))) 24 (ug (ρ 24) (ρ 19 0) 0)) 17 (sc (ρ 17 0 + 1))) ++ cs) H := hP
                have hD : va_D A (wM am ty τ (up (up (up (up (up ρ 18 (sc (0))) 20 (ug (ρ 20) (ρ 19 0) (ρ 17 0))) 21 (ug (ρ 21) (ρ 19 0) (u (ρ 17 0)))) 24 (ug (ρ 24) (ρ 19 0) 0)) 17 (sc (ρ 17 0 + 1))) ++ cs) := hD
                refine lv_aload_n hx hb dX12_readStatement_100 rfl (lv_at hl 2 rfl) ?_
                refine va_get (D := G) (ci := 11) (v := .ref (am 11)) (C := RX12) (T := TX12) (N := 52) hx hb hts in_X12 hown hK hP 0 (aM_0 _ _ _ _ _) rfl 22 (by decide) (hts _ q1287) (fun _ h9 => h9) rfl dX12_readStatement_101 ?_
                refine lv_iload_n hx hb dX12_readStatement_104 rfl (lv_at hl 0 rfl) ?_
                refine lv_aload_n hx hb dX12_readStatement_105 rfl (lv_at hl 2 rfl) ?_
                refine va_get (D := G) (ci := 11) (v := .int (ii 0)) (C := RX12) (T := TX12) (N := 52) hx hb hts in_X12 hown hK hP 0 (aM_0 _ _ _ _ _) rfl 18 (by decide) (hts _ q1283) (fun _ h9 => h9) rfl dX12_readStatement_106 ?_
                refine li_if_eq (tgt := 116) hx hb ⟨by decide, by decide⟩ dX12_readStatement_109 (by decide) (fun c109 => ?_) (fun c109 => ?_)
                · refine lv_iload_n hx hb dX12_readStatement_116 rfl (lv_at hl 1 rfl) ?_
                  refine li_bipush hx hb dX12_readStatement_117 (by decide) ?_
                  refine li_icmp_eq (tgt := 134) hx hb ⟨Int.le_trans (by decide) hzb1.1, Int.le_trans hzb1.2 (by decide)⟩ ⟨by decide, by decide⟩ dX12_readStatement_119 (by decide) (fun c119 => ?_) (fun c119 => ?_)
                  · exfalso
                    omega
                  · refine lv_iload_n hx hb dX12_readStatement_122 rfl (lv_at hl 1 rfl) ?_
                    refine li_bipush hx hb dX12_readStatement_123 (by decide) ?_
                    refine li_icmp_eq (tgt := 134) hx hb ⟨Int.le_trans (by decide) hzb1.1, Int.le_trans hzb1.2 (by decide)⟩ ⟨by decide, by decide⟩ dX12_readStatement_125 (by decide) (fun c125 => ?_) (fun c125 => ?_)
                    · exfalso
                      omega
                    · refine lv_iload_n hx hb dX12_readStatement_128 rfl (lv_at hl 1 rfl) ?_
                      refine li_bipush hx hb dX12_readStatement_129 (by decide) ?_
                      refine li_icmp_ne (tgt := 141) hx hb ⟨Int.le_trans (by decide) hzb1.1, Int.le_trans hzb1.2 (by decide)⟩ ⟨by decide, by decide⟩ dX12_readStatement_131 (by decide) (fun c131 => ?_) (fun c131 => ?_)
                      · refine lv_aload_n hx hb dX12_readStatement_141 rfl (lv_at hl 2 rfl) ?_
                        refine kM (va_runV (As := []) (rest := [.int (ii (ρ 19 0)), .ref (am 11)]) ⟨hx, hb, hml, hown, hts⟩ ((m_readNumberM l G am ty τ (up (up (up (up (up ρ 18 (sc (0))) 20 (ug (ρ 20) (ρ 19 0) (ρ 17 0))) 21 (ug (ρ 21) (ρ 19 0) (u (ρ 17 0)))) 24 (ug (ρ 24) (ρ 19 0) 0)) 17 (sc (ρ 17 0 + 1))) cs _ hu (show 0 ≤ (ρ 17 0 + 1) ∧ (ρ 17 0 + 1) ≤ 110 from (by have q1 := nmE_b u (ρ 17 0 + 1); have q2 := nmE_b u (ρ 17 0 + 1 + 1 + 1); exact ⟨by omega, by omega⟩)) (show 0 ≤ (ρ 15 0) ∧ (ρ 15 0) ≤ 700 ∧ 0 ≤ (ρ 16 0) ∧ (ρ 16 0) ≤ 100 from hbe) (show ∀ x, 0 ≤ x → x < (ρ 16 0) → -128 ≤ (τ 50) ((ρ 15 0) + x) ∧ (τ 50) ((ρ 15 0) + x) ≤ 127 from hby) (show (ρ 17 0 + 1) ≤ 107 from (by have q1 := nmE_b u (ρ 17 0 + 1); have q2 := nmE_b u (ρ 17 0 + 1 + 1 + 1); omega)) (show 0 = 0 from rfl)) H.size) (cwV 0 hts (lw_V q1453 q1455 qs41 q87 q1456) rfl rfl rfl (by decide +kernel) ⟨Nat.le_of_ble_eq_true rfl, Nat.le_of_ble_eq_true rfl⟩) (pvM (r := (RX12, TX12, 52)) hK hP hD hX 0 (aM_0 _ _ _ _ _) rfl) rfl rfl hl.1 rfl (lv_room (Nat.le_of_ble_eq_true rfl)) dX12_readStatement_142 ⟨Nat.le_of_ble_eq_true rfl, Nat.le_of_ble_eq_true rfl⟩) hD hS hA (fun v ws1 H locs hv hP hD hS => ?_)
                        obtain ⟨z142, b142, a142, rfl, rfl, ⟨h142, rfl, rfl, rfl⟩ | ⟨h142, rfl, rfl, rfl⟩⟩ := hv
                        · have hP : va_P G gcl (wM am ty τ (up (up (up (up (up ρ 20 (ug (ρ 20) (ρ 19 0) (ρ 17 0))) 21 (ug (ρ 21) (ρ 19 0) (u (ρ 17 0)))) 24 (ug (ρ 24) (ρ 19 0) 0)) 18 (sc (0))) 17 (sc (nmE u (ρ 17 0 + 1)))) ++ cs) H := hP
                          have hD : va_D A (wM am ty τ (up (up (up (up (up ρ 20 (ug (ρ 20) (ρ 19 0) (ρ 17 0))) 21 (ug (ρ 21) (ρ 19 0) (u (ρ 17 0)))) 24 (ug (ρ 24) (ρ 19 0) 0)) 18 (sc (0))) 17 (sc (nmE u (ρ 17 0 + 1)))) ++ cs) := hD
                          have h142 : 48 ≤ u (ρ 17 0 + 1) ∧ u (ρ 17 0 + 1) ≤ 57 := h142
                          refine li_iast (g := (ρ 22)) (W2 := wM am ty τ (up (up (up (up (up (up ρ 20 (ug (ρ 20) (ρ 19 0) (ρ 17 0))) 21 (ug (ρ 21) (ρ 19 0) (u (ρ 17 0)))) 24 (ug (ρ 24) (ρ 19 0) 0)) 18 (sc (0))) 17 (sc (nmE u (ρ 17 0 + 1)))) 22 (ug (ρ 22) (ρ 19 0) (nmV u (ρ 17 0 + 1)))) ++ cs) hx hb hK hP hD hS 11 0 (aM_11 _ _ _ _ _) rfl (by omega) (by omega) (by decide) rfl dX12_readStatement_145 (fun H locs hP hD hS => ?_)
                          refine lv_aload_n hx hb dX12_readStatement_146 rfl (lv_at hl 2 rfl) ?_
                          refine va_get (D := G) (ci := 11) (v := .int (ii 0)) (C := RX12) (T := TX12) (N := 52) hx hb hts in_X12 hown hK hP 0 (aM_0 _ _ _ _ _) rfl 18 (by decide) (hts _ q1283) (fun _ h9 => h9) rfl dX12_readStatement_147 ?_
                          refine li_if_ne (tgt := 177) hx hb ⟨by decide, by decide⟩ dX12_readStatement_150 (by decide) (fun c150 => ?_) (fun c150 => ?_)
                          · exact absurd c150 (by decide)
                          · refine lv_iload_n hx hb dX12_readStatement_153 rfl (lv_at hl 1 rfl) ?_
                            refine li_bipush hx hb dX12_readStatement_154 (by decide) ?_
                            refine li_icmp_eq (tgt := 171) hx hb ⟨Int.le_trans (by decide) hzb1.1, Int.le_trans hzb1.2 (by decide)⟩ ⟨by decide, by decide⟩ dX12_readStatement_156 (by decide) (fun c156 => ?_) (fun c156 => ?_)
                            · exfalso
                              omega
                            · refine lv_iload_n hx hb dX12_readStatement_159 rfl (lv_at hl 1 rfl) ?_
                              refine li_bipush hx hb dX12_readStatement_160 (by decide) ?_
                              refine li_icmp_eq (tgt := 171) hx hb ⟨Int.le_trans (by decide) hzb1.1, Int.le_trans hzb1.2 (by decide)⟩ ⟨by decide, by decide⟩ dX12_readStatement_162 (by decide) (fun c162 => ?_) (fun c162 => ?_)
                              · exfalso
                                omega
                              · refine lv_iload_n hx hb dX12_readStatement_165 rfl (lv_at hl 1 rfl) ?_
                                refine li_bipush hx hb dX12_readStatement_166 (by decide) ?_
                                refine li_icmp_ne (tgt := 177) hx hb ⟨Int.le_trans (by decide) hzb1.1, Int.le_trans hzb1.2 (by decide)⟩ ⟨by decide, by decide⟩ dX12_readStatement_168 (by decide) (fun c168 => ?_) (fun c168 => ?_)
                                · refine lv_aload_n hx hb dX12_readStatement_177 rfl (lv_at hl 2 rfl) ?_
                                  refine va_get (D := G) (ci := 11) (v := .int (ii 0)) (C := RX12) (T := TX12) (N := 52) hx hb hts in_X12 hown hK hP 0 (aM_0 _ _ _ _ _) rfl 18 (by decide) (hts _ q1283) (fun _ h9 => h9) rfl dX12_readStatement_178 ?_
                                  refine li_if_ne (tgt := 219) hx hb ⟨by decide, by decide⟩ dX12_readStatement_181 (by decide) (fun c181 => ?_) (fun c181 => ?_)
                                  · exact absurd c181 (by decide)
                                  · refine lv_iload_n hx hb dX12_readStatement_184 rfl (lv_at hl 1 rfl) ?_
                                    refine li_bipush hx hb dX12_readStatement_185 (by decide) ?_
                                    refine li_icmp_eq (tgt := 219) hx hb ⟨Int.le_trans (by decide) hzb1.1, Int.le_trans hzb1.2 (by decide)⟩ ⟨by decide, by decide⟩ dX12_readStatement_187 (by decide) (fun c187 => ?_) (fun c187 => ?_)
                                    · exfalso
                                      omega
                                    · refine lv_iload_n hx hb dX12_readStatement_190 rfl (lv_at hl 1 rfl) ?_
                                      refine li_bipush hx hb dX12_readStatement_191 (by decide) ?_
                                      refine li_icmp_eq (tgt := 219) hx hb ⟨Int.le_trans (by decide) hzb1.1, Int.le_trans hzb1.2 (by decide)⟩ ⟨by decide, by decide⟩ dX12_readStatement_193 (by decide) (fun c193 => ?_) (fun c193 => ?_)
                                      · refine lv_aload_n hx hb dX12_readStatement_219 rfl (lv_at hl 2 rfl) ?_
                                        refine va_get (D := G) (ci := 11) (v := .int (ii 0)) (C := RX12) (T := TX12) (N := 52) hx hb hts in_X12 hown hK hP 0 (aM_0 _ _ _ _ _) rfl 18 (by decide) (hts _ q1283) (fun _ h9 => h9) rfl dX12_readStatement_220 ?_
                                        refine li_if_ne (tgt := 258) hx hb ⟨by decide, by decide⟩ dX12_readStatement_223 (by decide) (fun c223 => ?_) (fun c223 => ?_)
                                        · exact absurd c223 (by decide)
                                        · refine lv_iload_n hx hb dX12_readStatement_226 rfl (lv_at hl 1 rfl) ?_
                                          refine li_bipush hx hb dX12_readStatement_227 (by decide) ?_
                                          refine li_icmp_ne (tgt := 258) hx hb ⟨Int.le_trans (by decide) hzb1.1, Int.le_trans hzb1.2 (by decide)⟩ ⟨by decide, by decide⟩ dX12_readStatement_229 (by decide) (fun c229 => ?_) (fun c229 => ?_)
                                          · refine lv_aload_n hx hb dX12_readStatement_258 rfl (lv_at hl 2 rfl) ?_
                                            refine li_bipush hx hb dX12_readStatement_259 (by decide) ?_
                                            refine kM (va_runV (As := [.int (ii 59)]) (rest := []) ⟨hx, hb, hml, hown, hts⟩ ((m_takeM0 l G am ty τ (up (up (up (up (up (up ρ 20 (ug (ρ 20) (ρ 19 0) (ρ 17 0))) 21 (ug (ρ 21) (ρ 19 0) (u (ρ 17 0)))) 24 (ug (ρ 24) (ρ 19 0) 0)) 18 (sc (0))) 17 (sc (nmE u (ρ 17 0 + 1)))) 22 (ug (ρ 22) (ρ 19 0) (nmV u (ρ 17 0 + 1)))) cs 59 _ hu (show 0 ≤ (nmE u (ρ 17 0 + 1)) ∧ (nmE u (ρ 17 0 + 1)) ≤ 110 from (by have q1 := nmE_b u (ρ 17 0 + 1); have q2 := nmE_b u (ρ 17 0 + 1 + 1 + 1); exact ⟨by omega, by omega⟩)) (show 0 ≤ (ρ 15 0) ∧ (ρ 15 0) ≤ 700 ∧ 0 ≤ (ρ 16 0) ∧ (ρ 16 0) ≤ 100 from hbe) (show rg 59 from ⟨by decide, by decide⟩) (show 0 = 0 from rfl)) H.size) (cwV 1 hts (lw_V q1457 q1459 qs42 q87 q1460) rfl rfl rfl (by decide +kernel) ⟨Nat.le_of_ble_eq_true rfl, Nat.le_of_ble_eq_true rfl⟩) (pvM (r := (RX12, TX12, 52)) hK hP hD hX 0 (aM_0 _ _ _ _ _) rfl) rfl rfl hl.1 rfl (lv_room (Nat.le_of_ble_eq_true rfl)) dX12_readStatement_261 ⟨Nat.le_of_ble_eq_true rfl, Nat.le_of_ble_eq_true rfl⟩) hD hS hA (fun v ws1 H locs hv hP hD hS => ?_)
                                            obtain ⟨b261, a261, rfl, rfl, ⟨h261, rfl, rfl⟩ | ⟨h261, rfl, rfl⟩⟩ := hv
                                            · have hP : va_P G gcl (wM am ty τ (up (up (up (up (up (up ρ 20 (ug (ρ 20) (ρ 19 0) (ρ 17 0))) 21 (ug (ρ 21) (ρ 19 0) (u (ρ 17 0)))) 24 (ug (ρ 24) (ρ 19 0) 0)) 22 (ug (ρ 22) (ρ 19 0) (nmV u (ρ 17 0 + 1)))) 18 (sc (0))) 17 (sc ((nmE u (ρ 17 0 + 1)) + 1))) ++ cs) H := hP
                                              have hD : va_D A (wM am ty τ (up (up (up (up (up (up ρ 20 (ug (ρ 20) (ρ 19 0) (ρ 17 0))) 21 (ug (ρ 21) (ρ 19 0) (u (ρ 17 0)))) 24 (ug (ρ 24) (ρ 19 0) 0)) 22 (ug (ρ 22) (ρ 19 0) (nmV u (ρ 17 0 + 1)))) 18 (sc (0))) 17 (sc ((nmE u (ρ 17 0 + 1)) + 1))) ++ cs) := hD
                                              have h261 : u (nmE u (ρ 17 0 + 1)) = 59 := h261
                                              refine lv_aload_n hx hb dX12_readStatement_264 rfl (lv_at hl 2 rfl) ?_
                                              refine lv_dup hx hb dX12_readStatement_265 rfl ?_
                                              refine va_get (D := G) (ci := 11) (v := .int (ii (ρ 19 0))) (C := RX12) (T := TX12) (N := 52) hx hb hts in_X12 hown hK hP 0 (aM_0 _ _ _ _ _) rfl 19 (by decide) (hts _ q1284) (fun _ h9 => h9) rfl dX12_readStatement_266 ?_
                                              refine li_iconst hx hb dX12_readStatement_269 ?_
                                              refine li_add hx hb dX12_readStatement_270 ?_
                                              refine va_put (D := G) (ci := 11) (v := .int (ii (ρ 19 0 + 1))) (ty := .int) (C := RX12) (T := TX12) (N := 52) hx hb hts in_X12 tyX12 tyX12_ok nmX12 hown hK hP hD hS 0 (aM_0 _ _ _ _ _) rfl 19 (by decide) (hts _ q1284) (fun _ h9 => h9) rfl (tyX12_ok 19 (by decide)) rfl rfl (Nat.le_of_ble_eq_true rfl) dX12_readStatement_271 (fun H locs hP hD hS => ?_)
                                              have hP : va_P G gcl (wM am ty τ (up (up (up (up (up (up (up ρ 20 (ug (ρ 20) (ρ 19 0) (ρ 17 0))) 21 (ug (ρ 21) (ρ 19 0) (u (ρ 17 0)))) 24 (ug (ρ 24) (ρ 19 0) 0)) 22 (ug (ρ 22) (ρ 19 0) (nmV u (ρ 17 0 + 1)))) 18 (sc (0))) 17 (sc ((nmE u (ρ 17 0 + 1)) + 1))) 19 (sc (ρ 19 0 + 1))) ++ cs) H := hP
                                              have hD : va_D A (wM am ty τ (up (up (up (up (up (up (up ρ 20 (ug (ρ 20) (ρ 19 0) (ρ 17 0))) 21 (ug (ρ 21) (ρ 19 0) (u (ρ 17 0)))) 24 (ug (ρ 24) (ρ 19 0) 0)) 22 (ug (ρ 22) (ρ 19 0) (nmV u (ρ 17 0 + 1)))) 18 (sc (0))) 17 (sc ((nmE u (ρ 17 0 + 1)) + 1))) 19 (sc (ρ 19 0 + 1))) ++ cs) := hD
                                              exact eMv hQ hx hb hr hlk hP hD hS (Nat.le_of_ble_eq_true rfl) (Nat.le_of_ble_eq_true rfl) dX12_readStatement_274 (⟨0, (nmE u (ρ 17 0 + 1)) + 1, (ug (ρ 22) (ρ 19 0) (nmV u (ρ 17 0 + 1))), (ρ 23), (ug (ρ 24) (ρ 19 0) 0), rfl, rfl, .inl ⟨by rw [stB_c (.inr c44)]; unfold cB; omega, rfl, by unfold stE; omega, by rw [ug_s]; unfold stX; omega, fun q => by first | omega | (rw [ug_s]; unfold stY; omega), by rw [ug_s]; unfold stZ; omega⟩, fun j q => ⟨by first | rw [ug_n q, ug_n q] | rw [ug_n q] | rfl, by first | rw [ug_n q, ug_n q] | rw [ug_n q] | rfl, by first | rw [ug_n q, ug_n q] | rw [ug_n q] | rfl⟩⟩)
                                            · have hP : va_P G gcl (wM am ty τ (up (up (up (up (up (up ρ 20 (ug (ρ 20) (ρ 19 0) (ρ 17 0))) 21 (ug (ρ 21) (ρ 19 0) (u (ρ 17 0)))) 24 (ug (ρ 24) (ρ 19 0) 0)) 22 (ug (ρ 22) (ρ 19 0) (nmV u (ρ 17 0 + 1)))) 18 (sc (1))) 17 (sc ((nmE u (ρ 17 0 + 1))))) ++ cs) H := hP
                                              have hD : va_D A (wM am ty τ (up (up (up (up (up (up ρ 20 (ug (ρ 20) (ρ 19 0) (ρ 17 0))) 21 (ug (ρ 21) (ρ 19 0) (u (ρ 17 0)))) 24 (ug (ρ 24) (ρ 19 0) 0)) 22 (ug (ρ 22) (ρ 19 0) (nmV u (ρ 17 0 + 1)))) 18 (sc (1))) 17 (sc ((nmE u (ρ 17 0 + 1))))) ++ cs) := hD
                                              have h261 : ¬ u (nmE u (ρ 17 0 + 1)) = 59 := h261
                                              refine lv_aload_n hx hb dX12_readStatement_264 rfl (lv_at hl 2 rfl) ?_
                                              refine lv_dup hx hb dX12_readStatement_265 rfl ?_
                                              refine va_get (D := G) (ci := 11) (v := .int (ii (ρ 19 0))) (C := RX12) (T := TX12) (N := 52) hx hb hts in_X12 hown hK hP 0 (aM_0 _ _ _ _ _) rfl 19 (by decide) (hts _ q1284) (fun _ h9 => h9) rfl dX12_readStatement_266 ?_
                                              refine li_iconst hx hb dX12_readStatement_269 ?_
                                              refine li_add hx hb dX12_readStatement_270 ?_
                                              refine va_put (D := G) (ci := 11) (v := .int (ii (ρ 19 0 + 1))) (ty := .int) (C := RX12) (T := TX12) (N := 52) hx hb hts in_X12 tyX12 tyX12_ok nmX12 hown hK hP hD hS 0 (aM_0 _ _ _ _ _) rfl 19 (by decide) (hts _ q1284) (fun _ h9 => h9) rfl (tyX12_ok 19 (by decide)) rfl rfl (Nat.le_of_ble_eq_true rfl) dX12_readStatement_271 (fun H locs hP hD hS => ?_)
                                              have hP : va_P G gcl (wM am ty τ (up (up (up (up (up (up (up ρ 20 (ug (ρ 20) (ρ 19 0) (ρ 17 0))) 21 (ug (ρ 21) (ρ 19 0) (u (ρ 17 0)))) 24 (ug (ρ 24) (ρ 19 0) 0)) 22 (ug (ρ 22) (ρ 19 0) (nmV u (ρ 17 0 + 1)))) 18 (sc (1))) 17 (sc ((nmE u (ρ 17 0 + 1))))) 19 (sc (ρ 19 0 + 1))) ++ cs) H := hP
                                              have hD : va_D A (wM am ty τ (up (up (up (up (up (up (up ρ 20 (ug (ρ 20) (ρ 19 0) (ρ 17 0))) 21 (ug (ρ 21) (ρ 19 0) (u (ρ 17 0)))) 24 (ug (ρ 24) (ρ 19 0) 0)) 22 (ug (ρ 22) (ρ 19 0) (nmV u (ρ 17 0 + 1)))) 18 (sc (1))) 17 (sc ((nmE u (ρ 17 0 + 1))))) 19 (sc (ρ 19 0 + 1))) ++ cs) := hD
                                              exact eMv hQ hx hb hr hlk hP hD hS (Nat.le_of_ble_eq_true rfl) (Nat.le_of_ble_eq_true rfl) dX12_readStatement_274 (⟨1, (nmE u (ρ 17 0 + 1)), (ug (ρ 22) (ρ 19 0) (nmV u (ρ 17 0 + 1))), (ρ 23), (ug (ρ 24) (ρ 19 0) 0), rfl, rfl, .inr ⟨by rw [stB_c (.inr c44)]; unfold cB; omega, rfl, by rw [stB_c (.inr c44)]; unfold cB; omega⟩, fun j q => ⟨by first | rw [ug_n q, ug_n q] | rw [ug_n q] | rfl, by first | rw [ug_n q, ug_n q] | rw [ug_n q] | rfl, by first | rw [ug_n q, ug_n q] | rw [ug_n q] | rfl⟩⟩)
                                          · exfalso
                                            omega
                                      · exfalso
                                        omega
                                · exfalso
                                  omega
                        · have hP : va_P G gcl (wM am ty τ (up (up (up (up (up ρ 20 (ug (ρ 20) (ρ 19 0) (ρ 17 0))) 21 (ug (ρ 21) (ρ 19 0) (u (ρ 17 0)))) 24 (ug (ρ 24) (ρ 19 0) 0)) 18 (sc (1))) 17 (sc ((ρ 17 0 + 1)))) ++ cs) H := hP
                          have hD : va_D A (wM am ty τ (up (up (up (up (up ρ 20 (ug (ρ 20) (ρ 19 0) (ρ 17 0))) 21 (ug (ρ 21) (ρ 19 0) (u (ρ 17 0)))) 24 (ug (ρ 24) (ρ 19 0) 0)) 18 (sc (1))) 17 (sc ((ρ 17 0 + 1)))) ++ cs) := hD
                          have h142 : ¬ (48 ≤ u (ρ 17 0 + 1) ∧ u (ρ 17 0 + 1) ≤ 57) := h142
                          refine li_iast (g := (ρ 22)) (W2 := wM am ty τ (up (up (up (up (up (up ρ 20 (ug (ρ 20) (ρ 19 0) (ρ 17 0))) 21 (ug (ρ 21) (ρ 19 0) (u (ρ 17 0)))) 24 (ug (ρ 24) (ρ 19 0) 0)) 18 (sc (1))) 17 (sc ((ρ 17 0 + 1)))) 22 (ug (ρ 22) (ρ 19 0) 0)) ++ cs) hx hb hK hP hD hS 11 0 (aM_11 _ _ _ _ _) rfl (by omega) (by omega) (by decide) rfl dX12_readStatement_145 (fun H locs hP hD hS => ?_)
                          refine lv_aload_n hx hb dX12_readStatement_146 rfl (lv_at hl 2 rfl) ?_
                          refine va_get (D := G) (ci := 11) (v := .int (ii 1)) (C := RX12) (T := TX12) (N := 52) hx hb hts in_X12 hown hK hP 0 (aM_0 _ _ _ _ _) rfl 18 (by decide) (hts _ q1283) (fun _ h9 => h9) rfl dX12_readStatement_147 ?_
                          refine li_if_ne (tgt := 177) hx hb ⟨by decide, by decide⟩ dX12_readStatement_150 (by decide) (fun c150 => ?_) (fun c150 => ?_)
                          · refine lv_aload_n hx hb dX12_readStatement_177 rfl (lv_at hl 2 rfl) ?_
                            refine va_get (D := G) (ci := 11) (v := .int (ii 1)) (C := RX12) (T := TX12) (N := 52) hx hb hts in_X12 hown hK hP 0 (aM_0 _ _ _ _ _) rfl 18 (by decide) (hts _ q1283) (fun _ h9 => h9) rfl dX12_readStatement_178 ?_
                            refine li_if_ne (tgt := 219) hx hb ⟨by decide, by decide⟩ dX12_readStatement_181 (by decide) (fun c181 => ?_) (fun c181 => ?_)
                            · refine lv_aload_n hx hb dX12_readStatement_219 rfl (lv_at hl 2 rfl) ?_
                              refine va_get (D := G) (ci := 11) (v := .int (ii 1)) (C := RX12) (T := TX12) (N := 52) hx hb hts in_X12 hown hK hP 0 (aM_0 _ _ _ _ _) rfl 18 (by decide) (hts _ q1283) (fun _ h9 => h9) rfl dX12_readStatement_220 ?_
                              refine li_if_ne (tgt := 258) hx hb ⟨by decide, by decide⟩ dX12_readStatement_223 (by decide) (fun c223 => ?_) (fun c223 => ?_)
                              · refine lv_aload_n hx hb dX12_readStatement_258 rfl (lv_at hl 2 rfl) ?_
                                refine li_bipush hx hb dX12_readStatement_259 (by decide) ?_
                                refine kM (va_runV (As := [.int (ii 59)]) (rest := []) ⟨hx, hb, hml, hown, hts⟩ ((m_takeM1 l G am ty τ (up (up (up (up (up (up ρ 20 (ug (ρ 20) (ρ 19 0) (ρ 17 0))) 21 (ug (ρ 21) (ρ 19 0) (u (ρ 17 0)))) 24 (ug (ρ 24) (ρ 19 0) 0)) 18 (sc (1))) 17 (sc ((ρ 17 0 + 1)))) 22 (ug (ρ 22) (ρ 19 0) 0)) cs 59 (show 1 = 1 from rfl)) H.size) (cwV 1 hts (lw_V q1457 q1459 qs42 q87 q1460) rfl rfl rfl (by decide +kernel) ⟨Nat.le_of_ble_eq_true rfl, Nat.le_of_ble_eq_true rfl⟩) (pvM (r := (RX12, TX12, 52)) hK hP hD hX 0 (aM_0 _ _ _ _ _) rfl) rfl rfl hl.1 rfl (lv_room (Nat.le_of_ble_eq_true rfl)) dX12_readStatement_261 ⟨Nat.le_of_ble_eq_true rfl, Nat.le_of_ble_eq_true rfl⟩) hD hS hA (fun v ws1 H locs hv hP hD hS => ?_)
                                obtain ⟨rfl, rfl⟩ := hv
                                have hP : va_P G gcl (wM am ty τ (up (up (up (up (up (up ρ 20 (ug (ρ 20) (ρ 19 0) (ρ 17 0))) 21 (ug (ρ 21) (ρ 19 0) (u (ρ 17 0)))) 24 (ug (ρ 24) (ρ 19 0) 0)) 17 (sc ((ρ 17 0 + 1)))) 22 (ug (ρ 22) (ρ 19 0) 0)) 18 (sc (1))) ++ cs) H := hP
                                have hD : va_D A (wM am ty τ (up (up (up (up (up (up ρ 20 (ug (ρ 20) (ρ 19 0) (ρ 17 0))) 21 (ug (ρ 21) (ρ 19 0) (u (ρ 17 0)))) 24 (ug (ρ 24) (ρ 19 0) 0)) 17 (sc ((ρ 17 0 + 1)))) 22 (ug (ρ 22) (ρ 19 0) 0)) 18 (sc (1))) ++ cs) := hD
                                refine lv_aload_n hx hb dX12_readStatement_264 rfl (lv_at hl 2 rfl) ?_
                                refine lv_dup hx hb dX12_readStatement_265 rfl ?_
                                refine va_get (D := G) (ci := 11) (v := .int (ii (ρ 19 0))) (C := RX12) (T := TX12) (N := 52) hx hb hts in_X12 hown hK hP 0 (aM_0 _ _ _ _ _) rfl 19 (by decide) (hts _ q1284) (fun _ h9 => h9) rfl dX12_readStatement_266 ?_
                                refine li_iconst hx hb dX12_readStatement_269 ?_
                                refine li_add hx hb dX12_readStatement_270 ?_
                                refine va_put (D := G) (ci := 11) (v := .int (ii (ρ 19 0 + 1))) (ty := .int) (C := RX12) (T := TX12) (N := 52) hx hb hts in_X12 tyX12 tyX12_ok nmX12 hown hK hP hD hS 0 (aM_0 _ _ _ _ _) rfl 19 (by decide) (hts _ q1284) (fun _ h9 => h9) rfl (tyX12_ok 19 (by decide)) rfl rfl (Nat.le_of_ble_eq_true rfl) dX12_readStatement_271 (fun H locs hP hD hS => ?_)
                                have hP : va_P G gcl (wM am ty τ (up (up (up (up (up (up (up ρ 20 (ug (ρ 20) (ρ 19 0) (ρ 17 0))) 21 (ug (ρ 21) (ρ 19 0) (u (ρ 17 0)))) 24 (ug (ρ 24) (ρ 19 0) 0)) 17 (sc ((ρ 17 0 + 1)))) 22 (ug (ρ 22) (ρ 19 0) 0)) 18 (sc (1))) 19 (sc (ρ 19 0 + 1))) ++ cs) H := hP
                                have hD : va_D A (wM am ty τ (up (up (up (up (up (up (up ρ 20 (ug (ρ 20) (ρ 19 0) (ρ 17 0))) 21 (ug (ρ 21) (ρ 19 0) (u (ρ 17 0)))) 24 (ug (ρ 24) (ρ 19 0) 0)) 17 (sc ((ρ 17 0 + 1)))) 22 (ug (ρ 22) (ρ 19 0) 0)) 18 (sc (1))) 19 (sc (ρ 19 0 + 1))) ++ cs) := hD
                                exact eMv hQ hx hb hr hlk hP hD hS (Nat.le_of_ble_eq_true rfl) (Nat.le_of_ble_eq_true rfl) dX12_readStatement_274 (⟨1, (ρ 17 0 + 1), (ug (ρ 22) (ρ 19 0) 0), (ρ 23), (ug (ρ 24) (ρ 19 0) 0), rfl, rfl, .inr ⟨by rw [stB_c (.inr c44)]; unfold cB; omega, rfl, by rw [stB_c (.inr c44)]; unfold cB; omega⟩, fun j q => ⟨by first | rw [ug_n q, ug_n q] | rw [ug_n q] | rfl, by first | rw [ug_n q, ug_n q] | rw [ug_n q] | rfl, by first | rw [ug_n q, ug_n q] | rw [ug_n q] | rfl⟩⟩)
                              · exact absurd c223 (by decide)
                            · exact absurd c181 (by decide)
                          · exact absurd c150 (by decide)
                      · exfalso
                        omega
                · exact absurd c109 (by decide)
              · exact absurd c88 (by decide)
            · refine li_iconst hx hb dX12_readStatement_47 ?_
              refine lv_goto (tgt := 52) hx hb dX12_readStatement_48 (by decide) ?_
              refine va_put (D := G) (ci := 11) (v := .int (ii 1)) (ty := .boolean) (C := RX12) (T := TX12) (N := 52) hx hb hts in_X12 tyX12 tyX12_ok nmX12 hown hK hP hD hS 0 (aM_0 _ _ _ _ _) rfl 18 (by decide) (hts _ q1283) (fun _ h9 => h9) rfl (tyX12_ok 18 (by decide)) (nrw_z (by omega)) (fit_z (by omega)) (Nat.le_of_ble_eq_true rfl) dX12_readStatement_52 (fun H locs hP hD hS => ?_)
              have hP : va_P G gcl (wM am ty τ (up ρ 18 (sc (1))) ++ cs) H := hP
              have hD : va_D A (wM am ty τ (up ρ 18 (sc (1))) ++ cs) := hD
              refine lv_aload_n hx hb dX12_readStatement_55 rfl (lv_at hl 2 rfl) ?_
              refine va_get (D := G) (ci := 11) (v := .ref (am 9)) (C := RX12) (T := TX12) (N := 52) hx hb hts in_X12 hown hK hP 0 (aM_0 _ _ _ _ _) rfl 20 (by decide) (hts _ q1285) (fun _ h9 => h9) rfl dX12_readStatement_56 ?_
              refine lv_iload_n hx hb dX12_readStatement_59 rfl (lv_at hl 0 rfl) ?_
              refine lv_aload_n hx hb dX12_readStatement_60 rfl (lv_at hl 2 rfl) ?_
              refine va_get (D := G) (ci := 11) (v := .int (ii (ρ 17 0))) (C := RX12) (T := TX12) (N := 52) hx hb hts in_X12 hown hK hP 0 (aM_0 _ _ _ _ _) rfl 17 (by decide) (hts _ q1282) (fun _ h9 => h9) rfl dX12_readStatement_61 ?_
              refine li_iast (g := (ρ 20)) (W2 := wM am ty τ (up (up ρ 18 (sc (1))) 20 (ug (ρ 20) (ρ 19 0) (ρ 17 0))) ++ cs) hx hb hK hP hD hS 9 0 (aM_9 _ _ _ _ _) rfl (by omega) (by omega) (by decide) rfl dX12_readStatement_64 (fun H locs hP hD hS => ?_)
              refine lv_aload_n hx hb dX12_readStatement_65 rfl (lv_at hl 2 rfl) ?_
              refine va_get (D := G) (ci := 11) (v := .ref (am 10)) (C := RX12) (T := TX12) (N := 52) hx hb hts in_X12 hown hK hP 0 (aM_0 _ _ _ _ _) rfl 21 (by decide) (hts _ q1286) (fun _ h9 => h9) rfl dX12_readStatement_66 ?_
              refine lv_iload_n hx hb dX12_readStatement_69 rfl (lv_at hl 0 rfl) ?_
              refine lv_iload_n hx hb dX12_readStatement_70 rfl (lv_at hl 1 rfl) ?_
              refine li_iast (g := (ρ 21)) (W2 := wM am ty τ (up (up (up ρ 18 (sc (1))) 20 (ug (ρ 20) (ρ 19 0) (ρ 17 0))) 21 (ug (ρ 21) (ρ 19 0) (u (ρ 17 0)))) ++ cs) hx hb hK hP hD hS 10 0 (aM_10 _ _ _ _ _) rfl (by omega) (by omega) (by decide) rfl dX12_readStatement_71 (fun H locs hP hD hS => ?_)
              refine lv_aload_n hx hb dX12_readStatement_72 rfl (lv_at hl 2 rfl) ?_
              refine va_get (D := G) (ci := 11) (v := .ref (am 13)) (C := RX12) (T := TX12) (N := 52) hx hb hts in_X12 hown hK hP 0 (aM_0 _ _ _ _ _) rfl 24 (by decide) (hts _ q1289) (fun _ h9 => h9) rfl dX12_readStatement_73 ?_
              refine lv_iload_n hx hb dX12_readStatement_76 rfl (lv_at hl 0 rfl) ?_
              refine li_iconst hx hb dX12_readStatement_77 ?_
              refine li_zast (g := (ρ 24)) (W2 := wM am ty τ (up (up (up (up ρ 18 (sc (1))) 20 (ug (ρ 20) (ρ 19 0) (ρ 17 0))) 21 (ug (ρ 21) (ρ 19 0) (u (ρ 17 0)))) 24 (ug (ρ 24) (ρ 19 0) 0)) ++ cs) hx hb hK hP hD hS 13 1 (aM_13 _ _ _ _ _) rfl (by omega) (by omega) (by decide) (by omega) rfl dX12_readStatement_78 (fun H locs hP hD hS => ?_)
              refine lv_aload_n hx hb dX12_readStatement_79 rfl (lv_at hl 2 rfl) ?_
              refine lv_dup hx hb dX12_readStatement_80 rfl ?_
              refine va_get (D := G) (ci := 11) (v := .int (ii (ρ 17 0))) (C := RX12) (T := TX12) (N := 52) hx hb hts in_X12 hown hK hP 0 (aM_0 _ _ _ _ _) rfl 17 (by decide) (hts _ q1282) (fun _ h9 => h9) rfl dX12_readStatement_81 ?_
              refine lv_aload_n hx hb dX12_readStatement_84 rfl (lv_at hl 2 rfl) ?_
              refine va_get (D := G) (ci := 11) (v := .int (ii 1)) (C := RX12) (T := TX12) (N := 52) hx hb hts in_X12 hown hK hP 0 (aM_0 _ _ _ _ _) rfl 18 (by decide) (hts _ q1283) (fun _ h9 => h9) rfl dX12_readStatement_85 ?_
              refine li_if_eq (tgt := 95) hx hb ⟨by decide, by decide⟩ dX12_readStatement_88 (by decide) (fun c88 => ?_) (fun c88 => ?_)
              · exact absurd c88 (by decide)
              · refine li_iconst hx hb dX12_readStatement_91 ?_
                refine lv_goto (tgt := 96) hx hb dX12_readStatement_92 (by decide) ?_
                refine li_add hx hb dX12_readStatement_96 ?_
                refine va_put (D := G) (ci := 11) (v := .int (ii (ρ 17 0 + 0))) (ty := .int) (C := RX12) (T := TX12) (N := 52) hx hb hts in_X12 tyX12 tyX12_ok nmX12 hown hK hP hD hS 0 (aM_0 _ _ _ _ _) rfl 17 (by decide) (hts _ q1282) (fun _ h9 => h9) rfl (tyX12_ok 17 (by decide)) rfl rfl (Nat.le_of_ble_eq_true rfl) dX12_readStatement_97 (fun H locs hP hD hS => ?_)
                have hP : va_P G gcl (wM am ty τ (up (up (up (up (up ρ 18 (sc (1))) 20 (ug (ρ 20) (ρ 19 0) (ρ 17 0))) 21 (ug (ρ 21) (ρ 19 0) (u (ρ 17 0)))) 24 (ug (ρ 24) (ρ 19 0) 0)) 17 (sc (ρ 17 0 + 0))) ++ cs) H := hP
                have hD : va_D A (wM am ty τ (up (up (up (up (up ρ 18 (sc (1))) 20 (ug (ρ 20) (ρ 19 0) (ρ 17 0))) 21 (ug (ρ 21) (ρ 19 0) (u (ρ 17 0)))) 24 (ug (ρ 24) (ρ 19 0) 0)) 17 (sc (ρ 17 0 + 0))) ++ cs) := hD
                refine lv_aload_n hx hb dX12_readStatement_100 rfl (lv_at hl 2 rfl) ?_
                refine va_get (D := G) (ci := 11) (v := .ref (am 11)) (C := RX12) (T := TX12) (N := 52) hx hb hts in_X12 hown hK hP 0 (aM_0 _ _ _ _ _) rfl 22 (by decide) (hts _ q1287) (fun _ h9 => h9) rfl dX12_readStatement_101 ?_
                refine lv_iload_n hx hb dX12_readStatement_104 rfl (lv_at hl 0 rfl) ?_
                refine lv_aload_n hx hb dX12_readStatement_105 rfl (lv_at hl 2 rfl) ?_
                refine va_get (D := G) (ci := 11) (v := .int (ii 1)) (C := RX12) (T := TX12) (N := 52) hx hb hts in_X12 hown hK hP 0 (aM_0 _ _ _ _ _) rfl 18 (by decide) (hts _ q1283) (fun _ h9 => h9) rfl dX12_readStatement_106 ?_
                refine li_if_eq (tgt := 116) hx hb ⟨by decide, by decide⟩ dX12_readStatement_109 (by decide) (fun c109 => ?_) (fun c109 => ?_)
                · exact absurd c109 (by decide)
                · refine li_iconst hx hb dX12_readStatement_112 ?_
                  refine lv_goto (tgt := 145) hx hb dX12_readStatement_113 (by decide) ?_
                  refine li_iast (g := (ρ 22)) (W2 := wM am ty τ (up (up (up (up (up (up ρ 18 (sc (1))) 20 (ug (ρ 20) (ρ 19 0) (ρ 17 0))) 21 (ug (ρ 21) (ρ 19 0) (u (ρ 17 0)))) 24 (ug (ρ 24) (ρ 19 0) 0)) 17 (sc (ρ 17 0 + 0))) 22 (ug (ρ 22) (ρ 19 0) 0)) ++ cs) hx hb hK hP hD hS 11 0 (aM_11 _ _ _ _ _) rfl (by omega) (by omega) (by decide) rfl dX12_readStatement_145 (fun H locs hP hD hS => ?_)
                  refine lv_aload_n hx hb dX12_readStatement_146 rfl (lv_at hl 2 rfl) ?_
                  refine va_get (D := G) (ci := 11) (v := .int (ii 1)) (C := RX12) (T := TX12) (N := 52) hx hb hts in_X12 hown hK hP 0 (aM_0 _ _ _ _ _) rfl 18 (by decide) (hts _ q1283) (fun _ h9 => h9) rfl dX12_readStatement_147 ?_
                  refine li_if_ne (tgt := 177) hx hb ⟨by decide, by decide⟩ dX12_readStatement_150 (by decide) (fun c150 => ?_) (fun c150 => ?_)
                  · refine lv_aload_n hx hb dX12_readStatement_177 rfl (lv_at hl 2 rfl) ?_
                    refine va_get (D := G) (ci := 11) (v := .int (ii 1)) (C := RX12) (T := TX12) (N := 52) hx hb hts in_X12 hown hK hP 0 (aM_0 _ _ _ _ _) rfl 18 (by decide) (hts _ q1283) (fun _ h9 => h9) rfl dX12_readStatement_178 ?_
                    refine li_if_ne (tgt := 219) hx hb ⟨by decide, by decide⟩ dX12_readStatement_181 (by decide) (fun c181 => ?_) (fun c181 => ?_)
                    · refine lv_aload_n hx hb dX12_readStatement_219 rfl (lv_at hl 2 rfl) ?_
                      refine va_get (D := G) (ci := 11) (v := .int (ii 1)) (C := RX12) (T := TX12) (N := 52) hx hb hts in_X12 hown hK hP 0 (aM_0 _ _ _ _ _) rfl 18 (by decide) (hts _ q1283) (fun _ h9 => h9) rfl dX12_readStatement_220 ?_
                      refine li_if_ne (tgt := 258) hx hb ⟨by decide, by decide⟩ dX12_readStatement_223 (by decide) (fun c223 => ?_) (fun c223 => ?_)
                      · refine lv_aload_n hx hb dX12_readStatement_258 rfl (lv_at hl 2 rfl) ?_
                        refine li_bipush hx hb dX12_readStatement_259 (by decide) ?_
                        refine kM (va_runV (As := [.int (ii 59)]) (rest := []) ⟨hx, hb, hml, hown, hts⟩ ((m_takeM1 l G am ty τ (up (up (up (up (up (up ρ 18 (sc (1))) 20 (ug (ρ 20) (ρ 19 0) (ρ 17 0))) 21 (ug (ρ 21) (ρ 19 0) (u (ρ 17 0)))) 24 (ug (ρ 24) (ρ 19 0) 0)) 17 (sc (ρ 17 0 + 0))) 22 (ug (ρ 22) (ρ 19 0) 0)) cs 59 (show 1 = 1 from rfl)) H.size) (cwV 1 hts (lw_V q1457 q1459 qs42 q87 q1460) rfl rfl rfl (by decide +kernel) ⟨Nat.le_of_ble_eq_true rfl, Nat.le_of_ble_eq_true rfl⟩) (pvM (r := (RX12, TX12, 52)) hK hP hD hX 0 (aM_0 _ _ _ _ _) rfl) rfl rfl hl.1 rfl (lv_room (Nat.le_of_ble_eq_true rfl)) dX12_readStatement_261 ⟨Nat.le_of_ble_eq_true rfl, Nat.le_of_ble_eq_true rfl⟩) hD hS hA (fun v ws1 H locs hv hP hD hS => ?_)
                        obtain ⟨rfl, rfl⟩ := hv
                        have hP : va_P G gcl (wM am ty τ (up (up (up (up (up (up ρ 20 (ug (ρ 20) (ρ 19 0) (ρ 17 0))) 21 (ug (ρ 21) (ρ 19 0) (u (ρ 17 0)))) 24 (ug (ρ 24) (ρ 19 0) 0)) 17 (sc (ρ 17 0 + 0))) 22 (ug (ρ 22) (ρ 19 0) 0)) 18 (sc (1))) ++ cs) H := hP
                        have hD : va_D A (wM am ty τ (up (up (up (up (up (up ρ 20 (ug (ρ 20) (ρ 19 0) (ρ 17 0))) 21 (ug (ρ 21) (ρ 19 0) (u (ρ 17 0)))) 24 (ug (ρ 24) (ρ 19 0) 0)) 17 (sc (ρ 17 0 + 0))) 22 (ug (ρ 22) (ρ 19 0) 0)) 18 (sc (1))) ++ cs) := hD
                        refine lv_aload_n hx hb dX12_readStatement_264 rfl (lv_at hl 2 rfl) ?_
                        refine lv_dup hx hb dX12_readStatement_265 rfl ?_
                        refine va_get (D := G) (ci := 11) (v := .int (ii (ρ 19 0))) (C := RX12) (T := TX12) (N := 52) hx hb hts in_X12 hown hK hP 0 (aM_0 _ _ _ _ _) rfl 19 (by decide) (hts _ q1284) (fun _ h9 => h9) rfl dX12_readStatement_266 ?_
                        refine li_iconst hx hb dX12_readStatement_269 ?_
                        refine li_add hx hb dX12_readStatement_270 ?_
                        refine va_put (D := G) (ci := 11) (v := .int (ii (ρ 19 0 + 1))) (ty := .int) (C := RX12) (T := TX12) (N := 52) hx hb hts in_X12 tyX12 tyX12_ok nmX12 hown hK hP hD hS 0 (aM_0 _ _ _ _ _) rfl 19 (by decide) (hts _ q1284) (fun _ h9 => h9) rfl (tyX12_ok 19 (by decide)) rfl rfl (Nat.le_of_ble_eq_true rfl) dX12_readStatement_271 (fun H locs hP hD hS => ?_)
                        have hP : va_P G gcl (wM am ty τ (up (up (up (up (up (up (up ρ 20 (ug (ρ 20) (ρ 19 0) (ρ 17 0))) 21 (ug (ρ 21) (ρ 19 0) (u (ρ 17 0)))) 24 (ug (ρ 24) (ρ 19 0) 0)) 17 (sc (ρ 17 0 + 0))) 22 (ug (ρ 22) (ρ 19 0) 0)) 18 (sc (1))) 19 (sc (ρ 19 0 + 1))) ++ cs) H := hP
                        have hD : va_D A (wM am ty τ (up (up (up (up (up (up (up ρ 20 (ug (ρ 20) (ρ 19 0) (ρ 17 0))) 21 (ug (ρ 21) (ρ 19 0) (u (ρ 17 0)))) 24 (ug (ρ 24) (ρ 19 0) 0)) 17 (sc (ρ 17 0 + 0))) 22 (ug (ρ 22) (ρ 19 0) 0)) 18 (sc (1))) 19 (sc (ρ 19 0 + 1))) ++ cs) := hD
                        exact eMv hQ hx hb hr hlk hP hD hS (Nat.le_of_ble_eq_true rfl) (Nat.le_of_ble_eq_true rfl) dX12_readStatement_274 (⟨1, ρ 17 0 + 0, (ug (ρ 22) (ρ 19 0) 0), (ρ 23), (ug (ρ 24) (ρ 19 0) 0), rfl, rfl, .inr ⟨by rw [stB_o ⟨c14, c20, c26, c32, c38, c44⟩]; omega, rfl, by rw [stB_o ⟨c14, c20, c26, c32, c38, c44⟩]; omega⟩, fun j q => ⟨by first | rw [ug_n q, ug_n q] | rw [ug_n q] | rfl, by first | rw [ug_n q, ug_n q] | rw [ug_n q] | rfl, by first | rw [ug_n q, ug_n q] | rw [ug_n q] | rfl⟩⟩)
                      · exact absurd c223 (by decide)
                    · exact absurd c181 (by decide)
                  · exact absurd c150 (by decide)
