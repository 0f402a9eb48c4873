/-! simple calls, both sides (written by gen/s1.py) -/
set_option maxRecDepth 100000
def ledV (F : mem) (l w : Int) : Int := if 0 ≤ l ∧ l < F 8 0 then (if w = 0 then F 0 l else if w = 1 then F 1 l else if w = 2 then (if l = F 8 0 - 1 then -4 else F 2 l) else if w = 3 then F 3 l else -1) else -1
theorem Sim_hold {F τ : mem} {l n : Int} (h : Sim F τ) : Sim (up F 1 (ug (F 1) l n)) (up τ 2 (ug (τ 2) l n)) := by
  obtain ⟨a, b, c, d, e, f, g, i, j⟩ := h
  exact ⟨a, b, c, d, e, f, fun x x0 x1 => ⟨(g x x0 x1).1, ug_eq (g x x0 x1).2.1, (g x x0 x1).2.2⟩, i, j⟩
theorem Sim_set {F τ : mem} {c d : Int} (h : Sim F τ) : Sim (up (up F 11 (sc c)) 12 (sc d)) (up (up τ 11 (sc c)) 12 (sc d)) := by
  obtain ⟨a1, b, c1, -, -, f, g, i, j⟩ := h
  exact ⟨a1, b, c1, rfl, rfl, f, g, i, j⟩
set_option maxHeartbeats 4000000 in
theorem m_ledge (l : Launch) (G : va_G) (ad : Nat → Nat) (ty : Nat → ClassId) (hv : Nat → Option Nat) (σ ς κ : mem) (cs : va_W) (l1 : Int) (w1 : Int)  (hF : okF σ) (hl1 : rg l1) (hw1_ : rg w1) : cR l yX1_ledge (ws_ yX1_ledge cX1_ledge 3 (some .int)) (rm4 1 0 0 21) G ty (wD ad ty hv σ ς κ ++ cs) [.ref (ad 0), .int (ii l1), .int (ii w1)] (fun r => ∃ (z : Int), r = some (.int (ii z)) ∧ (z = ledV σ l1 w1)) := by
  refine cR.of (by decide) (Nat.le_of_ble_eq_true rfl) ?_
  intro p e s m args below meth c Q hQ hx hb hr hml hown hlk hts hK hP hD hX ls hl
  have hl : lv_has ls 3 [(0, .ref (ad 0)), (1, .int (ii l1)), (2, .int (ii w1))] := hl
  obtain ⟨hW, hWS, hlg⟩ := id hF
  obtain ⟨hw0, hw1, hw2, hw3, hw4, hw5, h8a, h8b, h9a, h9b, h10a, h10b⟩ := id hW
  obtain ⟨hs0, hs1⟩ := id hWS
  obtain ⟨hl1a, hl1b⟩ := id hl1
  obtain ⟨hw1_a, hw1_b⟩ := id hw1_
  refine lv_aload_n hx hb dX1_ledge_0 rfl (lv_at hl 0 rfl) ?_
  refine va_get (D := G) (ci := 0) (v := .ref (ad 1)) (C := RX1) (T := TX1) (N := 21) hx hb hts in_X1 hown hK hP 0 (aD_0 _ _ _ _ _ _ _) rfl 0 (by decide) (hts _ q977) (fun _ h9 => h9) rfl dX1_ledge_1 ?_
  refine lv_iload_n hx hb dX1_ledge_4 rfl (lv_at hl 1 rfl) ?_
  refine kR (va_runV (As := [.int (ii l1)]) (rest := []) ⟨hx, hb, hml, hown, hts⟩ (m_isLedge l G ty (wD ad ty hv σ ς κ ++ cs) (fun k => 1 + k) (fun k => ad (1 + k)) σ l1 ⟨rfl, rfl, rfl, rfl, rfl, rfl, rfl⟩ (hW) hl1) (cwV 1 hts (lw_V q308 q309 q310 q77 q311) rfl rfl rfl (by decide +kernel) ⟨Nat.le_of_ble_eq_true rfl, Nat.le_of_ble_eq_true rfl⟩) (pvR (r := (RX2, TX2, 13)) hK hP hD hX 1 (aD_1 _ _ _ _ _ _ _) rfl) rfl rfl hl.1 rfl (lv_room (Nat.le_of_ble_eq_true rfl)) dX1_ledge_5 ⟨Nat.le_of_ble_eq_true rfl, Nat.le_of_ble_eq_true rfl⟩) (fun v hv => ?_)
  obtain ⟨z5, rfl, ⟨rfl, h5⟩ | ⟨rfl, h5⟩⟩ := hv
  · refine li_if_ne (tgt := 13) hx hb ⟨by decide, by decide⟩ dX1_ledge_8 (by decide) (fun c8 => ?_) (fun c8 => ?_)
    · refine lv_iload_n hx hb dX1_ledge_13 rfl (lv_at hl 2 rfl) ?_
      rcases (show w1 = 0 ∨ w1 = 1 ∨ w1 = 2 ∨ w1 = 3 ∨ (w1 < 0 ∨ 3 < w1) by omega) with c14 | c14 | c14 | c14 | c14
      · refine lv_tableIn (off := 30) (tgt := 44) hx hb dX1_ledge_14 (by rw [ii_t hw1_]; omega) (by rw [ii_t hw1_]; omega) (by rw [ii_t hw1_, c14]; rfl) (by decide) ?_
        refine lv_aload_n hx hb dX1_ledge_44 rfl (lv_at hl 0 rfl) ?_
        refine va_get (D := G) (ci := 0) (v := .ref (ad 1)) (C := RX1) (T := TX1) (N := 21) hx hb hts in_X1 hown hK hP 0 (aD_0 _ _ _ _ _ _ _) rfl 0 (by decide) (hts _ q977) (fun _ h9 => h9) rfl dX1_ledge_45 ?_
        refine va_get (D := G) (ci := 1) (v := .ref (ad 2)) (C := RX2) (T := TX2) (N := 13) hx hb hts in_X2 hown hK hP 1 (aD_1 _ _ _ _ _ _ _) rfl 0 (by decide) (hts _ q773) (fun _ h9 => h9) rfl dX1_ledge_48 ?_
        refine lv_iload_n hx hb dX1_ledge_51 rfl (lv_at hl 1 rfl) ?_
        refine li_iald (g := (σ 0)) hx hb hK hP 2 0 (aD_2 _ _ _ _ _ _ _) rfl (by omega) (by omega) (by decide) dX1_ledge_52 ?_
        have r53 := hw0 l1
        exact eRi hQ hx hb hr hlk dX1_ledge_53 (⟨σ 0 l1, rfl, by unfold ledV; omega⟩)
      · refine lv_tableIn (off := 40) (tgt := 54) hx hb dX1_ledge_14 (by rw [ii_t hw1_]; omega) (by rw [ii_t hw1_]; omega) (by rw [ii_t hw1_, c14]; rfl) (by decide) ?_
        refine lv_aload_n hx hb dX1_ledge_54 rfl (lv_at hl 0 rfl) ?_
        refine va_get (D := G) (ci := 0) (v := .ref (ad 1)) (C := RX1) (T := TX1) (N := 21) hx hb hts in_X1 hown hK hP 0 (aD_0 _ _ _ _ _ _ _) rfl 0 (by decide) (hts _ q977) (fun _ h9 => h9) rfl dX1_ledge_55 ?_
        refine va_get (D := G) (ci := 1) (v := .ref (ad 3)) (C := RX2) (T := TX2) (N := 13) hx hb hts in_X2 hown hK hP 1 (aD_1 _ _ _ _ _ _ _) rfl 1 (by decide) (hts _ q777) (fun _ h9 => h9) rfl dX1_ledge_58 ?_
        refine lv_iload_n hx hb dX1_ledge_61 rfl (lv_at hl 1 rfl) ?_
        refine li_iald (g := (σ 1)) hx hb hK hP 3 0 (aD_3 _ _ _ _ _ _ _) rfl (by omega) (by omega) (by decide) dX1_ledge_62 ?_
        have r63 := hw1 l1
        exact eRi hQ hx hb hr hlk dX1_ledge_63 (⟨σ 1 l1, rfl, by unfold ledV; omega⟩)
      · refine lv_tableIn (off := 50) (tgt := 64) hx hb dX1_ledge_14 (by rw [ii_t hw1_]; omega) (by rw [ii_t hw1_]; omega) (by rw [ii_t hw1_, c14]; rfl) (by decide) ?_
        refine lv_iload_n hx hb dX1_ledge_64 rfl (lv_at hl 1 rfl) ?_
        refine lv_aload_n hx hb dX1_ledge_65 rfl (lv_at hl 0 rfl) ?_
        refine va_get (D := G) (ci := 0) (v := .ref (ad 1)) (C := RX1) (T := TX1) (N := 21) hx hb hts in_X1 hown hK hP 0 (aD_0 _ _ _ _ _ _ _) rfl 0 (by decide) (hts _ q977) (fun _ h9 => h9) rfl dX1_ledge_66 ?_
        refine kR (va_runV (As := []) (rest := [.int (ii l1)]) ⟨hx, hb, hml, hown, hts⟩ (m_ground l G ty (wD ad ty hv σ ς κ ++ cs) (fun k => 1 + k) (fun k => ad (1 + k)) σ  ⟨rfl, rfl, rfl, rfl, rfl, rfl, rfl⟩ (hW)) (cwV 0 hts (lw_V q329 q330 q331 q77 q332) rfl rfl rfl (by decide +kernel) ⟨Nat.le_of_ble_eq_true rfl, Nat.le_of_ble_eq_true rfl⟩) (pvR (r := (RX2, TX2, 13)) hK hP hD hX 1 (aD_1 _ _ _ _ _ _ _) rfl) rfl rfl hl.1 rfl (lv_room (Nat.le_of_ble_eq_true rfl)) dX1_ledge_69 ⟨Nat.le_of_ble_eq_true rfl, Nat.le_of_ble_eq_true rfl⟩) (fun v hv => ?_)
        obtain ⟨z69, rfl, h69⟩ := hv
        refine li_icmp_ne (tgt := 80) hx hb hl1 ⟨by omega, by omega⟩ dX1_ledge_72 (by decide) (fun c72 => ?_) (fun c72 => ?_)
        · refine lv_aload_n hx hb dX1_ledge_80 rfl (lv_at hl 0 rfl) ?_
          refine va_get (D := G) (ci := 0) (v := .ref (ad 1)) (C := RX1) (T := TX1) (N := 21) hx hb hts in_X1 hown hK hP 0 (aD_0 _ _ _ _ _ _ _) rfl 0 (by decide) (hts _ q977) (fun _ h9 => h9) rfl dX1_ledge_81 ?_
          refine va_get (D := G) (ci := 1) (v := .ref (ad 4)) (C := RX2) (T := TX2) (N := 13) hx hb hts in_X2 hown hK hP 1 (aD_1 _ _ _ _ _ _ _) rfl 2 (by decide) (hts _ q780) (fun _ h9 => h9) rfl dX1_ledge_84 ?_
          refine lv_iload_n hx hb dX1_ledge_87 rfl (lv_at hl 1 rfl) ?_
          refine li_iald (g := (σ 2)) hx hb hK hP 4 0 (aD_4 _ _ _ _ _ _ _) rfl (by omega) (by omega) (by decide) dX1_ledge_88 ?_
          have r89 := hw2 l1
          exact eRi hQ hx hb hr hlk dX1_ledge_89 (⟨σ 2 l1, rfl, by unfold ledV; omega⟩)
        · refine li_bipush hx hb dX1_ledge_75 (by decide) ?_
          refine lv_goto (tgt := 89) hx hb dX1_ledge_77 (by decide) ?_
          exact eRi hQ hx hb hr hlk dX1_ledge_89 (⟨-4, rfl, by unfold ledV; omega⟩)
      · refine lv_tableIn (off := 76) (tgt := 90) hx hb dX1_ledge_14 (by rw [ii_t hw1_]; omega) (by rw [ii_t hw1_]; omega) (by rw [ii_t hw1_, c14]; rfl) (by decide) ?_
        refine lv_aload_n hx hb dX1_ledge_90 rfl (lv_at hl 0 rfl) ?_
        refine va_get (D := G) (ci := 0) (v := .ref (ad 1)) (C := RX1) (T := TX1) (N := 21) hx hb hts in_X1 hown hK hP 0 (aD_0 _ _ _ _ _ _ _) rfl 0 (by decide) (hts _ q977) (fun _ h9 => h9) rfl dX1_ledge_91 ?_
        refine va_get (D := G) (ci := 1) (v := .ref (ad 5)) (C := RX2) (T := TX2) (N := 13) hx hb hts in_X2 hown hK hP 1 (aD_1 _ _ _ _ _ _ _) rfl 3 (by decide) (hts _ q783) (fun _ h9 => h9) rfl dX1_ledge_94 ?_
        refine lv_iload_n hx hb dX1_ledge_97 rfl (lv_at hl 1 rfl) ?_
        refine li_zald (g := (σ 3)) hx hb hK hP 5 1 (aD_5 _ _ _ _ _ _ _) rfl (by omega) (by omega) (by decide) dX1_ledge_98 ?_
        have r99 := hw3 l1
        refine li_if_eq (tgt := 106) hx hb (rgi r99.1 r99.2) dX1_ledge_99 (by decide) (fun c99 => ?_) (fun c99 => ?_)
        · refine li_iconst hx hb dX1_ledge_106 ?_
          exact eRi hQ hx hb hr hlk dX1_ledge_107 (⟨0, rfl, by unfold ledV; omega⟩)
        · refine li_iconst hx hb dX1_ledge_102 ?_
          refine lv_goto (tgt := 107) hx hb dX1_ledge_103 (by decide) ?_
          exact eRi hQ hx hb hr hlk dX1_ledge_107 (⟨1, rfl, by unfold ledV; omega⟩)
      · refine lv_tableOut (tgt := 108) hx hb dX1_ledge_14 (by rw [ii_t hw1_]; omega) (by decide) ?_
        refine li_iconst hx hb dX1_ledge_108 ?_
        exact eRi hQ hx hb hr hlk dX1_ledge_109 (⟨-1, rfl, by unfold ledV; omega⟩)
    · exact absurd c8 (by decide)
  · refine li_if_ne (tgt := 13) hx hb ⟨by decide, by decide⟩ dX1_ledge_8 (by decide) (fun c8 => ?_) (fun c8 => ?_)
    · exact absurd c8 (by decide)
    · refine li_iconst hx hb dX1_ledge_11 ?_
      exact eRi hQ hx hb hr hlk dX1_ledge_12 (⟨-1, rfl, by unfold ledV; omega⟩)
set_option maxHeartbeats 4000000 in
theorem m_ledgeM (l : Launch) (G : va_G) (am : Nat → Nat) (ty : Nat → ClassId) (τ ρ : mem) (cs : va_W) (l1 : Int) (w1 : Int) (F : mem) (hF : okF F) (hSm : Sim F τ) (hl1 : rg l1) (hw1_ : rg w1) : cM l yX12_ledge (ws_ yX12_ledge cX12_ledge 3 (some .int)) (rm4 2 0 0 46) G ty (wM am ty τ ρ ++ cs) [.ref (am 0), .int (ii l1), .int (ii w1)] 0 0 (fun r W' => ∃ (z : Int), r = some (.int (ii z)) ∧ W' = wM am ty τ (up ρ 14 (sc (0))) ++ cs ∧ (z = ledV F l1 w1)) := by
  refine cM.of (by decide) (Nat.le_of_ble_eq_true rfl) ?_
  intro p e s m args below meth c A Q H locs hQ hx hb hr hml hown hlk hname hts hK hP hD hS hA hX ls hl
  have hl : lv_has ls 3 [(0, .ref (am 0)), (1, .int (ii l1)), (2, .int (ii w1))] := hl
  obtain ⟨hW, hWS, hlg⟩ := id hF
  obtain ⟨hw0, hw1, hw2, hw3, hw4, hw5, h8a, h8b, h9a, h9b, h10a, h10b⟩ := id hW
  obtain ⟨mL, mP, mR, mC, mK, mM, mA, mB, mD⟩ := id hSm
  obtain ⟨hl1a, hl1b⟩ := id hl1
  obtain ⟨hw1_a, hw1_b⟩ := id hw1_
  refine lv_aload_n hx hb dX12_ledge_0 rfl (lv_at hl 0 rfl) ?_
  refine li_iconst hx hb dX12_ledge_1 ?_
  refine va_put (D := G) (ci := 11) (v := .int (ii 0)) (ty := .int) (C := RX12) (T := TX12) (N := 52) hx hb hts in_X12 tyX12 tyX12_ok nmX12 hown hK hP hD hS 0 (aM_0 _ _ _ _ _) rfl 14 (by decide) (hts _ q1279) (fun _ h9 => h9) rfl (tyX12_ok 14 (by decide)) rfl rfl (Nat.le_of_ble_eq_true rfl) dX12_ledge_2 (fun H locs hP hD hS => ?_)
  have hP : va_P G gcl (wM am ty τ (up ρ 14 (sc (0))) ++ cs) H := hP
  have hD : va_D A (wM am ty τ (up ρ 14 (sc (0))) ++ cs) := hD
  refine lv_aload_n hx hb dX12_ledge_5 rfl (lv_at hl 0 rfl) ?_
  refine lv_iload_n hx hb dX12_ledge_6 rfl (lv_at hl 1 rfl) ?_
  refine kR (va_runV (As := [.int (ii l1)]) (rest := []) ⟨hx, hb, hml, hown, hts⟩ (m_isLedgeM l G am ty τ (up ρ 14 (sc (0))) cs l1 _ (show okF F from hF) (show Sim F τ from hSm) (show rg l1 from hl1)) (cwV 1 hts (lw_V q1465 q1467 qs44 q87 q1468) rfl rfl rfl (by decide +kernel) ⟨Nat.le_of_ble_eq_true rfl, Nat.le_of_ble_eq_true rfl⟩) (pvR (r := (RX12, TX12, 52)) hK hP hD hX 0 (aM_0 _ _ _ _ _) rfl) rfl rfl hl.1 rfl (lv_room (Nat.le_of_ble_eq_true rfl)) dX12_ledge_7 ⟨Nat.le_of_ble_eq_true rfl, Nat.le_of_ble_eq_true rfl⟩) (fun v hv => ?_)
  obtain ⟨z7, rfl, ⟨rfl, hb7⟩ | ⟨rfl, hb7⟩⟩ := hv
  · have hb7 : 0 ≤ l1 ∧ l1 < F 8 0 := hb7
    refine li_if_eq (tgt := 25) hx hb ⟨by decide, by decide⟩ dX12_ledge_10 (by decide) (fun c10 => ?_) (fun c10 => ?_)
    · exact absurd c10 (by decide)
    · refine lv_iload_n hx hb dX12_ledge_13 rfl (lv_at hl 2 rfl) ?_
      refine lv_i2l (v := ll w1) hx hb dX12_ledge_14 (ll_i hw1_) ?_
      refine lv_lconst (v := ll 0) hx hb dX12_ledge_15 (by decide) ?_
      refine lv_ldc2 (v := ll 3) hx hb hown (hts _ q1476) dX12_ledge_16 ?_
      refine kR (va_runS (As := [.long (ll (w1)), .long (ll (0)), .long (ll (3))]) (rest := []) ⟨hx, hb, hml, hown, hts⟩ (m_inM l G ty (wM am ty τ (up ρ 14 (sc (0))) ++ cs) w1 0 3 (rg_rl hw1_) ⟨by decide, by decide⟩ ⟨by decide, by decide⟩) (va_cwS 3 hts (lw_S q1436 q1437 q87 q1438) rfl rfl rfl (by decide +kernel) ⟨Nat.le_of_ble_eq_true rfl, Nat.le_of_ble_eq_true rfl⟩) (psR hK hP hD hX) rfl rfl hl.1 rfl (lv_room (Nat.le_of_ble_eq_true rfl)) dX12_ledge_19 ⟨Nat.le_of_ble_eq_true rfl, Nat.le_of_ble_eq_true rfl⟩) (fun v hv => ?_)
      obtain ⟨z19, rfl, ⟨rfl, h19⟩ | ⟨rfl, h19⟩⟩ := hv
      · refine li_if_ne (tgt := 27) hx hb ⟨by decide, by decide⟩ dX12_ledge_22 (by decide) (fun c22 => ?_) (fun c22 => ?_)
        · have hA := mA l1 (by omega) (by omega)
          have hw3l := hw3 l1
          refine lv_iload_n hx hb dX12_ledge_27 rfl (lv_at hl 2 rfl) ?_
          refine li_if_ne (tgt := 40) hx hb hw1_ dX12_ledge_28 (by decide) (fun c28 => ?_) (fun c28 => ?_)
          · refine lv_iload_n hx hb dX12_ledge_40 rfl (lv_at hl 2 rfl) ?_
            refine li_iconst hx hb dX12_ledge_41 ?_
            refine li_icmp_ne (tgt := 54) hx hb hw1_ ⟨by decide, by decide⟩ dX12_ledge_42 (by decide) (fun c42 => ?_) (fun c42 => ?_)
            · refine lv_iload_n hx hb dX12_ledge_54 rfl (lv_at hl 2 rfl) ?_
              refine li_iconst hx hb dX12_ledge_55 ?_
              refine li_icmp_ne (tgt := 76) hx hb hw1_ ⟨by decide, by decide⟩ dX12_ledge_56 (by decide) (fun c56 => ?_) (fun c56 => ?_)
              · refine lv_iload_n hx hb dX12_ledge_76 rfl (lv_at hl 1 rfl) ?_
                refine lv_aload_n hx hb dX12_ledge_77 rfl (lv_at hl 0 rfl) ?_
                refine va_get (D := G) (ci := 11) (v := .int (ii (τ 0 0))) (C := RX12) (T := TX12) (N := 52) hx hb hts in_X12 hown hK hP 0 (aM_0 _ _ _ _ _) rfl 0 (by decide) (hts _ q1265) (fun _ h9 => h9) rfl dX12_ledge_78 ?_
                refine li_iconst hx hb dX12_ledge_81 ?_
                refine li_sub hx hb dX12_ledge_82 ?_
                refine li_icmp_ne (tgt := 91) hx hb hl1 ⟨by omega, by omega⟩ dX12_ledge_83 (by decide) (fun c83 => ?_) (fun c83 => ?_)
                · refine lv_aload_n hx hb dX12_ledge_91 rfl (lv_at hl 0 rfl) ?_
                  refine va_get (D := G) (ci := 11) (v := .ref (am 3)) (C := RX12) (T := TX12) (N := 52) hx hb hts in_X12 hown hK hP 0 (aM_0 _ _ _ _ _) rfl 3 (by decide) (hts _ q1268) (fun _ h9 => h9) rfl dX12_ledge_92 ?_
                  refine lv_iload_n hx hb dX12_ledge_95 rfl (lv_at hl 1 rfl) ?_
                  refine li_iald (g := (τ 3)) hx hb hK hP 3 0 (aM_3 _ _ _ _ _) rfl (by omega) (by omega) (by decide) dX12_ledge_96 ?_
                  exact eMi hQ hx hb hr hlk hP hD hS (Nat.le_of_ble_eq_true rfl) (Nat.le_of_ble_eq_true rfl) dX12_ledge_97 (⟨τ 3 l1, rfl, rfl, by unfold ledV; omega⟩)
                · refine li_bipush hx hb dX12_ledge_86 (by decide) ?_
                  refine lv_goto (tgt := 97) hx hb dX12_ledge_88 (by decide) ?_
                  exact eMi hQ hx hb hr hlk hP hD hS (Nat.le_of_ble_eq_true rfl) (Nat.le_of_ble_eq_true rfl) dX12_ledge_97 (⟨-4, rfl, rfl, by unfold ledV; omega⟩)
              · refine lv_aload_n hx hb dX12_ledge_59 rfl (lv_at hl 0 rfl) ?_
                refine va_get (D := G) (ci := 11) (v := .ref (am 4)) (C := RX12) (T := TX12) (N := 52) hx hb hts in_X12 hown hK hP 0 (aM_0 _ _ _ _ _) rfl 4 (by decide) (hts _ q1269) (fun _ h9 => h9) rfl dX12_ledge_60 ?_
                refine lv_iload_n hx hb dX12_ledge_63 rfl (lv_at hl 1 rfl) ?_
                refine li_zald (g := (τ 4)) hx hb hK hP 4 1 (aM_4 _ _ _ _ _) rfl (by omega) (by omega) (by decide) dX12_ledge_64 ?_
                refine li_if_eq (tgt := 72) hx hb ⟨by omega, by omega⟩ dX12_ledge_65 (by decide) (fun c65 => ?_) (fun c65 => ?_)
                · refine li_iconst hx hb dX12_ledge_72 ?_
                  refine lv_goto (tgt := 97) hx hb dX12_ledge_73 (by decide) ?_
                  exact eMi hQ hx hb hr hlk hP hD hS (Nat.le_of_ble_eq_true rfl) (Nat.le_of_ble_eq_true rfl) dX12_ledge_97 (⟨0, rfl, rfl, by unfold ledV; omega⟩)
                · refine li_iconst hx hb dX12_ledge_68 ?_
                  refine lv_goto (tgt := 97) hx hb dX12_ledge_69 (by decide) ?_
                  exact eMi hQ hx hb hr hlk hP hD hS (Nat.le_of_ble_eq_true rfl) (Nat.le_of_ble_eq_true rfl) dX12_ledge_97 (⟨1, rfl, rfl, by unfold ledV; omega⟩)
            · refine lv_aload_n hx hb dX12_ledge_45 rfl (lv_at hl 0 rfl) ?_
              refine va_get (D := G) (ci := 11) (v := .ref (am 2)) (C := RX12) (T := TX12) (N := 52) hx hb hts in_X12 hown hK hP 0 (aM_0 _ _ _ _ _) rfl 2 (by decide) (hts _ q1267) (fun _ h9 => h9) rfl dX12_ledge_46 ?_
              refine lv_iload_n hx hb dX12_ledge_49 rfl (lv_at hl 1 rfl) ?_
              refine li_iald (g := (τ 2)) hx hb hK hP 2 0 (aM_2 _ _ _ _ _) rfl (by omega) (by omega) (by decide) dX12_ledge_50 ?_
              refine lv_goto (tgt := 97) hx hb dX12_ledge_51 (by decide) ?_
              exact eMi hQ hx hb hr hlk hP hD hS (Nat.le_of_ble_eq_true rfl) (Nat.le_of_ble_eq_true rfl) dX12_ledge_97 (⟨τ 2 l1, rfl, rfl, by unfold ledV; omega⟩)
          · refine lv_aload_n hx hb dX12_ledge_31 rfl (lv_at hl 0 rfl) ?_
            refine va_get (D := G) (ci := 11) (v := .ref (am 1)) (C := RX12) (T := TX12) (N := 52) hx hb hts in_X12 hown hK hP 0 (aM_0 _ _ _ _ _) rfl 1 (by decide) (hts _ q1266) (fun _ h9 => h9) rfl dX12_ledge_32 ?_
            refine lv_iload_n hx hb dX12_ledge_35 rfl (lv_at hl 1 rfl) ?_
            refine li_iald (g := (τ 1)) hx hb hK hP 1 0 (aM_1 _ _ _ _ _) rfl (by omega) (by omega) (by decide) dX12_ledge_36 ?_
            refine lv_goto (tgt := 97) hx hb dX12_ledge_37 (by decide) ?_
            exact eMi hQ hx hb hr hlk hP hD hS (Nat.le_of_ble_eq_true rfl) (Nat.le_of_ble_eq_true rfl) dX12_ledge_97 (⟨τ 1 l1, rfl, rfl, by unfold ledV; omega⟩)
        · exact absurd c22 (by decide)
      · refine li_if_ne (tgt := 27) hx hb ⟨by decide, by decide⟩ dX12_ledge_22 (by decide) (fun c22 => ?_) (fun c22 => ?_)
        · exact absurd c22 (by decide)
        · refine li_iconst hx hb dX12_ledge_25 ?_
          exact eMi hQ hx hb hr hlk hP hD hS (Nat.le_of_ble_eq_true rfl) (Nat.le_of_ble_eq_true rfl) dX12_ledge_26 (⟨-1, rfl, rfl, by unfold ledV; omega⟩)
  · have hb7 : ¬ (0 ≤ l1 ∧ l1 < F 8 0) := hb7
    refine li_if_eq (tgt := 25) hx hb ⟨by decide, by decide⟩ dX12_ledge_10 (by decide) (fun c10 => ?_) (fun c10 => ?_)
    · refine li_iconst hx hb dX12_ledge_25 ?_
      exact eMi hQ hx hb hr hlk hP hD hS (Nat.le_of_ble_eq_true rfl) (Nat.le_of_ble_eq_true rfl) dX12_ledge_26 (⟨-1, rfl, rfl, by unfold ledV; omega⟩)
    · exact absurd c10 (by decide)
set_option maxHeartbeats 4000000 in
theorem m_hold (l : Launch) (G : va_G) (ad : Nat → Nat) (ty : Nat → ClassId) (hv : Nat → Option Nat) (σ ς κ : mem) (cs : va_W) (l1 : Int) (n1 : Int)  (hF : okF σ) (hl1 : rg l1) (hn1_ : rg n1) : cM l yX1_hold (ws_ yX1_hold cX1_hold 4 (some .int)) (rm4 1 0 0 22) G ty (wD ad ty hv σ ς κ ++ cs) [.ref (ad 0), .int (ii l1), .int (ii n1)] 0 0 (fun r W' => ∃ (z : Int) (g : Int → Int), r = some (.int (ii z)) ∧ W' = wD ad ty hv (up σ 1 g) ς κ ++ cs ∧ ((((0 ≤ l1 ∧ l1 < (σ 8 0)) ∧ 0 ≤ n1 ∧ n1 ≤ 1) ∧ z = (σ 1) l1 ∧ g = ug (σ 1) l1 n1) ∨ (¬ ((0 ≤ l1 ∧ l1 < (σ 8 0)) ∧ 0 ≤ n1 ∧ n1 ≤ 1) ∧ z = -1 ∧ g = (σ 1)))) := by
  refine cM.of (by decide) (Nat.le_of_ble_eq_true rfl) ?_
  intro p e s m args below meth c A Q H locs hQ hx hb hr hml hown hlk hname hts hK hP hD hS hA hX ls hl
  have hl : lv_has ls 4 [(0, .ref (ad 0)), (1, .int (ii l1)), (2, .int (ii n1))] := hl
  obtain ⟨hW, hWS, hlg⟩ := id hF
  obtain ⟨hw0, hw1, hw2, hw3, hw4, hw5, h8a, h8b, h9a, h9b, h10a, h10b⟩ := id hW
  obtain ⟨hs0, hs1⟩ := id hWS
  obtain ⟨hl1a, hl1b⟩ := id hl1
  obtain ⟨hn1_a, hn1_b⟩ := id hn1_
  refine lv_aload_n hx hb dX1_hold_0 rfl (lv_at hl 0 rfl) ?_
  refine va_get (D := G) (ci := 0) (v := .ref (ad 1)) (C := RX1) (T := TX1) (N := 21) hx hb hts in_X1 hown hK hP 0 (aD_0 _ _ _ _ _ _ _) rfl 0 (by decide) (hts _ q977) (fun _ h9 => h9) rfl dX1_hold_1 ?_
  refine lv_iload_n hx hb dX1_hold_4 rfl (lv_at hl 1 rfl) ?_
  refine kR (va_runV (As := [.int (ii l1)]) (rest := []) ⟨hx, hb, hml, hown, hts⟩ (m_isLedge l G ty (wD ad ty hv σ ς κ ++ cs) (fun k => 1 + k) (fun k => ad (1 + k)) σ l1 ⟨rfl, rfl, rfl, rfl, rfl, rfl, rfl⟩ (hW) hl1) (cwV 1 hts (lw_V q308 q309 q310 q77 q311) rfl rfl rfl (by decide +kernel) ⟨Nat.le_of_ble_eq_true rfl, Nat.le_of_ble_eq_true rfl⟩) (pvR (r := (RX2, TX2, 13)) hK hP hD hX 1 (aD_1 _ _ _ _ _ _ _) rfl) rfl rfl hl.1 rfl (lv_room (Nat.le_of_ble_eq_true rfl)) dX1_hold_5 ⟨Nat.le_of_ble_eq_true rfl, Nat.le_of_ble_eq_true rfl⟩) (fun v hv => ?_)
  obtain ⟨z5, rfl, ⟨rfl, h5⟩ | ⟨rfl, h5⟩⟩ := hv
  · refine li_if_eq (tgt := 20) hx hb ⟨by decide, by decide⟩ dX1_hold_8 (by decide) (fun c8 => ?_) (fun c8 => ?_)
    · exact absurd c8 (by decide)
    · refine lv_iload_n hx hb dX1_hold_11 rfl (lv_at hl 2 rfl) ?_
      refine li_iconst hx hb dX1_hold_12 ?_
      refine li_iconst hx hb dX1_hold_13 ?_
      refine kR (va_runS (As := [.int (ii n1), .int (ii 0), .int (ii 1)]) (rest := []) ⟨hx, hb, hml, hown, hts⟩ (m_isIn l G ty (wD ad ty hv σ ς κ ++ cs) n1 0 1 hn1_ ⟨by decide, by decide⟩ ⟨by decide, by decide⟩) (va_cwS 3 hts (lw_S q117 q118 q76 q119) rfl rfl rfl (by decide +kernel) ⟨Nat.le_of_ble_eq_true rfl, Nat.le_of_ble_eq_true rfl⟩) (psR hK hP hD hX) rfl rfl hl.1 rfl (lv_room (Nat.le_of_ble_eq_true rfl)) dX1_hold_14 ⟨Nat.le_of_ble_eq_true rfl, Nat.le_of_ble_eq_true rfl⟩) (fun v hv => ?_)
      obtain ⟨z14, rfl, ⟨rfl, h14⟩ | ⟨rfl, h14⟩⟩ := hv
      · refine li_if_ne (tgt := 22) hx hb ⟨by decide, by decide⟩ dX1_hold_17 (by decide) (fun c17 => ?_) (fun c17 => ?_)
        · refine lv_aload_n hx hb dX1_hold_22 rfl (lv_at hl 0 rfl) ?_
          refine va_get (D := G) (ci := 0) (v := .ref (ad 1)) (C := RX1) (T := TX1) (N := 21) hx hb hts in_X1 hown hK hP 0 (aD_0 _ _ _ _ _ _ _) rfl 0 (by decide) (hts _ q977) (fun _ h9 => h9) rfl dX1_hold_23 ?_
          refine va_get (D := G) (ci := 1) (v := .ref (ad 3)) (C := RX2) (T := TX2) (N := 13) hx hb hts in_X2 hown hK hP 1 (aD_1 _ _ _ _ _ _ _) rfl 1 (by decide) (hts _ q777) (fun _ h9 => h9) rfl dX1_hold_26 ?_
          refine lv_iload_n hx hb dX1_hold_29 rfl (lv_at hl 1 rfl) ?_
          refine li_iald (g := (σ 1)) hx hb hK hP 3 0 (aD_3 _ _ _ _ _ _ _) rfl (by omega) (by omega) (by decide) dX1_hold_30 ?_
          have r31 := hw1 l1
          refine lv_istore_n (lv' := [(3, .int (ii (σ 1 l1))), (0, .ref (ad 0)), (1, .int (ii l1)), (2, .int (ii n1))]) hx hb dX1_hold_31 rfl hl (by decide) rfl (fun ls hl => ?_)
          refine lv_aload_n hx hb dX1_hold_32 rfl (lv_at hl 1 rfl) ?_
          refine va_get (D := G) (ci := 0) (v := .ref (ad 1)) (C := RX1) (T := TX1) (N := 21) hx hb hts in_X1 hown hK hP 0 (aD_0 _ _ _ _ _ _ _) rfl 0 (by decide) (hts _ q977) (fun _ h9 => h9) rfl dX1_hold_33 ?_
          refine va_get (D := G) (ci := 1) (v := .ref (ad 3)) (C := RX2) (T := TX2) (N := 13) hx hb hts in_X2 hown hK hP 1 (aD_1 _ _ _ _ _ _ _) rfl 1 (by decide) (hts _ q777) (fun _ h9 => h9) rfl dX1_hold_36 ?_
          refine lv_iload_n hx hb dX1_hold_39 rfl (lv_at hl 2 rfl) ?_
          refine lv_iload_n hx hb dX1_hold_40 rfl (lv_at hl 3 rfl) ?_
          refine li_iast (g := (σ 1)) (W2 := wD ad ty hv (up σ 1 (ug (σ 1) l1 n1)) ς κ ++ cs) hx hb hK hP hD hS 3 0 (aD_3 _ _ _ _ _ _ _) rfl (by omega) (by omega) (by decide) rfl dX1_hold_41 (fun H locs hP hD hS => ?_)
          refine lv_iload_n hx hb dX1_hold_42 rfl (lv_at hl 0 rfl) ?_
          exact eMi hQ hx hb hr hlk hP hD hS (Nat.le_of_ble_eq_true rfl) (Nat.le_of_ble_eq_true rfl) dX1_hold_43 (⟨σ 1 l1, (ug (σ 1) l1 n1), rfl, rfl, .inl ⟨by omega, rfl, rfl⟩⟩)
        · exact absurd c17 (by decide)
      · refine li_if_ne (tgt := 22) hx hb ⟨by decide, by decide⟩ dX1_hold_17 (by decide) (fun c17 => ?_) (fun c17 => ?_)
        · exact absurd c17 (by decide)
        · refine li_iconst hx hb dX1_hold_20 ?_
          exact eMi hQ hx hb hr hlk hP hD hS (Nat.le_of_ble_eq_true rfl) (Nat.le_of_ble_eq_true rfl) dX1_hold_21 (⟨-1, (σ 1), rfl, rfl, .inr ⟨by omega, rfl, rfl⟩⟩)
  · refine li_if_eq (tgt := 20) hx hb ⟨by decide, by decide⟩ dX1_hold_8 (by decide) (fun c8 => ?_) (fun c8 => ?_)
    · refine li_iconst hx hb dX1_hold_20 ?_
      exact eMi hQ hx hb hr hlk hP hD hS (Nat.le_of_ble_eq_true rfl) (Nat.le_of_ble_eq_true rfl) dX1_hold_21 (⟨-1, (σ 1), rfl, rfl, .inr ⟨by omega, rfl, rfl⟩⟩)
    · exact absurd c8 (by decide)
set_option maxHeartbeats 4000000 in
theorem m_holdM (l : Launch) (G : va_G) (am : Nat → Nat) (ty : Nat → ClassId) (τ ρ : mem) (cs : va_W) (l1 : Int) (n1 : Int) (F : mem) (hF : okF F) (hSm : Sim F τ) (hl1 : rg l1) (hn1_ : rg n1) : cM l yX12_hold (ws_ yX12_hold cX12_hold 4 (some .int)) (rm4 2 0 0 46) G ty (wM am ty τ ρ ++ cs) [.ref (am 0), .int (ii l1), .int (ii n1)] 0 0 (fun r W' => ∃ (z : Int) (g : Int → Int) (is : Int), r = some (.int (ii z)) ∧ W' = wM am ty (up τ 2 g) (up (up ρ 14 (sc (0))) 36 (sc (is))) ++ cs ∧ ((((0 ≤ l1 ∧ l1 < F 8 0) ∧ 0 ≤ n1 ∧ n1 ≤ 1) ∧ z = F 1 l1 ∧ Sim (up F 1 (ug (F 1) l1 n1)) (up τ 2 g) ∧ is = 0) ∨ (¬ ((0 ≤ l1 ∧ l1 < F 8 0) ∧ 0 ≤ n1 ∧ n1 ≤ 1) ∧ z = -1 ∧ g = (τ 2) ∧ is = (ρ 36 0)))) := by
  refine cM.of (by decide) (Nat.le_of_ble_eq_true rfl) ?_
  intro p e s m args below meth c A Q H locs hQ hx hb hr hml hown hlk hname hts hK hP hD hS hA hX ls hl
  have hl : lv_has ls 4 [(0, .ref (am 0)), (1, .int (ii l1)), (2, .int (ii n1))] := hl
  obtain ⟨hW, hWS, hlg⟩ := id hF
  obtain ⟨hw0, hw1, hw2, hw3, hw4, hw5, h8a, h8b, h9a, h9b, h10a, h10b⟩ := id hW
  obtain ⟨mL, mP, mR, mC, mK, mM, mA, mB, mD⟩ := id hSm
  obtain ⟨hl1a, hl1b⟩ := id hl1
  obtain ⟨hn1_a, hn1_b⟩ := id hn1_
  refine lv_aload_n hx hb dX12_hold_0 rfl (lv_at hl 0 rfl) ?_
  refine li_iconst hx hb dX12_hold_1 ?_
  refine va_put (D := G) (ci := 11) (v := .int (ii 0)) (ty := .int) (C := RX12) (T := TX12) (N := 52) hx hb hts in_X12 tyX12 tyX12_ok nmX12 hown hK hP hD hS 0 (aM_0 _ _ _ _ _) rfl 14 (by decide) (hts _ q1279) (fun _ h9 => h9) rfl (tyX12_ok 14 (by decide)) rfl rfl (Nat.le_of_ble_eq_true rfl) dX12_hold_2 (fun H locs hP hD hS => ?_)
  have hP : va_P G gcl (wM am ty τ (up ρ 14 (sc (0))) ++ cs) H := hP
  have hD : va_D A (wM am ty τ (up ρ 14 (sc (0))) ++ cs) := hD
  refine lv_aload_n hx hb dX12_hold_5 rfl (lv_at hl 0 rfl) ?_
  refine lv_iload_n hx hb dX12_hold_6 rfl (lv_at hl 1 rfl) ?_
  refine kR (va_runV (As := [.int (ii l1)]) (rest := []) ⟨hx, hb, hml, hown, hts⟩ (m_isLedgeM l G am ty τ (up ρ 14 (sc (0))) cs l1 _ (show okF F from hF) (show Sim F τ from hSm) (show rg l1 from hl1)) (cwV 1 hts (lw_V q1465 q1467 qs44 q87 q1468) rfl rfl rfl (by decide +kernel) ⟨Nat.le_of_ble_eq_true rfl, Nat.le_of_ble_eq_true rfl⟩) (pvR (r := (RX12, TX12, 52)) hK hP hD hX 0 (aM_0 _ _ _ _ _) rfl) rfl rfl hl.1 rfl (lv_room (Nat.le_of_ble_eq_true rfl)) dX12_hold_7 ⟨Nat.le_of_ble_eq_true rfl, Nat.le_of_ble_eq_true rfl⟩) (fun v hv => ?_)
  obtain ⟨z7, rfl, ⟨rfl, hb7⟩ | ⟨rfl, hb7⟩⟩ := hv
  · have hb7 : 0 ≤ l1 ∧ l1 < F 8 0 := hb7
    refine li_if_eq (tgt := 23) hx hb ⟨by decide, by decide⟩ dX12_hold_10 (by decide) (fun c10 => ?_) (fun c10 => ?_)
    · exact absurd c10 (by decide)
    · refine lv_iload_n hx hb dX12_hold_13 rfl (lv_at hl 2 rfl) ?_
      refine lv_i2l (v := ll n1) hx hb dX12_hold_14 (ll_i hn1_) ?_
      refine lv_lconst (v := ll 0) hx hb dX12_hold_15 (by decide) ?_
      refine lv_lconst (v := ll 1) hx hb dX12_hold_16 (by decide) ?_
      refine kR (va_runS (As := [.long (ll (n1)), .long (ll (0)), .long (ll (1))]) (rest := []) ⟨hx, hb, hml, hown, hts⟩ (m_inM l G ty (wM am ty τ (up ρ 14 (sc (0))) ++ cs) n1 0 1 (rg_rl hn1_) ⟨by decide, by decide⟩ ⟨by decide, by decide⟩) (va_cwS 3 hts (lw_S q1436 q1437 q87 q1438) rfl rfl rfl (by decide +kernel) ⟨Nat.le_of_ble_eq_true rfl, Nat.le_of_ble_eq_true rfl⟩) (psR hK hP hD hX) rfl rfl hl.1 rfl (lv_room (Nat.le_of_ble_eq_true rfl)) dX12_hold_17 ⟨Nat.le_of_ble_eq_true rfl, Nat.le_of_ble_eq_true rfl⟩) (fun v hv => ?_)
      obtain ⟨z17, rfl, ⟨rfl, h17⟩ | ⟨rfl, h17⟩⟩ := hv
      · refine li_if_ne (tgt := 25) hx hb ⟨by decide, by decide⟩ dX12_hold_20 (by decide) (fun c20 => ?_) (fun c20 => ?_)
        · have hA := mA l1 (by omega) (by omega)
          refine lv_aload_n hx hb dX12_hold_25 rfl (lv_at hl 0 rfl) ?_
          refine va_get (D := G) (ci := 11) (v := .ref (am 2)) (C := RX12) (T := TX12) (N := 52) hx hb hts in_X12 hown hK hP 0 (aM_0 _ _ _ _ _) rfl 2 (by decide) (hts _ q1267) (fun _ h9 => h9) rfl dX12_hold_26 ?_
          refine lv_iload_n hx hb dX12_hold_29 rfl (lv_at hl 1 rfl) ?_
          refine li_iald (g := (τ 2)) hx hb hK hP 2 0 (aM_2 _ _ _ _ _) rfl (by omega) (by omega) (by decide) dX12_hold_30 ?_
          refine lv_istore_n (lv' := [(3, .int (ii (τ 2 l1))), (0, .ref (am 0)), (1, .int (ii l1)), (2, .int (ii n1))]) hx hb dX12_hold_31 rfl hl (by decide) rfl (fun ls hl => ?_)
          refine lv_aload_n hx hb dX12_hold_32 rfl (lv_at hl 1 rfl) ?_
          refine va_get (D := G) (ci := 11) (v := .ref (am 2)) (C := RX12) (T := TX12) (N := 52) hx hb hts in_X12 hown hK hP 0 (aM_0 _ _ _ _ _) rfl 2 (by decide) (hts _ q1267) (fun _ h9 => h9) rfl dX12_hold_33 ?_
          refine lv_iload_n hx hb dX12_hold_36 rfl (lv_at hl 2 rfl) ?_
          refine lv_iload_n hx hb dX12_hold_37 rfl (lv_at hl 3 rfl) ?_
          refine li_iast (g := (τ 2)) (W2 := wM am ty (up τ 2 (ug (τ 2) l1 n1)) (up ρ 14 (sc (0))) ++ cs) hx hb hK hP hD hS 2 0 (aM_2 _ _ _ _ _) rfl (by omega) (by omega) (by decide) rfl dX12_hold_38 (fun H locs hP hD hS => ?_)
          refine lv_aload_n hx hb dX12_hold_39 rfl (lv_at hl 1 rfl) ?_
          refine li_iconst hx hb dX12_hold_40 ?_
          refine va_put (D := G) (ci := 11) (v := .int (ii 0)) (ty := .boolean) (C := RX12) (T := TX12) (N := 52) hx hb hts in_X12 tyX12 tyX12_ok nmX12 hown hK hP hD hS 0 (aM_0 _ _ _ _ _) rfl 36 (by decide) (hts _ q1301) (fun _ h9 => h9) rfl (tyX12_ok 36 (by decide)) (nrw_z (by omega)) (fit_z (by omega)) (Nat.le_of_ble_eq_true rfl) dX12_hold_41 (fun H locs hP hD hS => ?_)
          have hP : va_P G gcl (wM am ty (up τ 2 (ug (τ 2) l1 n1)) (up (up ρ 14 (sc (0))) 36 (sc (0))) ++ cs) H := hP
          have hD : va_D A (wM am ty (up τ 2 (ug (τ 2) l1 n1)) (up (up ρ 14 (sc (0))) 36 (sc (0))) ++ cs) := hD
          refine lv_iload_n hx hb dX12_hold_44 rfl (lv_at hl 0 rfl) ?_
          exact eMi hQ hx hb hr hlk hP hD hS (Nat.le_of_ble_eq_true rfl) (Nat.le_of_ble_eq_true rfl) dX12_hold_45 (⟨τ 2 l1, (ug (τ 2) l1 n1), 0, rfl, rfl, .inl ⟨by omega, hA.2.1, Sim_hold hSm, rfl⟩⟩)
        · exact absurd c20 (by decide)
      · refine li_if_ne (tgt := 25) hx hb ⟨by decide, by decide⟩ dX12_hold_20 (by decide) (fun c20 => ?_) (fun c20 => ?_)
        · exact absurd c20 (by decide)
        · refine li_iconst hx hb dX12_hold_23 ?_
          exact eMi hQ hx hb hr hlk hP hD hS (Nat.le_of_ble_eq_true rfl) (Nat.le_of_ble_eq_true rfl) dX12_hold_24 (⟨-1, (τ 2), ρ 36 0, rfl, rfl, .inr ⟨by omega, rfl, rfl, rfl⟩⟩)
  · have hb7 : ¬ (0 ≤ l1 ∧ l1 < F 8 0) := hb7
    refine li_if_eq (tgt := 23) hx hb ⟨by decide, by decide⟩ dX12_hold_10 (by decide) (fun c10 => ?_) (fun c10 => ?_)
    · refine li_iconst hx hb dX12_hold_23 ?_
      exact eMi hQ hx hb hr hlk hP hD hS (Nat.le_of_ble_eq_true rfl) (Nat.le_of_ble_eq_true rfl) dX12_hold_24 (⟨-1, (τ 2), ρ 36 0, rfl, rfl, .inr ⟨by omega, rfl, rfl, rfl⟩⟩)
    · exact absurd c10 (by decide)
set_option maxHeartbeats 4000000 in
theorem m_sets (l : Launch) (G : va_G) (ad : Nat → Nat) (ty : Nat → ClassId) (hv : Nat → Option Nat) (σ ς κ : mem) (cs : va_W) (w1 : Int) (n1 : Int)  (hw1_ : rg w1) (hn1_ : rg n1) (hwb : 0 ≤ w1 ∧ w1 ≤ 1) : cM l yX1_sets (ws_ yX1_sets cX1_sets 3 (some .boolean)) (rm4 1 0 0 22) G ty (wD ad ty hv σ ς κ ++ cs) [.ref (ad 0), .int (ii w1), .int (ii n1)] 0 0 (fun r W' => ∃ (z : Int) (c : Int) (d : Int), r = some (.int (ii z)) ∧ W' = wD ad ty hv (up (up σ 11 (sc (c))) 12 (sc (d))) ς κ ++ cs ∧ ((z = 1 ∧ ((((w1 = 0 ∧ 0 ≤ n1 ∧ n1 ≤ 100) ∧ c = n1 ∧ d = (σ 12 0)) ∨ ((w1 = 1 ∧ 1 ≤ n1 ∧ n1 ≤ 999) ∧ c = (σ 11 0) ∧ d = n1)))) ∨ (z = 0 ∧ ((¬ (w1 = 0 ∧ 0 ≤ n1 ∧ n1 ≤ 100) ∧ ¬ (w1 = 1 ∧ 1 ≤ n1 ∧ n1 ≤ 999) ∧ c = (σ 11 0) ∧ d = (σ 12 0)))))) := by
  refine cM.of (by decide) (Nat.le_of_ble_eq_true rfl) ?_
  intro p e s m args below meth c A Q H locs hQ hx hb hr hml hown hlk hname hts hK hP hD hS hA hX ls hl
  have hl : lv_has ls 3 [(0, .ref (ad 0)), (1, .int (ii w1)), (2, .int (ii n1))] := hl
  obtain ⟨hw1_a, hw1_b⟩ := id hw1_
  obtain ⟨hn1_a, hn1_b⟩ := id hn1_
  refine lv_iload_n hx hb dX1_sets_0 rfl (lv_at hl 1 rfl) ?_
  refine li_if_ne (tgt := 17) hx hb hw1_ dX1_sets_1 (by decide) (fun c1 => ?_) (fun c1 => ?_)
  · refine lv_iload_n hx hb dX1_sets_17 rfl (lv_at hl 2 rfl) ?_
    refine li_iconst hx hb dX1_sets_18 ?_
    refine li_sipush hx hb dX1_sets_19 (by decide) ?_
    refine kR (va_runS (As := [.int (ii n1), .int (ii 1), .int (ii 999)]) (rest := []) ⟨hx, hb, hml, hown, hts⟩ (m_isIn l G ty (wD ad ty hv σ ς κ ++ cs) n1 1 999 hn1_ ⟨by decide, by decide⟩ ⟨by decide, by decide⟩) (va_cwS 3 hts (lw_S q117 q118 q76 q119) rfl rfl rfl (by decide +kernel) ⟨Nat.le_of_ble_eq_true rfl, Nat.le_of_ble_eq_true rfl⟩) (psR hK hP hD hX) rfl rfl hl.1 rfl (lv_room (Nat.le_of_ble_eq_true rfl)) dX1_sets_22 ⟨Nat.le_of_ble_eq_true rfl, Nat.le_of_ble_eq_true rfl⟩) (fun v hv => ?_)
    obtain ⟨z22, rfl, ⟨rfl, h22⟩ | ⟨rfl, h22⟩⟩ := hv
    · refine li_if_ne (tgt := 30) hx hb ⟨by decide, by decide⟩ dX1_sets_25 (by decide) (fun c25 => ?_) (fun c25 => ?_)
      · refine lv_iload_n hx hb dX1_sets_30 rfl (lv_at hl 1 rfl) ?_
        refine li_if_ne (tgt := 45) hx hb hw1_ dX1_sets_31 (by decide) (fun c31 => ?_) (fun c31 => ?_)
        · refine lv_aload_n hx hb dX1_sets_45 rfl (lv_at hl 0 rfl) ?_
          refine va_get (D := G) (ci := 0) (v := .ref (ad 1)) (C := RX1) (T := TX1) (N := 21) hx hb hts in_X1 hown hK hP 0 (aD_0 _ _ _ _ _ _ _) rfl 0 (by decide) (hts _ q977) (fun _ h9 => h9) rfl dX1_sets_46 ?_
          refine lv_iload_n hx hb dX1_sets_49 rfl (lv_at hl 2 rfl) ?_
          refine va_put (D := G) (ci := 1) (v := .int (ii n1)) (ty := .int) (C := RX2) (T := TX2) (N := 13) hx hb hts in_X2 tyX2 tyX2_ok nmX2 hown hK hP hD hS 1 (aD_1 _ _ _ _ _ _ _) rfl 10 (by decide) (hts _ q806) (fun _ h9 => h9) rfl (tyX2_ok 10 (by decide)) rfl rfl (Nat.le_of_ble_eq_true rfl) dX1_sets_50 (fun H locs hP hD hS => ?_)
          have hP : va_P G gcl (wD ad ty hv (up σ 12 (sc (n1))) ς κ ++ cs) H := hP
          have hD : va_D A (wD ad ty hv (up σ 12 (sc (n1))) ς κ ++ cs) := hD
          refine li_iconst hx hb dX1_sets_53 ?_
          exact eMz hQ hx hb hr hlk hP hD hS (Nat.le_of_ble_eq_true rfl) (Nat.le_of_ble_eq_true rfl) dX1_sets_54 (.inr rfl) (⟨1, σ 11 0, n1, rfl, rfl, by omega⟩)
        · exfalso
          omega
      · exact absurd c25 (by decide)
    · refine li_if_ne (tgt := 30) hx hb ⟨by decide, by decide⟩ dX1_sets_25 (by decide) (fun c25 => ?_) (fun c25 => ?_)
      · exact absurd c25 (by decide)
      · refine li_iconst hx hb dX1_sets_28 ?_
        exact eMz hQ hx hb hr hlk hP hD hS (Nat.le_of_ble_eq_true rfl) (Nat.le_of_ble_eq_true rfl) dX1_sets_29 (.inl rfl) (⟨0, σ 11 0, σ 12 0, rfl, rfl, by omega⟩)
  · refine lv_iload_n hx hb dX1_sets_4 rfl (lv_at hl 2 rfl) ?_
    refine li_iconst hx hb dX1_sets_5 ?_
    refine li_bipush hx hb dX1_sets_6 (by decide) ?_
    refine kR (va_runS (As := [.int (ii n1), .int (ii 0), .int (ii 100)]) (rest := []) ⟨hx, hb, hml, hown, hts⟩ (m_isIn l G ty (wD ad ty hv σ ς κ ++ cs) n1 0 100 hn1_ ⟨by decide, by decide⟩ ⟨by decide, by decide⟩) (va_cwS 3 hts (lw_S q117 q118 q76 q119) rfl rfl rfl (by decide +kernel) ⟨Nat.le_of_ble_eq_true rfl, Nat.le_of_ble_eq_true rfl⟩) (psR hK hP hD hX) rfl rfl hl.1 rfl (lv_room (Nat.le_of_ble_eq_true rfl)) dX1_sets_8 ⟨Nat.le_of_ble_eq_true rfl, Nat.le_of_ble_eq_true rfl⟩) (fun v hv => ?_)
    obtain ⟨z8, rfl, ⟨rfl, h8⟩ | ⟨rfl, h8⟩⟩ := hv
    · refine li_if_ne (tgt := 30) hx hb ⟨by decide, by decide⟩ dX1_sets_11 (by decide) (fun c11 => ?_) (fun c11 => ?_)
      · refine lv_iload_n hx hb dX1_sets_30 rfl (lv_at hl 1 rfl) ?_
        refine li_if_ne (tgt := 45) hx hb hw1_ dX1_sets_31 (by decide) (fun c31 => ?_) (fun c31 => ?_)
        · exfalso
          omega
        · refine lv_aload_n hx hb dX1_sets_34 rfl (lv_at hl 0 rfl) ?_
          refine va_get (D := G) (ci := 0) (v := .ref (ad 1)) (C := RX1) (T := TX1) (N := 21) hx hb hts in_X1 hown hK hP 0 (aD_0 _ _ _ _ _ _ _) rfl 0 (by decide) (hts _ q977) (fun _ h9 => h9) rfl dX1_sets_35 ?_
          refine lv_iload_n hx hb dX1_sets_38 rfl (lv_at hl 2 rfl) ?_
          refine va_put (D := G) (ci := 1) (v := .int (ii n1)) (ty := .int) (C := RX2) (T := TX2) (N := 13) hx hb hts in_X2 tyX2 tyX2_ok nmX2 hown hK hP hD hS 1 (aD_1 _ _ _ _ _ _ _) rfl 9 (by decide) (hts _ q804) (fun _ h9 => h9) rfl (tyX2_ok 9 (by decide)) rfl rfl (Nat.le_of_ble_eq_true rfl) dX1_sets_39 (fun H locs hP hD hS => ?_)
          have hP : va_P G gcl (wD ad ty hv (up σ 11 (sc (n1))) ς κ ++ cs) H := hP
          have hD : va_D A (wD ad ty hv (up σ 11 (sc (n1))) ς κ ++ cs) := hD
          refine lv_goto (tgt := 53) hx hb dX1_sets_42 (by decide) ?_
          refine li_iconst hx hb dX1_sets_53 ?_
          exact eMz hQ hx hb hr hlk hP hD hS (Nat.le_of_ble_eq_true rfl) (Nat.le_of_ble_eq_true rfl) dX1_sets_54 (.inr rfl) (⟨1, n1, σ 12 0, rfl, rfl, by omega⟩)
      · exact absurd c11 (by decide)
    · refine li_if_ne (tgt := 30) hx hb ⟨by decide, by decide⟩ dX1_sets_11 (by decide) (fun c11 => ?_) (fun c11 => ?_)
      · exact absurd c11 (by decide)
      · refine lv_goto (tgt := 28) hx hb dX1_sets_14 (by decide) ?_
        refine li_iconst hx hb dX1_sets_28 ?_
        exact eMz hQ hx hb hr hlk hP hD hS (Nat.le_of_ble_eq_true rfl) (Nat.le_of_ble_eq_true rfl) dX1_sets_29 (.inl rfl) (⟨0, σ 11 0, σ 12 0, rfl, rfl, by omega⟩)
set_option maxHeartbeats 4000000 in
theorem m_set (l : Launch) (G : va_G) (ad : Nat → Nat) (ty : Nat → ClassId) (hv : Nat → Option Nat) (σ ς κ : mem) (cs : va_W) (w1 : Int) (n1 : Int)  (hw1_ : rg w1) (hn1_ : rg n1) (hca : rg (σ 11 0)) (hdu : rg (σ 12 0)) : cM l yX1_set (ws_ yX1_set cX1_set 4 (some .int)) (rm4 2 0 0 44) G ty (wD ad ty hv σ ς κ ++ cs) [.ref (ad 0), .int (ii w1), .int (ii n1)] 0 0 (fun r W' => ∃ (z : Int) (c : Int) (d : Int), r = some (.int (ii z)) ∧ W' = wD ad ty hv (up (up σ 11 (sc (c))) 12 (sc (d))) ς κ ++ cs ∧ (((w1 = 0 ∧ 0 ≤ n1 ∧ n1 ≤ 100) ∧ z = (σ 11 0) ∧ c = n1 ∧ d = (σ 12 0)) ∨ ((w1 = 1 ∧ 1 ≤ n1 ∧ n1 ≤ 999) ∧ z = (σ 12 0) ∧ c = (σ 11 0) ∧ d = n1) ∨ (¬ (w1 = 0 ∧ 0 ≤ n1 ∧ n1 ≤ 100) ∧ ¬ (w1 = 1 ∧ 1 ≤ n1 ∧ n1 ≤ 999) ∧ z = -1 ∧ c = (σ 11 0) ∧ d = (σ 12 0)))) := by
  refine cM.of (by decide) (Nat.le_of_ble_eq_true rfl) ?_
  intro p e s m args below meth c A Q H locs hQ hx hb hr hml hown hlk hname hts hK hP hD hS hA hX ls hl
  have hl : lv_has ls 4 [(0, .ref (ad 0)), (1, .int (ii w1)), (2, .int (ii n1))] := hl
  obtain ⟨hw1_a, hw1_b⟩ := id hw1_
  obtain ⟨hn1_a, hn1_b⟩ := id hn1_
  obtain ⟨hcaa, hcab⟩ := id hca
  obtain ⟨hdua, hdub⟩ := id hdu
  refine lv_iload_n hx hb dX1_set_0 rfl (lv_at hl 1 rfl) ?_
  refine li_iconst hx hb dX1_set_1 ?_
  refine li_iconst hx hb dX1_set_2 ?_
  refine kR (va_runS (As := [.int (ii w1), .int (ii 0), .int (ii 1)]) (rest := []) ⟨hx, hb, hml, hown, hts⟩ (m_isIn l G ty (wD ad ty hv σ ς κ ++ cs) w1 0 1 hw1_ ⟨by decide, by decide⟩ ⟨by decide, by decide⟩) (va_cwS 3 hts (lw_S q117 q118 q76 q119) rfl rfl rfl (by decide +kernel) ⟨Nat.le_of_ble_eq_true rfl, Nat.le_of_ble_eq_true rfl⟩) (psR hK hP hD hX) rfl rfl hl.1 rfl (lv_room (Nat.le_of_ble_eq_true rfl)) dX1_set_3 ⟨Nat.le_of_ble_eq_true rfl, Nat.le_of_ble_eq_true rfl⟩) (fun v hv => ?_)
  obtain ⟨z3, rfl, ⟨rfl, h3⟩ | ⟨rfl, h3⟩⟩ := hv
  · refine li_if_ne (tgt := 11) hx hb ⟨by decide, by decide⟩ dX1_set_6 (by decide) (fun c6 => ?_) (fun c6 => ?_)
    · refine lv_iload_n hx hb dX1_set_11 rfl (lv_at hl 1 rfl) ?_
      refine li_if_ne (tgt := 25) hx hb hw1_ dX1_set_12 (by decide) (fun c12 => ?_) (fun c12 => ?_)
      · refine lv_aload_n hx hb dX1_set_25 rfl (lv_at hl 0 rfl) ?_
        refine va_get (D := G) (ci := 0) (v := .ref (ad 1)) (C := RX1) (T := TX1) (N := 21) hx hb hts in_X1 hown hK hP 0 (aD_0 _ _ _ _ _ _ _) rfl 0 (by decide) (hts _ q977) (fun _ h9 => h9) rfl dX1_set_26 ?_
        refine va_get (D := G) (ci := 1) (v := .int (ii (σ 12 0))) (C := RX2) (T := TX2) (N := 13) hx hb hts in_X2 hown hK hP 1 (aD_1 _ _ _ _ _ _ _) rfl 10 (by decide) (hts _ q806) (fun _ h9 => h9) rfl dX1_set_29 ?_
        refine lv_istore_n (lv' := [(3, .int (ii (σ 12 0))), (0, .ref (ad 0)), (1, .int (ii w1)), (2, .int (ii n1))]) hx hb dX1_set_32 rfl hl (by decide) rfl (fun ls hl => ?_)
        refine lv_aload_n hx hb dX1_set_33 rfl (lv_at hl 1 rfl) ?_
        refine lv_iload_n hx hb dX1_set_34 rfl (lv_at hl 2 rfl) ?_
        refine lv_iload_n hx hb dX1_set_35 rfl (lv_at hl 3 rfl) ?_
        refine kM (va_runV (As := [.int (ii w1), .int (ii n1)]) (rest := []) ⟨hx, hb, hml, hown, hts⟩ ((m_sets l G ad ty hv σ ς κ cs w1 n1 (show rg w1 from hw1_) (show rg n1 from hn1_) (show 0 ≤ w1 ∧ w1 ≤ 1 from ⟨by omega, by omega⟩)) H.size) (cwV 2 hts (lw_V q320 q322 qs14 q76 q323) rfl rfl rfl (by decide +kernel) ⟨Nat.le_of_ble_eq_true rfl, Nat.le_of_ble_eq_true rfl⟩) (pvM (r := (RX1, TX1, 21)) hK hP hD hX 0 (aD_0 _ _ _ _ _ _ _) rfl) rfl rfl hl.1 rfl (lv_room (Nat.le_of_ble_eq_true rfl)) dX1_set_36 ⟨Nat.le_of_ble_eq_true rfl, Nat.le_of_ble_eq_true rfl⟩) hD hS hA (fun v ws1 H locs hv hP hD hS => ?_)
        obtain ⟨z36, c36, d36, rfl, rfl, ⟨rfl, hb36⟩ | ⟨rfl, hb36⟩⟩ := hv
        · have hP : va_P G gcl (wD ad ty hv (up (up σ 11 (sc (c36))) 12 (sc (d36))) ς κ ++ cs) H := hP
          have hD : va_D A (wD ad ty hv (up (up σ 11 (sc (c36))) 12 (sc (d36))) ς κ ++ cs) := hD
          have hb36 : (((w1 = 0 ∧ 0 ≤ n1 ∧ n1 ≤ 100) ∧ c36 = n1 ∧ d36 = (σ 12 0)) ∨ ((w1 = 1 ∧ 1 ≤ n1 ∧ n1 ≤ 999) ∧ c36 = (σ 11 0) ∧ d36 = n1)) := hb36
          refine li_if_eq (tgt := 46) hx hb ⟨by decide, by decide⟩ dX1_set_39 (by decide) (fun c39 => ?_) (fun c39 => ?_)
          · exact absurd c39 (by decide)
          · refine lv_iload_n hx hb dX1_set_42 rfl (lv_at hl 0 rfl) ?_
            refine lv_goto (tgt := 47) hx hb dX1_set_43 (by decide) ?_
            exact eMi hQ hx hb hr hlk hP hD hS (Nat.le_of_ble_eq_true rfl) (Nat.le_of_ble_eq_true rfl) dX1_set_47 (⟨σ 12 0, c36, d36, rfl, rfl, by omega⟩)
        · have hP : va_P G gcl (wD ad ty hv (up (up σ 11 (sc (c36))) 12 (sc (d36))) ς κ ++ cs) H := hP
          have hD : va_D A (wD ad ty hv (up (up σ 11 (sc (c36))) 12 (sc (d36))) ς κ ++ cs) := hD
          have hb36 : (¬ (w1 = 0 ∧ 0 ≤ n1 ∧ n1 ≤ 100) ∧ ¬ (w1 = 1 ∧ 1 ≤ n1 ∧ n1 ≤ 999) ∧ c36 = (σ 11 0) ∧ d36 = (σ 12 0)) := hb36
          refine li_if_eq (tgt := 46) hx hb ⟨by decide, by decide⟩ dX1_set_39 (by decide) (fun c39 => ?_) (fun c39 => ?_)
          · refine li_iconst hx hb dX1_set_46 ?_
            exact eMi hQ hx hb hr hlk hP hD hS (Nat.le_of_ble_eq_true rfl) (Nat.le_of_ble_eq_true rfl) dX1_set_47 (⟨-1, c36, d36, rfl, rfl, by omega⟩)
          · exact absurd c39 (by decide)
      · refine lv_aload_n hx hb dX1_set_15 rfl (lv_at hl 0 rfl) ?_
        refine va_get (D := G) (ci := 0) (v := .ref (ad 1)) (C := RX1) (T := TX1) (N := 21) hx hb hts in_X1 hown hK hP 0 (aD_0 _ _ _ _ _ _ _) rfl 0 (by decide) (hts _ q977) (fun _ h9 => h9) rfl dX1_set_16 ?_
        refine va_get (D := G) (ci := 1) (v := .int (ii (σ 11 0))) (C := RX2) (T := TX2) (N := 13) hx hb hts in_X2 hown hK hP 1 (aD_1 _ _ _ _ _ _ _) rfl 9 (by decide) (hts _ q804) (fun _ h9 => h9) rfl dX1_set_19 ?_
        refine lv_goto (tgt := 32) hx hb dX1_set_22 (by decide) ?_
        refine lv_istore_n (lv' := [(3, .int (ii (σ 11 0))), (0, .ref (ad 0)), (1, .int (ii w1)), (2, .int (ii n1))]) hx hb dX1_set_32 rfl hl (by decide) rfl (fun ls hl => ?_)
        refine lv_aload_n hx hb dX1_set_33 rfl (lv_at hl 1 rfl) ?_
        refine lv_iload_n hx hb dX1_set_34 rfl (lv_at hl 2 rfl) ?_
        refine lv_iload_n hx hb dX1_set_35 rfl (lv_at hl 3 rfl) ?_
        refine kM (va_runV (As := [.int (ii w1), .int (ii n1)]) (rest := []) ⟨hx, hb, hml, hown, hts⟩ ((m_sets l G ad ty hv σ ς κ cs w1 n1 (show rg w1 from hw1_) (show rg n1 from hn1_) (show 0 ≤ w1 ∧ w1 ≤ 1 from ⟨by omega, by omega⟩)) H.size) (cwV 2 hts (lw_V q320 q322 qs14 q76 q323) rfl rfl rfl (by decide +kernel) ⟨Nat.le_of_ble_eq_true rfl, Nat.le_of_ble_eq_true rfl⟩) (pvM (r := (RX1, TX1, 21)) hK hP hD hX 0 (aD_0 _ _ _ _ _ _ _) rfl) rfl rfl hl.1 rfl (lv_room (Nat.le_of_ble_eq_true rfl)) dX1_set_36 ⟨Nat.le_of_ble_eq_true rfl, Nat.le_of_ble_eq_true rfl⟩) hD hS hA (fun v ws1 H locs hv hP hD hS => ?_)
        obtain ⟨z36, c36, d36, rfl, rfl, ⟨rfl, hb36⟩ | ⟨rfl, hb36⟩⟩ := hv
        · have hP : va_P G gcl (wD ad ty hv (up (up σ 11 (sc (c36))) 12 (sc (d36))) ς κ ++ cs) H := hP
          have hD : va_D A (wD ad ty hv (up (up σ 11 (sc (c36))) 12 (sc (d36))) ς κ ++ cs) := hD
          have hb36 : (((w1 = 0 ∧ 0 ≤ n1 ∧ n1 ≤ 100) ∧ c36 = n1 ∧ d36 = (σ 12 0)) ∨ ((w1 = 1 ∧ 1 ≤ n1 ∧ n1 ≤ 999) ∧ c36 = (σ 11 0) ∧ d36 = n1)) := hb36
          refine li_if_eq (tgt := 46) hx hb ⟨by decide, by decide⟩ dX1_set_39 (by decide) (fun c39 => ?_) (fun c39 => ?_)
          · exact absurd c39 (by decide)
          · refine lv_iload_n hx hb dX1_set_42 rfl (lv_at hl 0 rfl) ?_
            refine lv_goto (tgt := 47) hx hb dX1_set_43 (by decide) ?_
            exact eMi hQ hx hb hr hlk hP hD hS (Nat.le_of_ble_eq_true rfl) (Nat.le_of_ble_eq_true rfl) dX1_set_47 (⟨σ 11 0, c36, d36, rfl, rfl, by omega⟩)
        · have hP : va_P G gcl (wD ad ty hv (up (up σ 11 (sc (c36))) 12 (sc (d36))) ς κ ++ cs) H := hP
          have hD : va_D A (wD ad ty hv (up (up σ 11 (sc (c36))) 12 (sc (d36))) ς κ ++ cs) := hD
          have hb36 : (¬ (w1 = 0 ∧ 0 ≤ n1 ∧ n1 ≤ 100) ∧ ¬ (w1 = 1 ∧ 1 ≤ n1 ∧ n1 ≤ 999) ∧ c36 = (σ 11 0) ∧ d36 = (σ 12 0)) := hb36
          refine li_if_eq (tgt := 46) hx hb ⟨by decide, by decide⟩ dX1_set_39 (by decide) (fun c39 => ?_) (fun c39 => ?_)
          · refine li_iconst hx hb dX1_set_46 ?_
            exact eMi hQ hx hb hr hlk hP hD hS (Nat.le_of_ble_eq_true rfl) (Nat.le_of_ble_eq_true rfl) dX1_set_47 (⟨-1, c36, d36, rfl, rfl, by omega⟩)
          · exact absurd c39 (by decide)
    · exact absurd c6 (by decide)
  · refine li_if_ne (tgt := 11) hx hb ⟨by decide, by decide⟩ dX1_set_6 (by decide) (fun c6 => ?_) (fun c6 => ?_)
    · exact absurd c6 (by decide)
    · refine li_iconst hx hb dX1_set_9 ?_
      exact eMi hQ hx hb hr hlk hP hD hS (Nat.le_of_ble_eq_true rfl) (Nat.le_of_ble_eq_true rfl) dX1_set_10 (⟨-1, σ 11 0, σ 12 0, rfl, rfl, by omega⟩)
set_option maxHeartbeats 4000000 in
theorem m_setM (l : Launch) (G : va_G) (am : Nat → Nat) (ty : Nat → ClassId) (τ ρ : mem) (cs : va_W) (w1 : Int) (n1 : Int) (F : mem) (hF : okF F) (hSm : Sim F τ) (hw1_ : rg w1) (hn1_ : rg n1) : cM l yX12_set (ws_ yX12_set cX12_set 4 (some .int)) (rm4 1 0 0 25) G ty (wM am ty τ ρ ++ cs) [.ref (am 0), .int (ii w1), .int (ii n1)] 0 0 (fun r W' => ∃ (z : Int) (c : Int) (d : Int), r = some (.int (ii z)) ∧ W' = wM am ty (up (up τ 11 (sc (c))) 12 (sc (d))) (up ρ 14 (sc (0))) ++ cs ∧ (((w1 = 0 ∧ 0 ≤ n1 ∧ n1 ≤ 100) ∧ z = F 11 0 ∧ c = n1 ∧ d = F 12 0) ∨ ((w1 = 1 ∧ 1 ≤ n1 ∧ n1 ≤ 999) ∧ z = F 12 0 ∧ c = F 11 0 ∧ d = n1) ∨ (¬ (w1 = 0 ∧ 0 ≤ n1 ∧ n1 ≤ 100) ∧ ¬ (w1 = 1 ∧ 1 ≤ n1 ∧ n1 ≤ 999) ∧ z = -1 ∧ c = F 11 0 ∧ d = F 12 0)) ∧ (Sim (up (up F 11 (sc c)) 12 (sc d)) (up (up τ 11 (sc c)) 12 (sc d)))) := by
  refine cM.of (by decide) (Nat.le_of_ble_eq_true rfl) ?_
  intro p e s m args below meth c A Q H locs hQ hx hb hr hml hown hlk hname hts hK hP hD hS hA hX ls hl
  have hl : lv_has ls 4 [(0, .ref (am 0)), (1, .int (ii w1)), (2, .int (ii n1))] := hl
  obtain ⟨hW, hWS, hlg⟩ := id hF
  obtain ⟨hw0, hw1, hw2, hw3, hw4, hw5, h8a, h8b, h9a, h9b, h10a, h10b⟩ := id hW
  obtain ⟨mL, mP, mR, mC, mK, mM, mA, mB, mD⟩ := id hSm
  obtain ⟨hw1_a, hw1_b⟩ := id hw1_
  obtain ⟨hn1_a, hn1_b⟩ := id hn1_
  refine lv_aload_n hx hb dX12_set_0 rfl (lv_at hl 0 rfl) ?_
  refine li_iconst hx hb dX12_set_1 ?_
  refine va_put (D := G) (ci := 11) (v := .int (ii 0)) (ty := .int) (C := RX12) (T := TX12) (N := 52) hx hb hts in_X12 tyX12 tyX12_ok nmX12 hown hK hP hD hS 0 (aM_0 _ _ _ _ _) rfl 14 (by decide) (hts _ q1279) (fun _ h9 => h9) rfl (tyX12_ok 14 (by decide)) rfl rfl (Nat.le_of_ble_eq_true rfl) dX12_set_2 (fun H locs hP hD hS => ?_)
  have hP : va_P G gcl (wM am ty τ (up ρ 14 (sc (0))) ++ cs) H := hP
  have hD : va_D A (wM am ty τ (up ρ 14 (sc (0))) ++ cs) := hD
  refine lv_iload_n hx hb dX12_set_5 rfl (lv_at hl 1 rfl) ?_
  refine lv_i2l (v := ll w1) hx hb dX12_set_6 (ll_i hw1_) ?_
  refine lv_lconst (v := ll 0) hx hb dX12_set_7 (by decide) ?_
  refine lv_lconst (v := ll 1) hx hb dX12_set_8 (by decide) ?_
  refine kR (va_runS (As := [.long (ll (w1)), .long (ll (0)), .long (ll (1))]) (rest := []) ⟨hx, hb, hml, hown, hts⟩ (m_inM l G ty (wM am ty τ (up ρ 14 (sc (0))) ++ cs) w1 0 1 (rg_rl hw1_) ⟨by decide, by decide⟩ ⟨by decide, by decide⟩) (va_cwS 3 hts (lw_S q1436 q1437 q87 q1438) rfl rfl rfl (by decide +kernel) ⟨Nat.le_of_ble_eq_true rfl, Nat.le_of_ble_eq_true rfl⟩) (psR hK hP hD hX) rfl rfl hl.1 rfl (lv_room (Nat.le_of_ble_eq_true rfl)) dX12_set_9 ⟨Nat.le_of_ble_eq_true rfl, Nat.le_of_ble_eq_true rfl⟩) (fun v hv => ?_)
  obtain ⟨z9, rfl, ⟨rfl, h9⟩ | ⟨rfl, h9⟩⟩ := hv
  · refine li_if_eq (tgt := 38) hx hb ⟨by decide, by decide⟩ dX12_set_12 (by decide) (fun c12 => ?_) (fun c12 => ?_)
    · exact absurd c12 (by decide)
    · refine lv_iload_n hx hb dX12_set_15 rfl (lv_at hl 2 rfl) ?_
      refine lv_i2l (v := ll n1) hx hb dX12_set_16 (ll_i hn1_) ?_
      refine lv_iload_n hx hb dX12_set_17 rfl (lv_at hl 1 rfl) ?_
      refine lv_i2l (v := ll w1) hx hb dX12_set_18 (ll_i hw1_) ?_
      refine lv_iload_n hx hb dX12_set_19 rfl (lv_at hl 1 rfl) ?_
      refine li_if_ne (tgt := 29) hx hb hw1_ dX12_set_20 (by decide) (fun c20 => ?_) (fun c20 => ?_)
      · refine lv_ldc2 (v := ll 999) hx hb hown (hts _ q1471) dX12_set_29 ?_
        refine kR (va_runS (As := [.long (ll (n1)), .long (ll (w1)), .long (ll (999))]) (rest := []) ⟨hx, hb, hml, hown, hts⟩ (m_inM l G ty (wM am ty τ (up ρ 14 (sc (0))) ++ cs) n1 w1 999 (rg_rl hn1_) (rg_rl hw1_) ⟨by decide, by decide⟩) (va_cwS 3 hts (lw_S q1436 q1437 q87 q1438) rfl rfl rfl (by decide +kernel) ⟨Nat.le_of_ble_eq_true rfl, Nat.le_of_ble_eq_true rfl⟩) (psR hK hP hD hX) rfl rfl hl.1 rfl (lv_room (Nat.le_of_ble_eq_true rfl)) dX12_set_32 ⟨Nat.le_of_ble_eq_true rfl, Nat.le_of_ble_eq_true rfl⟩) (fun v hv => ?_)
        obtain ⟨z32, rfl, ⟨rfl, h32⟩ | ⟨rfl, h32⟩⟩ := hv
        · refine li_if_ne (tgt := 40) hx hb ⟨by decide, by decide⟩ dX12_set_35 (by decide) (fun c35 => ?_) (fun c35 => ?_)
          · refine lv_iload_n hx hb dX12_set_40 rfl (lv_at hl 1 rfl) ?_
            refine li_if_ne (tgt := 51) hx hb hw1_ dX12_set_41 (by decide) (fun c41 => ?_) (fun c41 => ?_)
            · refine lv_aload_n hx hb dX12_set_51 rfl (lv_at hl 0 rfl) ?_
              refine va_get (D := G) (ci := 11) (v := .int (ii (τ 12 0))) (C := RX12) (T := TX12) (N := 52) hx hb hts in_X12 hown hK hP 0 (aM_0 _ _ _ _ _) rfl 12 (by decide) (hts _ q1277) (fun _ h9 => h9) rfl dX12_set_52 ?_
              refine lv_istore_n (lv' := [(3, .int (ii (τ 12 0))), (0, .ref (am 0)), (1, .int (ii w1)), (2, .int (ii n1))]) hx hb dX12_set_55 rfl hl (by decide) rfl (fun ls hl => ?_)
              refine lv_aload_n hx hb dX12_set_56 rfl (lv_at hl 1 rfl) ?_
              refine lv_iload_n hx hb dX12_set_57 rfl (lv_at hl 2 rfl) ?_
              refine li_if_ne (tgt := 65) hx hb hw1_ dX12_set_58 (by decide) (fun c58 => ?_) (fun c58 => ?_)
              · refine lv_aload_n hx hb dX12_set_65 rfl (lv_at hl 1 rfl) ?_
                refine va_get (D := G) (ci := 11) (v := .int (ii (τ 11 0))) (C := RX12) (T := TX12) (N := 52) hx hb hts in_X12 hown hK hP 0 (aM_0 _ _ _ _ _) rfl 11 (by decide) (hts _ q1276) (fun _ h9 => h9) rfl dX12_set_66 ?_
                refine va_put (D := G) (ci := 11) (v := .int (ii (τ 11 0))) (ty := .int) (C := RX12) (T := TX12) (N := 52) hx hb hts in_X12 tyX12 tyX12_ok nmX12 hown hK hP hD hS 0 (aM_0 _ _ _ _ _) rfl 11 (by decide) (hts _ q1276) (fun _ h9 => h9) rfl (tyX12_ok 11 (by decide)) rfl rfl (Nat.le_of_ble_eq_true rfl) dX12_set_69 (fun H locs hP hD hS => ?_)
                have hP : va_P G gcl (wM am ty (up τ 11 (sc (τ 11 0))) (up ρ 14 (sc (0))) ++ cs) H := hP
                have hD : va_D A (wM am ty (up τ 11 (sc (τ 11 0))) (up ρ 14 (sc (0))) ++ cs) := hD
                refine lv_aload_n hx hb dX12_set_72 rfl (lv_at hl 1 rfl) ?_
                refine lv_iload_n hx hb dX12_set_73 rfl (lv_at hl 2 rfl) ?_
                refine li_iconst hx hb dX12_set_74 ?_
                refine li_icmp_ne (tgt := 82) hx hb hw1_ ⟨by decide, by decide⟩ dX12_set_75 (by decide) (fun c75 => ?_) (fun c75 => ?_)
                · refine lv_aload_n hx hb dX12_set_82 rfl (lv_at hl 1 rfl) ?_
                  refine va_get (D := G) (ci := 11) (v := .int (ii (τ 12 0))) (C := RX12) (T := TX12) (N := 52) hx hb hts in_X12 hown hK hP 0 (aM_0 _ _ _ _ _) rfl 12 (by decide) (hts _ q1277) (fun _ h9 => h9) rfl dX12_set_83 ?_
                  refine va_put (D := G) (ci := 11) (v := .int (ii (τ 12 0))) (ty := .int) (C := RX12) (T := TX12) (N := 52) hx hb hts in_X12 tyX12 tyX12_ok nmX12 hown hK hP hD hS 0 (aM_0 _ _ _ _ _) rfl 12 (by decide) (hts _ q1277) (fun _ h9 => h9) rfl (tyX12_ok 12 (by decide)) rfl rfl (Nat.le_of_ble_eq_true rfl) dX12_set_86 (fun H locs hP hD hS => ?_)
                  have hP : va_P G gcl (wM am ty (up (up τ 11 (sc (τ 11 0))) 12 (sc (τ 12 0))) (up ρ 14 (sc (0))) ++ cs) H := hP
                  have hD : va_D A (wM am ty (up (up τ 11 (sc (τ 11 0))) 12 (sc (τ 12 0))) (up ρ 14 (sc (0))) ++ cs) := hD
                  refine lv_iload_n hx hb dX12_set_89 rfl (lv_at hl 0 rfl) ?_
                  exact eMi hQ hx hb hr hlk hP hD hS (Nat.le_of_ble_eq_true rfl) (Nat.le_of_ble_eq_true rfl) dX12_set_90 (⟨τ 12 0, τ 11 0, τ 12 0, rfl, rfl, by omega, Sim_set hSm⟩)
                · refine lv_iload_n hx hb dX12_set_78 rfl (lv_at hl 3 rfl) ?_
                  refine lv_goto (tgt := 86) hx hb dX12_set_79 (by decide) ?_
                  refine va_put (D := G) (ci := 11) (v := .int (ii n1)) (ty := .int) (C := RX12) (T := TX12) (N := 52) hx hb hts in_X12 tyX12 tyX12_ok nmX12 hown hK hP hD hS 0 (aM_0 _ _ _ _ _) rfl 12 (by decide) (hts _ q1277) (fun _ h9 => h9) rfl (tyX12_ok 12 (by decide)) rfl rfl (Nat.le_of_ble_eq_true rfl) dX12_set_86 (fun H locs hP hD hS => ?_)
                  have hP : va_P G gcl (wM am ty (up (up τ 11 (sc (τ 11 0))) 12 (sc (n1))) (up ρ 14 (sc (0))) ++ cs) H := hP
                  have hD : va_D A (wM am ty (up (up τ 11 (sc (τ 11 0))) 12 (sc (n1))) (up ρ 14 (sc (0))) ++ cs) := hD
                  refine lv_iload_n hx hb dX12_set_89 rfl (lv_at hl 0 rfl) ?_
                  exact eMi hQ hx hb hr hlk hP hD hS (Nat.le_of_ble_eq_true rfl) (Nat.le_of_ble_eq_true rfl) dX12_set_90 (⟨τ 12 0, τ 11 0, n1, rfl, rfl, by omega, Sim_set hSm⟩)
              · exfalso
                omega
            · exfalso
              omega
          · exact absurd c35 (by decide)
        · refine li_if_ne (tgt := 40) hx hb ⟨by decide, by decide⟩ dX12_set_35 (by decide) (fun c35 => ?_) (fun c35 => ?_)
          · exact absurd c35 (by decide)
          · refine li_iconst hx hb dX12_set_38 ?_
            exact eMi hQ hx hb hr hlk hP hD hS (Nat.le_of_ble_eq_true rfl) (Nat.le_of_ble_eq_true rfl) dX12_set_39 (⟨-1, τ 11 0, τ 12 0, rfl, rfl, by omega, Sim_set hSm⟩)
      · refine lv_ldc2 (v := ll 100) hx hb hown (hts _ q1485) dX12_set_23 ?_
        refine lv_goto (tgt := 32) hx hb dX12_set_26 (by decide) ?_
        refine kR (va_runS (As := [.long (ll (n1)), .long (ll (w1)), .long (ll (100))]) (rest := []) ⟨hx, hb, hml, hown, hts⟩ (m_inM l G ty (wM am ty τ (up ρ 14 (sc (0))) ++ cs) n1 w1 100 (rg_rl hn1_) (rg_rl hw1_) ⟨by decide, by decide⟩) (va_cwS 3 hts (lw_S q1436 q1437 q87 q1438) rfl rfl rfl (by decide +kernel) ⟨Nat.le_of_ble_eq_true rfl, Nat.le_of_ble_eq_true rfl⟩) (psR hK hP hD hX) rfl rfl hl.1 rfl (lv_room (Nat.le_of_ble_eq_true rfl)) dX12_set_32 ⟨Nat.le_of_ble_eq_true rfl, Nat.le_of_ble_eq_true rfl⟩) (fun v hv => ?_)
        obtain ⟨z32, rfl, ⟨rfl, h32⟩ | ⟨rfl, h32⟩⟩ := hv
        · refine li_if_ne (tgt := 40) hx hb ⟨by decide, by decide⟩ dX12_set_35 (by decide) (fun c35 => ?_) (fun c35 => ?_)
          · refine lv_iload_n hx hb dX12_set_40 rfl (lv_at hl 1 rfl) ?_
            refine li_if_ne (tgt := 51) hx hb hw1_ dX12_set_41 (by decide) (fun c41 => ?_) (fun c41 => ?_)
            · exfalso
              omega
            · refine lv_aload_n hx hb dX12_set_44 rfl (lv_at hl 0 rfl) ?_
              refine va_get (D := G) (ci := 11) (v := .int (ii (τ 11 0))) (C := RX12) (T := TX12) (N := 52) hx hb hts in_X12 hown hK hP 0 (aM_0 _ _ _ _ _) rfl 11 (by decide) (hts _ q1276) (fun _ h9 => h9) rfl dX12_set_45 ?_
              refine lv_goto (tgt := 55) hx hb dX12_set_48 (by decide) ?_
              refine lv_istore_n (lv' := [(3, .int (ii (τ 11 0))), (0, .ref (am 0)), (1, .int (ii w1)), (2, .int (ii n1))]) hx hb dX12_set_55 rfl hl (by decide) rfl (fun ls hl => ?_)
              refine lv_aload_n hx hb dX12_set_56 rfl (lv_at hl 1 rfl) ?_
              refine lv_iload_n hx hb dX12_set_57 rfl (lv_at hl 2 rfl) ?_
              refine li_if_ne (tgt := 65) hx hb hw1_ dX12_set_58 (by decide) (fun c58 => ?_) (fun c58 => ?_)
              · exfalso
                omega
              · refine lv_iload_n hx hb dX12_set_61 rfl (lv_at hl 3 rfl) ?_
                refine lv_goto (tgt := 69) hx hb dX12_set_62 (by decide) ?_
                refine va_put (D := G) (ci := 11) (v := .int (ii n1)) (ty := .int) (C := RX12) (T := TX12) (N := 52) hx hb hts in_X12 tyX12 tyX12_ok nmX12 hown hK hP hD hS 0 (aM_0 _ _ _ _ _) rfl 11 (by decide) (hts _ q1276) (fun _ h9 => h9) rfl (tyX12_ok 11 (by decide)) rfl rfl (Nat.le_of_ble_eq_true rfl) dX12_set_69 (fun H locs hP hD hS => ?_)
                have hP : va_P G gcl (wM am ty (up τ 11 (sc (n1))) (up ρ 14 (sc (0))) ++ cs) H := hP
                have hD : va_D A (wM am ty (up τ 11 (sc (n1))) (up ρ 14 (sc (0))) ++ cs) := hD
                refine lv_aload_n hx hb dX12_set_72 rfl (lv_at hl 1 rfl) ?_
                refine lv_iload_n hx hb dX12_set_73 rfl (lv_at hl 2 rfl) ?_
                refine li_iconst hx hb dX12_set_74 ?_
                refine li_icmp_ne (tgt := 82) hx hb hw1_ ⟨by decide, by decide⟩ dX12_set_75 (by decide) (fun c75 => ?_) (fun c75 => ?_)
                · refine lv_aload_n hx hb dX12_set_82 rfl (lv_at hl 1 rfl) ?_
                  refine va_get (D := G) (ci := 11) (v := .int (ii (τ 12 0))) (C := RX12) (T := TX12) (N := 52) hx hb hts in_X12 hown hK hP 0 (aM_0 _ _ _ _ _) rfl 12 (by decide) (hts _ q1277) (fun _ h9 => h9) rfl dX12_set_83 ?_
                  refine va_put (D := G) (ci := 11) (v := .int (ii (τ 12 0))) (ty := .int) (C := RX12) (T := TX12) (N := 52) hx hb hts in_X12 tyX12 tyX12_ok nmX12 hown hK hP hD hS 0 (aM_0 _ _ _ _ _) rfl 12 (by decide) (hts _ q1277) (fun _ h9 => h9) rfl (tyX12_ok 12 (by decide)) rfl rfl (Nat.le_of_ble_eq_true rfl) dX12_set_86 (fun H locs hP hD hS => ?_)
                  have hP : va_P G gcl (wM am ty (up (up τ 11 (sc (n1))) 12 (sc (τ 12 0))) (up ρ 14 (sc (0))) ++ cs) H := hP
                  have hD : va_D A (wM am ty (up (up τ 11 (sc (n1))) 12 (sc (τ 12 0))) (up ρ 14 (sc (0))) ++ cs) := hD
                  refine lv_iload_n hx hb dX12_set_89 rfl (lv_at hl 0 rfl) ?_
                  exact eMi hQ hx hb hr hlk hP hD hS (Nat.le_of_ble_eq_true rfl) (Nat.le_of_ble_eq_true rfl) dX12_set_90 (⟨τ 11 0, n1, τ 12 0, rfl, rfl, by omega, Sim_set hSm⟩)
                · refine lv_iload_n hx hb dX12_set_78 rfl (lv_at hl 3 rfl) ?_
                  refine lv_goto (tgt := 86) hx hb dX12_set_79 (by decide) ?_
                  refine va_put (D := G) (ci := 11) (v := .int (ii n1)) (ty := .int) (C := RX12) (T := TX12) (N := 52) hx hb hts in_X12 tyX12 tyX12_ok nmX12 hown hK hP hD hS 0 (aM_0 _ _ _ _ _) rfl 12 (by decide) (hts _ q1277) (fun _ h9 => h9) rfl (tyX12_ok 12 (by decide)) rfl rfl (Nat.le_of_ble_eq_true rfl) dX12_set_86 (fun H locs hP hD hS => ?_)
                  have hP : va_P G gcl (wM am ty (up (up τ 11 (sc (n1))) 12 (sc (n1))) (up ρ 14 (sc (0))) ++ cs) H := hP
                  have hD : va_D A (wM am ty (up (up τ 11 (sc (n1))) 12 (sc (n1))) (up ρ 14 (sc (0))) ++ cs) := hD
                  refine lv_iload_n hx hb dX12_set_89 rfl (lv_at hl 0 rfl) ?_
                  exact eMi hQ hx hb hr hlk hP hD hS (Nat.le_of_ble_eq_true rfl) (Nat.le_of_ble_eq_true rfl) dX12_set_90 (⟨τ 11 0, n1, n1, rfl, rfl, by omega, Sim_set hSm⟩)
          · exact absurd c35 (by decide)
        · refine li_if_ne (tgt := 40) hx hb ⟨by decide, by decide⟩ dX12_set_35 (by decide) (fun c35 => ?_) (fun c35 => ?_)
          · exact absurd c35 (by decide)
          · refine li_iconst hx hb dX12_set_38 ?_
            exact eMi hQ hx hb hr hlk hP hD hS (Nat.le_of_ble_eq_true rfl) (Nat.le_of_ble_eq_true rfl) dX12_set_39 (⟨-1, τ 11 0, τ 12 0, rfl, rfl, by omega, Sim_set hSm⟩)
  · refine li_if_eq (tgt := 38) hx hb ⟨by decide, by decide⟩ dX12_set_12 (by decide) (fun c12 => ?_) (fun c12 => ?_)
    · refine li_iconst hx hb dX12_set_38 ?_
      exact eMi hQ hx hb hr hlk hP hD hS (Nat.le_of_ble_eq_true rfl) (Nat.le_of_ble_eq_true rfl) dX12_set_39 (⟨-1, τ 11 0, τ 12 0, rfl, rfl, by omega, Sim_set hSm⟩)
    · exact absurd c12 (by decide)
set_option maxHeartbeats 4000000 in
theorem m_cut (l : Launch) (G : va_G) (ad : Nat → Nat) (ty : Nat → ClassId) (hv : Nat → Option Nat) (σ ς κ : mem) (cs : va_W) (l1 : Int) (n1 : Int)  (hF : okF σ) (hl1 : rg l1) (hn1_ : rg n1) : cM l yX1_cut (ws_ yX1_cut cX1_cut 4 (some .int)) (rm4 2 0 0 43) G ty (wD ad ty hv σ ς κ ++ cs) [.ref (ad 0), .int (ii l1), .int (ii n1)] 0 0 (fun r W' => ∃ (z : Int) (g : Int → Int), r = some (.int (ii z)) ∧ W' = wD ad ty hv (up σ 5 g) ς κ ++ cs ∧ ((((0 ≤ l1 ∧ l1 < (σ 10 0)) ∧ 1 ≤ n1 ∧ n1 ≤ (σ 5) l1) ∧ z = (σ 5) l1 ∧ g = ug (σ 5) l1 n1) ∨ (¬ ((0 ≤ l1 ∧ l1 < (σ 10 0)) ∧ 1 ≤ n1 ∧ n1 ≤ (σ 5) l1) ∧ z = -1 ∧ g = (σ 5)))) := by
  refine cM.of (by decide) (Nat.le_of_ble_eq_true rfl) ?_
  intro p e s m args below meth c A Q H locs hQ hx hb hr hml hown hlk hname hts hK hP hD hS hA hX ls hl
  have hl : lv_has ls 4 [(0, .ref (ad 0)), (1, .int (ii l1)), (2, .int (ii n1))] := hl
  obtain ⟨hW, hWS, hlg⟩ := id hF
  obtain ⟨hw0, hw1, hw2, hw3, hw4, hw5, h8a, h8b, h9a, h9b, h10a, h10b⟩ := id hW
  obtain ⟨hs0, hs1⟩ := id hWS
  obtain ⟨hl1a, hl1b⟩ := id hl1
  obtain ⟨hn1_a, hn1_b⟩ := id hn1_
  refine lv_aload_n hx hb dX1_cut_0 rfl (lv_at hl 0 rfl) ?_
  refine lv_iload_n hx hb dX1_cut_1 rfl (lv_at hl 1 rfl) ?_
  refine kR (va_runV (As := [.int (ii l1)]) (rest := []) ⟨hx, hb, hml, hown, hts⟩ (m_isRope l G ad ty hv σ ς κ cs l1 (show okF σ from hF) (show rg l1 from hl1)) (cwV 1 hts (lw_V q345 q347 qs15 q76 q348) rfl rfl rfl (by decide +kernel) ⟨Nat.le_of_ble_eq_true rfl, Nat.le_of_ble_eq_true rfl⟩) (pvR (r := (RX1, TX1, 21)) hK hP hD hX 0 (aD_0 _ _ _ _ _ _ _) rfl) rfl rfl hl.1 rfl (lv_room (Nat.le_of_ble_eq_true rfl)) dX1_cut_2 ⟨Nat.le_of_ble_eq_true rfl, Nat.le_of_ble_eq_true rfl⟩) (fun v hv => ?_)
  obtain ⟨z2, rfl, ⟨rfl, hb2⟩ | ⟨rfl, hb2⟩⟩ := hv
  · have hb2 : 0 ≤ l1 ∧ l1 < (σ 10 0) := hb2
    refine li_if_eq (tgt := 25) hx hb ⟨by decide, by decide⟩ dX1_cut_5 (by decide) (fun c5 => ?_) (fun c5 => ?_)
    · exact absurd c5 (by decide)
    · refine lv_iload_n hx hb dX1_cut_8 rfl (lv_at hl 2 rfl) ?_
      refine li_iconst hx hb dX1_cut_9 ?_
      refine lv_aload_n hx hb dX1_cut_10 rfl (lv_at hl 0 rfl) ?_
      refine va_get (D := G) (ci := 0) (v := .ref (ad 1)) (C := RX1) (T := TX1) (N := 21) hx hb hts in_X1 hown hK hP 0 (aD_0 _ _ _ _ _ _ _) rfl 0 (by decide) (hts _ q977) (fun _ h9 => h9) rfl dX1_cut_11 ?_
      refine va_get (D := G) (ci := 1) (v := .ref (ad 7)) (C := RX2) (T := TX2) (N := 13) hx hb hts in_X2 hown hK hP 1 (aD_1 _ _ _ _ _ _ _) rfl 7 (by decide) (hts _ q799) (fun _ h9 => h9) rfl dX1_cut_14 ?_
      refine lv_iload_n hx hb dX1_cut_17 rfl (lv_at hl 1 rfl) ?_
      refine li_iald (g := (σ 5)) hx hb hK hP 7 0 (aD_7 _ _ _ _ _ _ _) rfl (by omega) (by omega) (by decide) dX1_cut_18 ?_
      have r19 := hw5 l1
      refine kR (va_runS (As := [.int (ii n1), .int (ii 1), .int (ii (σ 5 l1))]) (rest := []) ⟨hx, hb, hml, hown, hts⟩ (m_isIn l G ty (wD ad ty hv σ ς κ ++ cs) n1 1 (σ 5 l1) hn1_ ⟨by decide, by decide⟩ (rgi r19.1 r19.2)) (va_cwS 3 hts (lw_S q117 q118 q76 q119) rfl rfl rfl (by decide +kernel) ⟨Nat.le_of_ble_eq_true rfl, Nat.le_of_ble_eq_true rfl⟩) (psR hK hP hD hX) rfl rfl hl.1 rfl (lv_room (Nat.le_of_ble_eq_true rfl)) dX1_cut_19 ⟨Nat.le_of_ble_eq_true rfl, Nat.le_of_ble_eq_true rfl⟩) (fun v hv => ?_)
      obtain ⟨z19, rfl, ⟨rfl, h19⟩ | ⟨rfl, h19⟩⟩ := hv
      · refine li_if_ne (tgt := 27) hx hb ⟨by decide, by decide⟩ dX1_cut_22 (by decide) (fun c22 => ?_) (fun c22 => ?_)
        · refine lv_aload_n hx hb dX1_cut_27 rfl (lv_at hl 0 rfl) ?_
          refine va_get (D := G) (ci := 0) (v := .ref (ad 1)) (C := RX1) (T := TX1) (N := 21) hx hb hts in_X1 hown hK hP 0 (aD_0 _ _ _ _ _ _ _) rfl 0 (by decide) (hts _ q977) (fun _ h9 => h9) rfl dX1_cut_28 ?_
          refine va_get (D := G) (ci := 1) (v := .ref (ad 7)) (C := RX2) (T := TX2) (N := 13) hx hb hts in_X2 hown hK hP 1 (aD_1 _ _ _ _ _ _ _) rfl 7 (by decide) (hts _ q799) (fun _ h9 => h9) rfl dX1_cut_31 ?_
          refine lv_iload_n hx hb dX1_cut_34 rfl (lv_at hl 1 rfl) ?_
          refine li_iald (g := (σ 5)) hx hb hK hP 7 0 (aD_7 _ _ _ _ _ _ _) rfl (by omega) (by omega) (by decide) dX1_cut_35 ?_
          have r36 := hw5 l1
          refine lv_istore_n (lv' := [(3, .int (ii (σ 5 l1))), (0, .ref (ad 0)), (1, .int (ii l1)), (2, .int (ii n1))]) hx hb dX1_cut_36 rfl hl (by decide) rfl (fun ls hl => ?_)
          refine lv_aload_n hx hb dX1_cut_37 rfl (lv_at hl 1 rfl) ?_
          refine va_get (D := G) (ci := 0) (v := .ref (ad 1)) (C := RX1) (T := TX1) (N := 21) hx hb hts in_X1 hown hK hP 0 (aD_0 _ _ _ _ _ _ _) rfl 0 (by decide) (hts _ q977) (fun _ h9 => h9) rfl dX1_cut_38 ?_
          refine va_get (D := G) (ci := 1) (v := .ref (ad 7)) (C := RX2) (T := TX2) (N := 13) hx hb hts in_X2 hown hK hP 1 (aD_1 _ _ _ _ _ _ _) rfl 7 (by decide) (hts _ q799) (fun _ h9 => h9) rfl dX1_cut_41 ?_
          refine lv_iload_n hx hb dX1_cut_44 rfl (lv_at hl 2 rfl) ?_
          refine lv_iload_n hx hb dX1_cut_45 rfl (lv_at hl 3 rfl) ?_
          refine li_iast (g := (σ 5)) (W2 := wD ad ty hv (up σ 5 (ug (σ 5) l1 n1)) ς κ ++ cs) hx hb hK hP hD hS 7 0 (aD_7 _ _ _ _ _ _ _) rfl (by omega) (by omega) (by decide) rfl dX1_cut_46 (fun H locs hP hD hS => ?_)
          refine lv_iload_n hx hb dX1_cut_47 rfl (lv_at hl 0 rfl) ?_
          exact eMi hQ hx hb hr hlk hP hD hS (Nat.le_of_ble_eq_true rfl) (Nat.le_of_ble_eq_true rfl) dX1_cut_48 (⟨σ 5 l1, (ug (σ 5) l1 n1), rfl, rfl, .inl ⟨by omega, rfl, rfl⟩⟩)
        · exact absurd c22 (by decide)
      · refine li_if_ne (tgt := 27) hx hb ⟨by decide, by decide⟩ dX1_cut_22 (by decide) (fun c22 => ?_) (fun c22 => ?_)
        · exact absurd c22 (by decide)
        · refine li_iconst hx hb dX1_cut_25 ?_
          exact eMi hQ hx hb hr hlk hP hD hS (Nat.le_of_ble_eq_true rfl) (Nat.le_of_ble_eq_true rfl) dX1_cut_26 (⟨-1, (σ 5), rfl, rfl, .inr ⟨by omega, rfl, rfl⟩⟩)
  · have hb2 : ¬ (0 ≤ l1 ∧ l1 < (σ 10 0)) := hb2
    refine li_if_eq (tgt := 25) hx hb ⟨by decide, by decide⟩ dX1_cut_5 (by decide) (fun c5 => ?_) (fun c5 => ?_)
    · refine li_iconst hx hb dX1_cut_25 ?_
      exact eMi hQ hx hb hr hlk hP hD hS (Nat.le_of_ble_eq_true rfl) (Nat.le_of_ble_eq_true rfl) dX1_cut_26 (⟨-1, (σ 5), rfl, rfl, .inr ⟨by omega, rfl, rfl⟩⟩)
    · exact absurd c5 (by decide)
set_option maxHeartbeats 4000000 in
theorem m_cutM (l : Launch) (G : va_G) (am : Nat → Nat) (ty : Nat → ClassId) (τ ρ : mem) (cs : va_W) (l1 : Int) (n1 : Int) (F : mem) (hF : okF F) (hSm : Sim F τ) (hl1 : rg l1) (hn1_ : rg n1) : cM l yX12_cut (ws_ yX12_cut cX12_cut 4 (some .int)) (rm4 1 0 0 25) G ty (wM am ty τ ρ ++ cs) [.ref (am 0), .int (ii l1), .int (ii n1)] 0 0 (fun r W' => ∃ (z : Int) (g : Int → Int) (is : Int), r = some (.int (ii z)) ∧ W' = wM am ty (up τ 8 g) (up (up ρ 14 (sc (0))) 36 (sc (is))) ++ cs ∧ ((((0 ≤ l1 ∧ l1 < F 10 0) ∧ 1 ≤ n1 ∧ n1 ≤ F 5 l1) ∧ z = F 5 l1 ∧ Sim (up F 5 (ug (F 5) l1 n1)) (up τ 8 g) ∧ is = 0) ∨ (¬ ((0 ≤ l1 ∧ l1 < F 10 0) ∧ 1 ≤ n1 ∧ n1 ≤ F 5 l1) ∧ z = -1 ∧ g = (τ 8) ∧ is = (ρ 36 0)))) := by
  refine cM.of (by decide) (Nat.le_of_ble_eq_true rfl) ?_
  intro p e s m args below meth c A Q H locs hQ hx hb hr hml hown hlk hname hts hK hP hD hS hA hX ls hl
  have hl : lv_has ls 4 [(0, .ref (am 0)), (1, .int (ii l1)), (2, .int (ii n1))] := hl
  obtain ⟨hW, hWS, hlg⟩ := id hF
  obtain ⟨hw0, hw1, hw2, hw3, hw4, hw5, h8a, h8b, h9a, h9b, h10a, h10b⟩ := id hW
  obtain ⟨mL, mP, mR, mC, mK, mM, mA, mB, mD⟩ := id hSm
  obtain ⟨hl1a, hl1b⟩ := id hl1
  obtain ⟨hn1_a, hn1_b⟩ := id hn1_
  refine lv_aload_n hx hb dX12_cut_0 rfl (lv_at hl 0 rfl) ?_
  refine li_iconst hx hb dX12_cut_1 ?_
  refine va_put (D := G) (ci := 11) (v := .int (ii 0)) (ty := .int) (C := RX12) (T := TX12) (N := 52) hx hb hts in_X12 tyX12 tyX12_ok nmX12 hown hK hP hD hS 0 (aM_0 _ _ _ _ _) rfl 14 (by decide) (hts _ q1279) (fun _ h9 => h9) rfl (tyX12_ok 14 (by decide)) rfl rfl (Nat.le_of_ble_eq_true rfl) dX12_cut_2 (fun H locs hP hD hS => ?_)
  have hP : va_P G gcl (wM am ty τ (up ρ 14 (sc (0))) ++ cs) H := hP
  have hD : va_D A (wM am ty τ (up ρ 14 (sc (0))) ++ cs) := hD
  refine lv_iload_n hx hb dX12_cut_5 rfl (lv_at hl 1 rfl) ?_
  refine lv_i2l (v := ll l1) hx hb dX12_cut_6 (ll_i hl1) ?_
  refine lv_lconst (v := ll 0) hx hb dX12_cut_7 (by decide) ?_
  refine lv_aload_n hx hb dX12_cut_8 rfl (lv_at hl 0 rfl) ?_
  refine va_get (D := G) (ci := 11) (v := .int (ii (τ 7 0))) (C := RX12) (T := TX12) (N := 52) hx hb hts in_X12 hown hK hP 0 (aM_0 _ _ _ _ _) rfl 7 (by decide) (hts _ q1272) (fun _ h9 => h9) rfl dX12_cut_9 ?_
  refine li_iconst hx hb dX12_cut_12 ?_
  refine li_sub hx hb dX12_cut_13 ?_
  refine lv_i2l (v := ll (τ 7 0 - 1)) hx hb dX12_cut_14 (ll_i ⟨by omega, by omega⟩) ?_
  refine kR (va_runS (As := [.long (ll (l1)), .long (ll (0)), .long (ll (τ 7 0 - 1))]) (rest := []) ⟨hx, hb, hml, hown, hts⟩ (m_inM l G ty (wM am ty τ (up ρ 14 (sc (0))) ++ cs) l1 0 (τ 7 0 - 1) (rg_rl hl1) ⟨by decide, by decide⟩ ⟨by omega, by omega⟩) (va_cwS 3 hts (lw_S q1436 q1437 q87 q1438) rfl rfl rfl (by decide +kernel) ⟨Nat.le_of_ble_eq_true rfl, Nat.le_of_ble_eq_true rfl⟩) (psR hK hP hD hX) rfl rfl hl.1 rfl (lv_room (Nat.le_of_ble_eq_true rfl)) dX12_cut_15 ⟨Nat.le_of_ble_eq_true rfl, Nat.le_of_ble_eq_true rfl⟩) (fun v hv => ?_)
  obtain ⟨z15, rfl, ⟨rfl, h15⟩ | ⟨rfl, h15⟩⟩ := hv
  · refine li_if_eq (tgt := 37) hx hb ⟨by decide, by decide⟩ dX12_cut_18 (by decide) (fun c18 => ?_) (fun c18 => ?_)
    · exact absurd c18 (by decide)
    · have hD8 := (mD l1 (by omega) (by omega)).1
      have hw5l := hw5 l1
      refine lv_iload_n hx hb dX12_cut_21 rfl (lv_at hl 2 rfl) ?_
      refine lv_i2l (v := ll n1) hx hb dX12_cut_22 (ll_i hn1_) ?_
      refine lv_lconst (v := ll 1) hx hb dX12_cut_23 (by decide) ?_
      refine lv_aload_n hx hb dX12_cut_24 rfl (lv_at hl 0 rfl) ?_
      refine va_get (D := G) (ci := 11) (v := .ref (am 6)) (C := RX12) (T := TX12) (N := 52) hx hb hts in_X12 hown hK hP 0 (aM_0 _ _ _ _ _) rfl 8 (by decide) (hts _ q1273) (fun _ h9 => h9) rfl dX12_cut_25 ?_
      refine lv_iload_n hx hb dX12_cut_28 rfl (lv_at hl 1 rfl) ?_
      refine li_iald (g := (τ 8)) hx hb hK hP 6 0 (aM_6 _ _ _ _ _) rfl (by omega) (by omega) (by decide) dX12_cut_29 ?_
      refine lv_i2l (v := ll (τ 8 l1)) hx hb dX12_cut_30 (ll_i ⟨by omega, by omega⟩) ?_
      refine kR (va_runS (As := [.long (ll (n1)), .long (ll (1)), .long (ll (τ 8 l1))]) (rest := []) ⟨hx, hb, hml, hown, hts⟩ (m_inM l G ty (wM am ty τ (up ρ 14 (sc (0))) ++ cs) n1 1 (τ 8 l1) (rg_rl hn1_) ⟨by decide, by decide⟩ ⟨by omega, by omega⟩) (va_cwS 3 hts (lw_S q1436 q1437 q87 q1438) rfl rfl rfl (by decide +kernel) ⟨Nat.le_of_ble_eq_true rfl, Nat.le_of_ble_eq_true rfl⟩) (psR hK hP hD hX) rfl rfl hl.1 rfl (lv_room (Nat.le_of_ble_eq_true rfl)) dX12_cut_31 ⟨Nat.le_of_ble_eq_true rfl, Nat.le_of_ble_eq_true rfl⟩) (fun v hv => ?_)
      obtain ⟨z31, rfl, ⟨rfl, h31⟩ | ⟨rfl, h31⟩⟩ := hv
      · refine li_if_ne (tgt := 39) hx hb ⟨by decide, by decide⟩ dX12_cut_34 (by decide) (fun c34 => ?_) (fun c34 => ?_)
        · refine lv_aload_n hx hb dX12_cut_39 rfl (lv_at hl 0 rfl) ?_
          refine va_get (D := G) (ci := 11) (v := .ref (am 6)) (C := RX12) (T := TX12) (N := 52) hx hb hts in_X12 hown hK hP 0 (aM_0 _ _ _ _ _) rfl 8 (by decide) (hts _ q1273) (fun _ h9 => h9) rfl dX12_cut_40 ?_
          refine lv_iload_n hx hb dX12_cut_43 rfl (lv_at hl 1 rfl) ?_
          refine li_iald (g := (τ 8)) hx hb hK hP 6 0 (aM_6 _ _ _ _ _) rfl (by omega) (by omega) (by decide) dX12_cut_44 ?_
          refine lv_istore_n (lv' := [(3, .int (ii (τ 8 l1))), (0, .ref (am 0)), (1, .int (ii l1)), (2, .int (ii n1))]) hx hb dX12_cut_45 rfl hl (by decide) rfl (fun ls hl => ?_)
          refine lv_aload_n hx hb dX12_cut_46 rfl (lv_at hl 1 rfl) ?_
          refine va_get (D := G) (ci := 11) (v := .ref (am 6)) (C := RX12) (T := TX12) (N := 52) hx hb hts in_X12 hown hK hP 0 (aM_0 _ _ _ _ _) rfl 8 (by decide) (hts _ q1273) (fun _ h9 => h9) rfl dX12_cut_47 ?_
          refine lv_iload_n hx hb dX12_cut_50 rfl (lv_at hl 2 rfl) ?_
          refine lv_iload_n hx hb dX12_cut_51 rfl (lv_at hl 3 rfl) ?_
          refine li_iast (g := (τ 8)) (W2 := wM am ty (up τ 8 (ug (τ 8) l1 n1)) (up ρ 14 (sc (0))) ++ cs) hx hb hK hP hD hS 6 0 (aM_6 _ _ _ _ _) rfl (by omega) (by omega) (by decide) rfl dX12_cut_52 (fun H locs hP hD hS => ?_)
          refine lv_aload_n hx hb dX12_cut_53 rfl (lv_at hl 1 rfl) ?_
          refine li_iconst hx hb dX12_cut_54 ?_
          refine va_put (D := G) (ci := 11) (v := .int (ii 0)) (ty := .boolean) (C := RX12) (T := TX12) (N := 52) hx hb hts in_X12 tyX12 tyX12_ok nmX12 hown hK hP hD hS 0 (aM_0 _ _ _ _ _) rfl 36 (by decide) (hts _ q1301) (fun _ h9 => h9) rfl (tyX12_ok 36 (by decide)) (nrw_z (by omega)) (fit_z (by omega)) (Nat.le_of_ble_eq_true rfl) dX12_cut_55 (fun H locs hP hD hS => ?_)
          have hP : va_P G gcl (wM am ty (up τ 8 (ug (τ 8) l1 n1)) (up (up ρ 14 (sc (0))) 36 (sc (0))) ++ cs) H := hP
          have hD : va_D A (wM am ty (up τ 8 (ug (τ 8) l1 n1)) (up (up ρ 14 (sc (0))) 36 (sc (0))) ++ cs) := hD
          refine lv_iload_n hx hb dX12_cut_58 rfl (lv_at hl 0 rfl) ?_
          exact eMi hQ hx hb hr hlk hP hD hS (Nat.le_of_ble_eq_true rfl) (Nat.le_of_ble_eq_true rfl) dX12_cut_59 (⟨τ 8 l1, (ug (τ 8) l1 n1), 0, rfl, rfl, .inl ⟨by omega, hD8, Sim_len hSm, rfl⟩⟩)
        · exact absurd c34 (by decide)
      · refine li_if_ne (tgt := 39) hx hb ⟨by decide, by decide⟩ dX12_cut_34 (by decide) (fun c34 => ?_) (fun c34 => ?_)
        · exact absurd c34 (by decide)
        · refine li_iconst hx hb dX12_cut_37 ?_
          exact eMi hQ hx hb hr hlk hP hD hS (Nat.le_of_ble_eq_true rfl) (Nat.le_of_ble_eq_true rfl) dX12_cut_38 (⟨-1, (τ 8), ρ 36 0, rfl, rfl, .inr ⟨by omega, rfl, rfl, rfl⟩⟩)
  · refine li_if_eq (tgt := 37) hx hb ⟨by decide, by decide⟩ dX12_cut_18 (by decide) (fun c18 => ?_) (fun c18 => ?_)
    · refine li_iconst hx hb dX12_cut_37 ?_
      exact eMi hQ hx hb hr hlk hP hD hS (Nat.le_of_ble_eq_true rfl) (Nat.le_of_ble_eq_true rfl) dX12_cut_38 (⟨-1, (τ 8), ρ 36 0, rfl, rfl, .inr ⟨by omega, rfl, rfl, rfl⟩⟩)
    · exact absurd c18 (by decide)
set_option maxHeartbeats 4000000 in
theorem m_person (l : Launch) (G : va_G) (ad : Nat → Nat) (ty : Nat → ClassId) (hv : Nat → Option Nat) (σ ς κ : mem) (cs : va_W) (l1 : Int)  (hF : okF σ) (hl1 : rg l1) : cR l yX1_person (ws_ yX1_person cX1_person 2 (some .int)) (rm4 2 0 0 43) G ty (wD ad ty hv σ ς κ ++ cs) [.ref (ad 0), .int (ii l1)] (fun r => ∃ (z : Int), r = some (.int (ii z)) ∧ (z = if 0 ≤ l1 ∧ l1 < (σ 9 0) then (σ 6) l1 else -1)) := by
  refine cR.of (by decide) (Nat.le_of_ble_eq_true rfl) ?_
  intro p e s m args below meth c Q hQ hx hb hr hml hown hlk hts hK hP hD hX ls hl
  have hl : lv_has ls 2 [(0, .ref (ad 0)), (1, .int (ii l1))] := hl
  obtain ⟨hW, hWS, hlg⟩ := id hF
  obtain ⟨hw0, hw1, hw2, hw3, hw4, hw5, h8a, h8b, h9a, h9b, h10a, h10b⟩ := id hW
  obtain ⟨hs0, hs1⟩ := id hWS
  obtain ⟨hl1a, hl1b⟩ := id hl1
  refine lv_aload_n hx hb dX1_person_0 rfl (lv_at hl 0 rfl) ?_
  refine lv_iload_n hx hb dX1_person_1 rfl (lv_at hl 1 rfl) ?_
  refine kR (va_runV (As := [.int (ii l1)]) (rest := []) ⟨hx, hb, hml, hown, hts⟩ (m_isPerson l G ad ty hv σ ς κ cs l1 (show okF σ from hF) (show rg l1 from hl1)) (cwV 1 hts (lw_V q353 q355 qs16 q76 q356) rfl rfl rfl (by decide +kernel) ⟨Nat.le_of_ble_eq_true rfl, Nat.le_of_ble_eq_true rfl⟩) (pvR (r := (RX1, TX1, 21)) hK hP hD hX 0 (aD_0 _ _ _ _ _ _ _) rfl) rfl rfl hl.1 rfl (lv_room (Nat.le_of_ble_eq_true rfl)) dX1_person_2 ⟨Nat.le_of_ble_eq_true rfl, Nat.le_of_ble_eq_true rfl⟩) (fun v hv => ?_)
  obtain ⟨z2, rfl, ⟨rfl, hb2⟩ | ⟨rfl, hb2⟩⟩ := hv
  · have hb2 : 0 ≤ l1 ∧ l1 < (σ 9 0) := hb2
    refine li_if_eq (tgt := 23) hx hb ⟨by decide, by decide⟩ dX1_person_5 (by decide) (fun c5 => ?_) (fun c5 => ?_)
    · exact absurd c5 (by decide)
    · refine lv_aload_n hx hb dX1_person_8 rfl (lv_at hl 0 rfl) ?_
      refine va_get (D := G) (ci := 0) (v := .ref (ad 1)) (C := RX1) (T := TX1) (N := 21) hx hb hts in_X1 hown hK hP 0 (aD_0 _ _ _ _ _ _ _) rfl 0 (by decide) (hts _ q977) (fun _ h9 => h9) rfl dX1_person_9 ?_
      refine va_get (D := G) (ci := 1) (v := .ref (ad 8)) (C := RX2) (T := TX2) (N := 13) hx hb hts in_X2 hown hK hP 1 (aD_1 _ _ _ _ _ _ _) rfl 12 (by decide) (hts _ q810) (fun _ h9 => h9) rfl dX1_person_12 ?_
      refine va_get (D := G) (ci := 2) (v := .ref (ad 9)) (C := RX3) (T := TX3) (N := 2) hx hb hts in_X3 hown hK hP 8 (aD_8 _ _ _ _ _ _ _) rfl 0 (by decide) (hts _ q657) (fun _ h9 => h9) rfl dX1_person_15 ?_
      refine lv_iload_n hx hb dX1_person_18 rfl (lv_at hl 1 rfl) ?_
      refine li_iald (g := (σ 6)) hx hb hK hP 9 0 (aD_9 _ _ _ _ _ _ _) rfl (by omega) (by omega) (by decide) dX1_person_19 ?_
      have r20 := hs0 l1
      refine lv_goto (tgt := 24) hx hb dX1_person_20 (by decide) ?_
      exact eRi hQ hx hb hr hlk dX1_person_24 (⟨σ 6 l1, rfl, by omega⟩)
  · have hb2 : ¬ (0 ≤ l1 ∧ l1 < (σ 9 0)) := hb2
    refine li_if_eq (tgt := 23) hx hb ⟨by decide, by decide⟩ dX1_person_5 (by decide) (fun c5 => ?_) (fun c5 => ?_)
    · refine li_iconst hx hb dX1_person_23 ?_
      exact eRi hQ hx hb hr hlk dX1_person_24 (⟨-1, rfl, by omega⟩)
    · exact absurd c5 (by decide)
set_option maxHeartbeats 4000000 in
theorem m_personM (l : Launch) (G : va_G) (am : Nat → Nat) (ty : Nat → ClassId) (τ ρ : mem) (cs : va_W) (l1 : Int) (F : mem) (hF : okF F) (hSm : Sim F τ) (hl1 : rg l1) : cM l yX12_person (ws_ yX12_person cX12_person 2 (some .int)) (rm4 1 0 0 25) G ty (wM am ty τ ρ ++ cs) [.ref (am 0), .int (ii l1)] 0 0 (fun r W' => ∃ (z : Int), r = some (.int (ii z)) ∧ W' = wM am ty τ (up ρ 14 (sc (0))) ++ cs ∧ (z = if 0 ≤ l1 ∧ l1 < F 9 0 then F 6 l1 else -1)) := by
  refine cM.of (by decide) (Nat.le_of_ble_eq_true rfl) ?_
  intro p e s m args below meth c A Q H locs hQ hx hb hr hml hown hlk hname hts hK hP hD hS hA hX ls hl
  have hl : lv_has ls 2 [(0, .ref (am 0)), (1, .int (ii l1))] := hl
  obtain ⟨hW, hWS, hlg⟩ := id hF
  obtain ⟨hw0, hw1, hw2, hw3, hw4, hw5, h8a, h8b, h9a, h9b, h10a, h10b⟩ := id hW
  obtain ⟨mL, mP, mR, mC, mK, mM, mA, mB, mD⟩ := id hSm
  obtain ⟨hl1a, hl1b⟩ := id hl1
  refine lv_aload_n hx hb dX12_person_0 rfl (lv_at hl 0 rfl) ?_
  refine li_iconst hx hb dX12_person_1 ?_
  refine va_put (D := G) (ci := 11) (v := .int (ii 0)) (ty := .int) (C := RX12) (T := TX12) (N := 52) hx hb hts in_X12 tyX12 tyX12_ok nmX12 hown hK hP hD hS 0 (aM_0 _ _ _ _ _) rfl 14 (by decide) (hts _ q1279) (fun _ h9 => h9) rfl (tyX12_ok 14 (by decide)) rfl rfl (Nat.le_of_ble_eq_true rfl) dX12_person_2 (fun H locs hP hD hS => ?_)
  have hP : va_P G gcl (wM am ty τ (up ρ 14 (sc (0))) ++ cs) H := hP
  have hD : va_D A (wM am ty τ (up ρ 14 (sc (0))) ++ cs) := hD
  refine lv_iload_n hx hb dX12_person_5 rfl (lv_at hl 1 rfl) ?_
  refine lv_i2l (v := ll l1) hx hb dX12_person_6 (ll_i hl1) ?_
  refine lv_lconst (v := ll 0) hx hb dX12_person_7 (by decide) ?_
  refine lv_aload_n hx hb dX12_person_8 rfl (lv_at hl 0 rfl) ?_
  refine va_get (D := G) (ci := 11) (v := .int (ii (τ 5 0))) (C := RX12) (T := TX12) (N := 52) hx hb hts in_X12 hown hK hP 0 (aM_0 _ _ _ _ _) rfl 5 (by decide) (hts _ q1270) (fun _ h9 => h9) rfl dX12_person_9 ?_
  refine li_iconst hx hb dX12_person_12 ?_
  refine li_sub hx hb dX12_person_13 ?_
  refine lv_i2l (v := ll (τ 5 0 - 1)) hx hb dX12_person_14 (ll_i ⟨by omega, by omega⟩) ?_
  refine kR (va_runS (As := [.long (ll (l1)), .long (ll (0)), .long (ll (τ 5 0 - 1))]) (rest := []) ⟨hx, hb, hml, hown, hts⟩ (m_inM l G ty (wM am ty τ (up ρ 14 (sc (0))) ++ cs) l1 0 (τ 5 0 - 1) (rg_rl hl1) ⟨by decide, by decide⟩ ⟨by omega, by omega⟩) (va_cwS 3 hts (lw_S q1436 q1437 q87 q1438) rfl rfl rfl (by decide +kernel) ⟨Nat.le_of_ble_eq_true rfl, Nat.le_of_ble_eq_true rfl⟩) (psR hK hP hD hX) rfl rfl hl.1 rfl (lv_room (Nat.le_of_ble_eq_true rfl)) dX12_person_15 ⟨Nat.le_of_ble_eq_true rfl, Nat.le_of_ble_eq_true rfl⟩) (fun v hv => ?_)
  obtain ⟨z15, rfl, ⟨rfl, h15⟩ | ⟨rfl, h15⟩⟩ := hv
  · refine li_if_eq (tgt := 30) hx hb ⟨by decide, by decide⟩ dX12_person_18 (by decide) (fun c18 => ?_) (fun c18 => ?_)
    · exact absurd c18 (by decide)
    · have hB := mB l1 (by omega) (by omega)
      refine lv_aload_n hx hb dX12_person_21 rfl (lv_at hl 0 rfl) ?_
      refine va_get (D := G) (ci := 11) (v := .ref (am 7)) (C := RX12) (T := TX12) (N := 52) hx hb hts in_X12 hown hK hP 0 (aM_0 _ _ _ _ _) rfl 9 (by decide) (hts _ q1274) (fun _ h9 => h9) rfl dX12_person_22 ?_
      refine lv_iload_n hx hb dX12_person_25 rfl (lv_at hl 1 rfl) ?_
      refine li_iald (g := (τ 9)) hx hb hK hP 7 0 (aM_7 _ _ _ _ _) rfl (by omega) (by omega) (by decide) dX12_person_26 ?_
      refine lv_goto (tgt := 31) hx hb dX12_person_27 (by decide) ?_
      exact eMi hQ hx hb hr hlk hP hD hS (Nat.le_of_ble_eq_true rfl) (Nat.le_of_ble_eq_true rfl) dX12_person_31 (⟨τ 9 l1, rfl, rfl, by omega⟩)
  · refine li_if_eq (tgt := 30) hx hb ⟨by decide, by decide⟩ dX12_person_18 (by decide) (fun c18 => ?_) (fun c18 => ?_)
    · refine li_iconst hx hb dX12_person_30 ?_
      exact eMi hQ hx hb hr hlk hP hD hS (Nat.le_of_ble_eq_true rfl) (Nat.le_of_ble_eq_true rfl) dX12_person_31 (⟨-1, rfl, rfl, by omega⟩)
    · exact absurd c18 (by decide)
set_option maxHeartbeats 4000000 in
theorem m_rope (l : Launch) (G : va_G) (ad : Nat → Nat) (ty : Nat → ClassId) (hv : Nat → Option Nat) (σ ς κ : mem) (cs : va_W) (l1 : Int) (w1 : Int)  (hF : okF σ) (hl1 : rg l1) (hw1_ : rg w1) : cR l yX1_rope (ws_ yX1_rope cX1_rope 3 (some .int)) (rm4 2 0 0 43) G ty (wD ad ty hv σ ς κ ++ cs) [.ref (ad 0), .int (ii l1), .int (ii w1)] (fun r => ∃ (z : Int), r = some (.int (ii z)) ∧ (z = if (0 ≤ l1 ∧ l1 < (σ 10 0)) ∧ 0 ≤ w1 ∧ w1 ≤ 1 then (if w1 = 1 then (σ 5) l1 else if (σ 7) l1 = 5 then -4 else (σ 7) l1) else -1)) := by
  refine cR.of (by decide) (Nat.le_of_ble_eq_true rfl) ?_
  intro p e s m args below meth c Q hQ hx hb hr hml hown hlk hts hK hP hD hX ls hl
  have hl : lv_has ls 3 [(0, .ref (ad 0)), (1, .int (ii l1)), (2, .int (ii w1))] := hl
  obtain ⟨hW, hWS, hlg⟩ := id hF
  obtain ⟨hw0, hw1, hw2, hw3, hw4, hw5, h8a, h8b, h9a, h9b, h10a, h10b⟩ := id hW
  obtain ⟨hs0, hs1⟩ := id hWS
  obtain ⟨hl1a, hl1b⟩ := id hl1
  obtain ⟨hw1_a, hw1_b⟩ := id hw1_
  refine lv_aload_n hx hb dX1_rope_0 rfl (lv_at hl 0 rfl) ?_
  refine lv_iload_n hx hb dX1_rope_1 rfl (lv_at hl 1 rfl) ?_
  refine kR (va_runV (As := [.int (ii l1)]) (rest := []) ⟨hx, hb, hml, hown, hts⟩ (m_isRope l G ad ty hv σ ς κ cs l1 (show okF σ from hF) (show rg l1 from hl1)) (cwV 1 hts (lw_V q345 q347 qs15 q76 q348) rfl rfl rfl (by decide +kernel) ⟨Nat.le_of_ble_eq_true rfl, Nat.le_of_ble_eq_true rfl⟩) (pvR (r := (RX1, TX1, 21)) hK hP hD hX 0 (aD_0 _ _ _ _ _ _ _) rfl) rfl rfl hl.1 rfl (lv_room (Nat.le_of_ble_eq_true rfl)) dX1_rope_2 ⟨Nat.le_of_ble_eq_true rfl, Nat.le_of_ble_eq_true rfl⟩) (fun v hv => ?_)
  obtain ⟨z2, rfl, ⟨rfl, hb2⟩ | ⟨rfl, hb2⟩⟩ := hv
  · have hb2 : 0 ≤ l1 ∧ l1 < (σ 10 0) := hb2
    refine li_if_eq (tgt := 17) hx hb ⟨by decide, by decide⟩ dX1_rope_5 (by decide) (fun c5 => ?_) (fun c5 => ?_)
    · exact absurd c5 (by decide)
    · refine lv_iload_n hx hb dX1_rope_8 rfl (lv_at hl 2 rfl) ?_
      refine li_iconst hx hb dX1_rope_9 ?_
      refine li_iconst hx hb dX1_rope_10 ?_
      refine kR (va_runS (As := [.int (ii w1), .int (ii 0), .int (ii 1)]) (rest := []) ⟨hx, hb, hml, hown, hts⟩ (m_isIn l G ty (wD ad ty hv σ ς κ ++ cs) w1 0 1 hw1_ ⟨by decide, by decide⟩ ⟨by decide, by decide⟩) (va_cwS 3 hts (lw_S q117 q118 q76 q119) rfl rfl rfl (by decide +kernel) ⟨Nat.le_of_ble_eq_true rfl, Nat.le_of_ble_eq_true rfl⟩) (psR hK hP hD hX) rfl rfl hl.1 rfl (lv_room (Nat.le_of_ble_eq_true rfl)) dX1_rope_11 ⟨Nat.le_of_ble_eq_true rfl, Nat.le_of_ble_eq_true rfl⟩) (fun v hv => ?_)
      obtain ⟨z11, rfl, ⟨rfl, h11⟩ | ⟨rfl, h11⟩⟩ := hv
      · refine li_if_ne (tgt := 19) hx hb ⟨by decide, by decide⟩ dX1_rope_14 (by decide) (fun c14 => ?_) (fun c14 => ?_)
        · refine lv_iload_n hx hb dX1_rope_19 rfl (lv_at hl 2 rfl) ?_
          refine li_iconst hx hb dX1_rope_20 ?_
          refine li_icmp_ne (tgt := 36) hx hb hw1_ ⟨by decide, by decide⟩ dX1_rope_21 (by decide) (fun c21 => ?_) (fun c21 => ?_)
          · refine lv_aload_n hx hb dX1_rope_36 rfl (lv_at hl 0 rfl) ?_
            refine va_get (D := G) (ci := 0) (v := .ref (ad 1)) (C := RX1) (T := TX1) (N := 21) hx hb hts in_X1 hown hK hP 0 (aD_0 _ _ _ _ _ _ _) rfl 0 (by decide) (hts _ q977) (fun _ h9 => h9) rfl dX1_rope_37 ?_
            refine va_get (D := G) (ci := 1) (v := .ref (ad 8)) (C := RX2) (T := TX2) (N := 13) hx hb hts in_X2 hown hK hP 1 (aD_1 _ _ _ _ _ _ _) rfl 12 (by decide) (hts _ q810) (fun _ h9 => h9) rfl dX1_rope_40 ?_
            refine va_get (D := G) (ci := 2) (v := .ref (ad 10)) (C := RX3) (T := TX3) (N := 2) hx hb hts in_X3 hown hK hP 8 (aD_8 _ _ _ _ _ _ _) rfl 1 (by decide) (hts _ q664) (fun _ h9 => h9) rfl dX1_rope_43 ?_
            refine lv_iload_n hx hb dX1_rope_46 rfl (lv_at hl 1 rfl) ?_
            refine li_iald (g := (σ 7)) hx hb hK hP 10 0 (aD_10 _ _ _ _ _ _ _) rfl (by omega) (by omega) (by decide) dX1_rope_47 ?_
            have r48 := hs1 l1
            refine li_iconst hx hb dX1_rope_48 ?_
            refine li_icmp_ne (tgt := 57) hx hb (rgi r48.1 r48.2) ⟨by decide, by decide⟩ dX1_rope_49 (by decide) (fun c49 => ?_) (fun c49 => ?_)
            · refine lv_aload_n hx hb dX1_rope_57 rfl (lv_at hl 0 rfl) ?_
              refine va_get (D := G) (ci := 0) (v := .ref (ad 1)) (C := RX1) (T := TX1) (N := 21) hx hb hts in_X1 hown hK hP 0 (aD_0 _ _ _ _ _ _ _) rfl 0 (by decide) (hts _ q977) (fun _ h9 => h9) rfl dX1_rope_58 ?_
              refine va_get (D := G) (ci := 1) (v := .ref (ad 8)) (C := RX2) (T := TX2) (N := 13) hx hb hts in_X2 hown hK hP 1 (aD_1 _ _ _ _ _ _ _) rfl 12 (by decide) (hts _ q810) (fun _ h9 => h9) rfl dX1_rope_61 ?_
              refine va_get (D := G) (ci := 2) (v := .ref (ad 10)) (C := RX3) (T := TX3) (N := 2) hx hb hts in_X3 hown hK hP 8 (aD_8 _ _ _ _ _ _ _) rfl 1 (by decide) (hts _ q664) (fun _ h9 => h9) rfl dX1_rope_64 ?_
              refine lv_iload_n hx hb dX1_rope_67 rfl (lv_at hl 1 rfl) ?_
              refine li_iald (g := (σ 7)) hx hb hK hP 10 0 (aD_10 _ _ _ _ _ _ _) rfl (by omega) (by omega) (by decide) dX1_rope_68 ?_
              have r69 := hs1 l1
              exact eRi hQ hx hb hr hlk dX1_rope_69 (⟨σ 7 l1, rfl, by omega⟩)
            · refine li_bipush hx hb dX1_rope_52 (by decide) ?_
              refine lv_goto (tgt := 69) hx hb dX1_rope_54 (by decide) ?_
              exact eRi hQ hx hb hr hlk dX1_rope_69 (⟨-4, rfl, by omega⟩)
          · refine lv_aload_n hx hb dX1_rope_24 rfl (lv_at hl 0 rfl) ?_
            refine va_get (D := G) (ci := 0) (v := .ref (ad 1)) (C := RX1) (T := TX1) (N := 21) hx hb hts in_X1 hown hK hP 0 (aD_0 _ _ _ _ _ _ _) rfl 0 (by decide) (hts _ q977) (fun _ h9 => h9) rfl dX1_rope_25 ?_
            refine va_get (D := G) (ci := 1) (v := .ref (ad 7)) (C := RX2) (T := TX2) (N := 13) hx hb hts in_X2 hown hK hP 1 (aD_1 _ _ _ _ _ _ _) rfl 7 (by decide) (hts _ q799) (fun _ h9 => h9) rfl dX1_rope_28 ?_
            refine lv_iload_n hx hb dX1_rope_31 rfl (lv_at hl 1 rfl) ?_
            refine li_iald (g := (σ 5)) hx hb hK hP 7 0 (aD_7 _ _ _ _ _ _ _) rfl (by omega) (by omega) (by decide) dX1_rope_32 ?_
            have r33 := hw5 l1
            refine lv_goto (tgt := 69) hx hb dX1_rope_33 (by decide) ?_
            exact eRi hQ hx hb hr hlk dX1_rope_69 (⟨σ 5 l1, rfl, by omega⟩)
        · exact absurd c14 (by decide)
      · refine li_if_ne (tgt := 19) hx hb ⟨by decide, by decide⟩ dX1_rope_14 (by decide) (fun c14 => ?_) (fun c14 => ?_)
        · exact absurd c14 (by decide)
        · refine li_iconst hx hb dX1_rope_17 ?_
          exact eRi hQ hx hb hr hlk dX1_rope_18 (⟨-1, rfl, by omega⟩)
  · have hb2 : ¬ (0 ≤ l1 ∧ l1 < (σ 10 0)) := hb2
    refine li_if_eq (tgt := 17) hx hb ⟨by decide, by decide⟩ dX1_rope_5 (by decide) (fun c5 => ?_) (fun c5 => ?_)
    · refine li_iconst hx hb dX1_rope_17 ?_
      exact eRi hQ hx hb hr hlk dX1_rope_18 (⟨-1, rfl, by omega⟩)
    · exact absurd c5 (by decide)
set_option maxHeartbeats 4000000 in
theorem m_ropeM (l : Launch) (G : va_G) (am : Nat → Nat) (ty : Nat → ClassId) (τ ρ : mem) (cs : va_W) (l1 : Int) (w1 : Int) (F : mem) (hF : okF F) (hSm : Sim F τ) (hl1 : rg l1) (hw1_ : rg w1) : cM l yX12_rope (ws_ yX12_rope cX12_rope 3 (some .int)) (rm4 1 0 0 25) G ty (wM am ty τ ρ ++ cs) [.ref (am 0), .int (ii l1), .int (ii w1)] 0 0 (fun r W' => ∃ (z : Int), r = some (.int (ii z)) ∧ W' = wM am ty τ (up ρ 14 (sc (0))) ++ cs ∧ (z = if (0 ≤ l1 ∧ l1 < F 10 0) ∧ 0 ≤ w1 ∧ w1 ≤ 1 then (if w1 = 1 then F 5 l1 else if F 7 l1 = 5 then -4 else F 7 l1) else -1)) := by
  refine cM.of (by decide) (Nat.le_of_ble_eq_true rfl) ?_
  intro p e s m args below meth c A Q H locs hQ hx hb hr hml hown hlk hname hts hK hP hD hS hA hX ls hl
  have hl : lv_has ls 3 [(0, .ref (am 0)), (1, .int (ii l1)), (2, .int (ii w1))] := hl
  obtain ⟨hW, hWS, hlg⟩ := id hF
  obtain ⟨hw0, hw1, hw2, hw3, hw4, hw5, h8a, h8b, h9a, h9b, h10a, h10b⟩ := id hW
  obtain ⟨mL, mP, mR, mC, mK, mM, mA, mB, mD⟩ := id hSm
  obtain ⟨hl1a, hl1b⟩ := id hl1
  obtain ⟨hw1_a, hw1_b⟩ := id hw1_
  refine lv_aload_n hx hb dX12_rope_0 rfl (lv_at hl 0 rfl) ?_
  refine li_iconst hx hb dX12_rope_1 ?_
  refine va_put (D := G) (ci := 11) (v := .int (ii 0)) (ty := .int) (C := RX12) (T := TX12) (N := 52) hx hb hts in_X12 tyX12 tyX12_ok nmX12 hown hK hP hD hS 0 (aM_0 _ _ _ _ _) rfl 14 (by decide) (hts _ q1279) (fun _ h9 => h9) rfl (tyX12_ok 14 (by decide)) rfl rfl (Nat.le_of_ble_eq_true rfl) dX12_rope_2 (fun H locs hP hD hS => ?_)
  have hP : va_P G gcl (wM am ty τ (up ρ 14 (sc (0))) ++ cs) H := hP
  have hD : va_D A (wM am ty τ (up ρ 14 (sc (0))) ++ cs) := hD
  refine lv_iload_n hx hb dX12_rope_5 rfl (lv_at hl 1 rfl) ?_
  refine lv_i2l (v := ll l1) hx hb dX12_rope_6 (ll_i hl1) ?_
  refine lv_lconst (v := ll 0) hx hb dX12_rope_7 (by decide) ?_
  refine lv_aload_n hx hb dX12_rope_8 rfl (lv_at hl 0 rfl) ?_
  refine va_get (D := G) (ci := 11) (v := .int (ii (τ 7 0))) (C := RX12) (T := TX12) (N := 52) hx hb hts in_X12 hown hK hP 0 (aM_0 _ _ _ _ _) rfl 7 (by decide) (hts _ q1272) (fun _ h9 => h9) rfl dX12_rope_9 ?_
  refine li_iconst hx hb dX12_rope_12 ?_
  refine li_sub hx hb dX12_rope_13 ?_
  refine lv_i2l (v := ll (τ 7 0 - 1)) hx hb dX12_rope_14 (ll_i ⟨by omega, by omega⟩) ?_
  refine kR (va_runS (As := [.long (ll (l1)), .long (ll (0)), .long (ll (τ 7 0 - 1))]) (rest := []) ⟨hx, hb, hml, hown, hts⟩ (m_inM l G ty (wM am ty τ (up ρ 14 (sc (0))) ++ cs) l1 0 (τ 7 0 - 1) (rg_rl hl1) ⟨by decide, by decide⟩ ⟨by omega, by omega⟩) (va_cwS 3 hts (lw_S q1436 q1437 q87 q1438) rfl rfl rfl (by decide +kernel) ⟨Nat.le_of_ble_eq_true rfl, Nat.le_of_ble_eq_true rfl⟩) (psR hK hP hD hX) rfl rfl hl.1 rfl (lv_room (Nat.le_of_ble_eq_true rfl)) dX12_rope_15 ⟨Nat.le_of_ble_eq_true rfl, Nat.le_of_ble_eq_true rfl⟩) (fun v hv => ?_)
  obtain ⟨z15, rfl, ⟨rfl, h15⟩ | ⟨rfl, h15⟩⟩ := hv
  · refine li_if_eq (tgt := 31) hx hb ⟨by decide, by decide⟩ dX12_rope_18 (by decide) (fun c18 => ?_) (fun c18 => ?_)
    · exact absurd c18 (by decide)
    · refine lv_iload_n hx hb dX12_rope_21 rfl (lv_at hl 2 rfl) ?_
      refine lv_i2l (v := ll w1) hx hb dX12_rope_22 (ll_i hw1_) ?_
      refine lv_lconst (v := ll 0) hx hb dX12_rope_23 (by decide) ?_
      refine lv_lconst (v := ll 1) hx hb dX12_rope_24 (by decide) ?_
      refine kR (va_runS (As := [.long (ll (w1)), .long (ll (0)), .long (ll (1))]) (rest := []) ⟨hx, hb, hml, hown, hts⟩ (m_inM l G ty (wM am ty τ (up ρ 14 (sc (0))) ++ cs) w1 0 1 (rg_rl hw1_) ⟨by decide, by decide⟩ ⟨by decide, by decide⟩) (va_cwS 3 hts (lw_S q1436 q1437 q87 q1438) rfl rfl rfl (by decide +kernel) ⟨Nat.le_of_ble_eq_true rfl, Nat.le_of_ble_eq_true rfl⟩) (psR hK hP hD hX) rfl rfl hl.1 rfl (lv_room (Nat.le_of_ble_eq_true rfl)) dX12_rope_25 ⟨Nat.le_of_ble_eq_true rfl, Nat.le_of_ble_eq_true rfl⟩) (fun v hv => ?_)
      obtain ⟨z25, rfl, ⟨rfl, h25⟩ | ⟨rfl, h25⟩⟩ := hv
      · refine li_if_ne (tgt := 33) hx hb ⟨by decide, by decide⟩ dX12_rope_28 (by decide) (fun c28 => ?_) (fun c28 => ?_)
        · have hD8 := mD l1 (by omega) (by omega)
          have hw7l := hWS.2 l1
          refine lv_iload_n hx hb dX12_rope_33 rfl (lv_at hl 2 rfl) ?_
          refine li_iconst hx hb dX12_rope_34 ?_
          refine li_icmp_ne (tgt := 47) hx hb hw1_ ⟨by decide, by decide⟩ dX12_rope_35 (by decide) (fun c35 => ?_) (fun c35 => ?_)
          · refine lv_aload_n hx hb dX12_rope_47 rfl (lv_at hl 0 rfl) ?_
            refine va_get (D := G) (ci := 11) (v := .ref (am 8)) (C := RX12) (T := TX12) (N := 52) hx hb hts in_X12 hown hK hP 0 (aM_0 _ _ _ _ _) rfl 10 (by decide) (hts _ q1275) (fun _ h9 => h9) rfl dX12_rope_48 ?_
            refine lv_iload_n hx hb dX12_rope_51 rfl (lv_at hl 1 rfl) ?_
            refine li_iald (g := (τ 10)) hx hb hK hP 8 0 (aM_8 _ _ _ _ _) rfl (by omega) (by omega) (by decide) dX12_rope_52 ?_
            refine li_iconst hx hb dX12_rope_53 ?_
            refine li_icmp_ne (tgt := 62) hx hb ⟨by omega, by omega⟩ ⟨by decide, by decide⟩ dX12_rope_54 (by decide) (fun c54 => ?_) (fun c54 => ?_)
            · refine lv_aload_n hx hb dX12_rope_62 rfl (lv_at hl 0 rfl) ?_
              refine va_get (D := G) (ci := 11) (v := .ref (am 8)) (C := RX12) (T := TX12) (N := 52) hx hb hts in_X12 hown hK hP 0 (aM_0 _ _ _ _ _) rfl 10 (by decide) (hts _ q1275) (fun _ h9 => h9) rfl dX12_rope_63 ?_
              refine lv_iload_n hx hb dX12_rope_66 rfl (lv_at hl 1 rfl) ?_
              refine li_iald (g := (τ 10)) hx hb hK hP 8 0 (aM_8 _ _ _ _ _) rfl (by omega) (by omega) (by decide) dX12_rope_67 ?_
              exact eMi hQ hx hb hr hlk hP hD hS (Nat.le_of_ble_eq_true rfl) (Nat.le_of_ble_eq_true rfl) dX12_rope_68 (⟨τ 10 l1, rfl, rfl, by omega⟩)
            · refine li_bipush hx hb dX12_rope_57 (by decide) ?_
              refine lv_goto (tgt := 68) hx hb dX12_rope_59 (by decide) ?_
              exact eMi hQ hx hb hr hlk hP hD hS (Nat.le_of_ble_eq_true rfl) (Nat.le_of_ble_eq_true rfl) dX12_rope_68 (⟨-4, rfl, rfl, by omega⟩)
          · refine lv_aload_n hx hb dX12_rope_38 rfl (lv_at hl 0 rfl) ?_
            refine va_get (D := G) (ci := 11) (v := .ref (am 6)) (C := RX12) (T := TX12) (N := 52) hx hb hts in_X12 hown hK hP 0 (aM_0 _ _ _ _ _) rfl 8 (by decide) (hts _ q1273) (fun _ h9 => h9) rfl dX12_rope_39 ?_
            refine lv_iload_n hx hb dX12_rope_42 rfl (lv_at hl 1 rfl) ?_
            refine li_iald (g := (τ 8)) hx hb hK hP 6 0 (aM_6 _ _ _ _ _) rfl (by omega) (by omega) (by decide) dX12_rope_43 ?_
            refine lv_goto (tgt := 68) hx hb dX12_rope_44 (by decide) ?_
            exact eMi hQ hx hb hr hlk hP hD hS (Nat.le_of_ble_eq_true rfl) (Nat.le_of_ble_eq_true rfl) dX12_rope_68 (⟨τ 8 l1, rfl, rfl, by omega⟩)
        · exact absurd c28 (by decide)
      · refine li_if_ne (tgt := 33) hx hb ⟨by decide, by decide⟩ dX12_rope_28 (by decide) (fun c28 => ?_) (fun c28 => ?_)
        · exact absurd c28 (by decide)
        · refine li_iconst hx hb dX12_rope_31 ?_
          exact eMi hQ hx hb hr hlk hP hD hS (Nat.le_of_ble_eq_true rfl) (Nat.le_of_ble_eq_true rfl) dX12_rope_32 (⟨-1, rfl, rfl, by omega⟩)
  · refine li_if_eq (tgt := 31) hx hb ⟨by decide, by decide⟩ dX12_rope_18 (by decide) (fun c18 => ?_) (fun c18 => ?_)
    · refine li_iconst hx hb dX12_rope_31 ?_
      exact eMi hQ hx hb hr hlk hP hD hS (Nat.le_of_ble_eq_true rfl) (Nat.le_of_ble_eq_true rfl) dX12_rope_32 (⟨-1, rfl, rfl, by omega⟩)
    · exact absurd c18 (by decide)
set_option maxHeartbeats 4000000 in
theorem m_far (l : Launch) (G : va_G) (ad : Nat → Nat) (ty : Nat → ClassId) (hv : Nat → Option Nat) (σ ς κ : mem) (cs : va_W) (l1 : Int) (w1 : Int)  (hF : okF σ) (hl1 : rg l1) (hw1_ : rg w1) : cR l yX1_far (ws_ yX1_far cX1_far 4 (some .int)) (rm4 2 0 0 45) G ty (wD ad ty hv σ ς κ ++ cs) [.ref (ad 0), .int (ii l1), .int (ii w1)] (fun r => ∃ (z : Int), r = some (.int (ii z)) ∧ ((okFar σ l1 w1 ∧ z = fs (σ 2) l1 w1) ∨ (¬ okFar σ l1 w1 ∧ z = -1))) := by
  refine cR.of (by decide) (Nat.le_of_ble_eq_true rfl) ?_
  intro p e s m args below meth c Q hQ hx hb hr hml hown hlk hts hK hP hD hX ls hl
  have hl : lv_has ls 4 [(0, .ref (ad 0)), (1, .int (ii l1)), (2, .int (ii w1))] := hl
  obtain ⟨hW, hWS, hlg⟩ := id hF
  obtain ⟨hw0, hw1, hw2, hw3, hw4, hw5, h8a, h8b, h9a, h9b, h10a, h10b⟩ := id hW
  obtain ⟨hs0, hs1⟩ := id hWS
  obtain ⟨hl1a, hl1b⟩ := id hl1
  obtain ⟨hw1_a, hw1_b⟩ := id hw1_
  refine lv_aload_n hx hb dX1_far_0 rfl (lv_at hl 0 rfl) ?_
  refine va_get (D := G) (ci := 0) (v := .ref (ad 1)) (C := RX1) (T := TX1) (N := 21) hx hb hts in_X1 hown hK hP 0 (aD_0 _ _ _ _ _ _ _) rfl 0 (by decide) (hts _ q977) (fun _ h9 => h9) rfl dX1_far_1 ?_
  refine lv_iload_n hx hb dX1_far_4 rfl (lv_at hl 1 rfl) ?_
  refine lv_iload_n hx hb dX1_far_5 rfl (lv_at hl 2 rfl) ?_
  refine kR (va_runV (As := [.int (ii l1), .int (ii w1)]) (rest := []) ⟨hx, hb, hml, hown, hts⟩ (m_farF l G ty (wD ad ty hv σ ς κ ++ cs) (fun k => 1 + k) (fun k => ad (1 + k)) σ l1 w1 ⟨rfl, rfl, rfl, rfl, rfl, rfl, rfl⟩ (hW) hl1 hw1_) (cwV 2 hts (lw_V q365 q366 q367 q77 q368) rfl rfl rfl (by decide +kernel) ⟨Nat.le_of_ble_eq_true rfl, Nat.le_of_ble_eq_true rfl⟩) (pvR (r := (RX2, TX2, 13)) hK hP hD hX 1 (aD_1 _ _ _ _ _ _ _) rfl) rfl rfl hl.1 rfl (lv_room (Nat.le_of_ble_eq_true rfl)) dX1_far_6 ⟨Nat.le_of_ble_eq_true rfl, Nat.le_of_ble_eq_true rfl⟩) (fun v hv => ?_)
  obtain ⟨z6, rfl, ⟨h6, rfl⟩ | ⟨h6, rfl⟩⟩ := hv
  · have hfs := fs_le (σ 2) (a := l1) (b := w1) hw2 h6.1 (by have := h6.2.2.2.1; omega)
    refine lv_istore_n (lv' := [(3, .int (ii (fs (σ 2) l1 w1))), (0, .ref (ad 0)), (1, .int (ii l1)), (2, .int (ii w1))]) hx hb dX1_far_9 rfl hl (by decide) rfl (fun ls hl => ?_)
    refine lv_iload_n hx hb dX1_far_10 rfl (lv_at hl 0 rfl) ?_
    refine li_bipush hx hb dX1_far_11 (by decide) ?_
    refine li_icmp_ne (tgt := 20) hx hb (rgi hfs.1 hfs.2) ⟨by decide, by decide⟩ dX1_far_13 (by decide) (fun c13 => ?_) (fun c13 => ?_)
    · refine lv_iload_n hx hb dX1_far_20 rfl (lv_at hl 0 rfl) ?_
      exact eRi hQ hx hb hr hlk dX1_far_21 (⟨fs (σ 2) l1 w1, rfl, .inl ⟨h6, rfl⟩⟩)
    · exfalso
      omega
  · refine lv_istore_n (lv' := [(3, .int (ii (-4))), (0, .ref (ad 0)), (1, .int (ii l1)), (2, .int (ii w1))]) hx hb dX1_far_9 rfl hl (by decide) rfl (fun ls hl => ?_)
    refine lv_iload_n hx hb dX1_far_10 rfl (lv_at hl 0 rfl) ?_
    refine li_bipush hx hb dX1_far_11 (by decide) ?_
    refine li_icmp_ne (tgt := 20) hx hb ⟨by decide, by decide⟩ ⟨by decide, by decide⟩ dX1_far_13 (by decide) (fun c13 => ?_) (fun c13 => ?_)
    · exact absurd c13 (by decide)
    · refine li_iconst hx hb dX1_far_16 ?_
      refine lv_goto (tgt := 21) hx hb dX1_far_17 (by decide) ?_
      exact eRi hQ hx hb hr hlk dX1_far_21 (⟨-1, rfl, .inr ⟨h6, rfl⟩⟩)
set_option maxHeartbeats 4000000 in
theorem m_farPM (l : Launch) (G : va_G) (am : Nat → Nat) (ty : Nat → ClassId) (τ ρ : mem) (cs : va_W) (l1 : Int) (w1 : Int) (F : mem) (hF : okF F) (hSm : Sim F τ) (hl1 : rg l1) (hw1_ : rg w1) : cM l yX12_far (ws_ yX12_far cX12_far 3 (some .int)) (rm4 2 0 0 46) G ty (wM am ty τ ρ ++ cs) [.ref (am 0), .int (ii l1), .int (ii w1)] 0 0 (fun r W' => ∃ (z : Int), r = some (.int (ii z)) ∧ W' = wM am ty τ (up ρ 14 (sc (0))) ++ cs ∧ ((okFar F l1 w1 ∧ z = fs (F 2) l1 w1) ∨ (¬ okFar F l1 w1 ∧ z = -1))) := by
  refine cM.of (by decide) (Nat.le_of_ble_eq_true rfl) ?_
  intro p e s m args below meth c A Q H locs hQ hx hb hr hml hown hlk hname hts hK hP hD hS hA hX ls hl
  have hl : lv_has ls 3 [(0, .ref (am 0)), (1, .int (ii l1)), (2, .int (ii w1))] := hl
  obtain ⟨hW, hWS, hlg⟩ := id hF
  obtain ⟨hw0, hw1, hw2, hw3, hw4, hw5, h8a, h8b, h9a, h9b, h10a, h10b⟩ := id hW
  obtain ⟨mL, mP, mR, mC, mK, mM, mA, mB, mD⟩ := id hSm
  obtain ⟨hl1a, hl1b⟩ := id hl1
  obtain ⟨hw1_a, hw1_b⟩ := id hw1_
  refine lv_aload_n hx hb dX12_far_0 rfl (lv_at hl 0 rfl) ?_
  refine li_iconst hx hb dX12_far_1 ?_
  refine va_put (D := G) (ci := 11) (v := .int (ii 0)) (ty := .int) (C := RX12) (T := TX12) (N := 52) hx hb hts in_X12 tyX12 tyX12_ok nmX12 hown hK hP hD hS 0 (aM_0 _ _ _ _ _) rfl 14 (by decide) (hts _ q1279) (fun _ h9 => h9) rfl (tyX12_ok 14 (by decide)) rfl rfl (Nat.le_of_ble_eq_true rfl) dX12_far_2 (fun H locs hP hD hS => ?_)
  have hP : va_P G gcl (wM am ty τ (up ρ 14 (sc (0))) ++ cs) H := hP
  have hD : va_D A (wM am ty τ (up ρ 14 (sc (0))) ++ cs) := hD
  refine lv_aload_n hx hb dX12_far_5 rfl (lv_at hl 0 rfl) ?_
  refine lv_iload_n hx hb dX12_far_6 rfl (lv_at hl 1 rfl) ?_
  refine kR (va_runV (As := [.int (ii l1)]) (rest := []) ⟨hx, hb, hml, hown, hts⟩ (m_isLedgeM l G am ty τ (up ρ 14 (sc (0))) cs l1 _ (show okF F from hF) (show Sim F τ from hSm) (show rg l1 from hl1)) (cwV 1 hts (lw_V q1465 q1467 qs44 q87 q1468) rfl rfl rfl (by decide +kernel) ⟨Nat.le_of_ble_eq_true rfl, Nat.le_of_ble_eq_true rfl⟩) (pvR (r := (RX12, TX12, 52)) hK hP hD hX 0 (aM_0 _ _ _ _ _) rfl) rfl rfl hl.1 rfl (lv_room (Nat.le_of_ble_eq_true rfl)) dX12_far_7 ⟨Nat.le_of_ble_eq_true rfl, Nat.le_of_ble_eq_true rfl⟩) (fun v hv => ?_)
  obtain ⟨z7, rfl, ⟨rfl, hb7⟩ | ⟨rfl, hb7⟩⟩ := hv
  · have hb7 : 0 ≤ l1 ∧ l1 < F 8 0 := hb7
    refine li_if_eq (tgt := 35) hx hb ⟨by decide, by decide⟩ dX12_far_10 (by decide) (fun c10 => ?_) (fun c10 => ?_)
    · exact absurd c10 (by decide)
    · refine lv_aload_n hx hb dX12_far_13 rfl (lv_at hl 0 rfl) ?_
      refine lv_iload_n hx hb dX12_far_14 rfl (lv_at hl 2 rfl) ?_
      refine kR (va_runV (As := [.int (ii w1)]) (rest := []) ⟨hx, hb, hml, hown, hts⟩ (m_isLedgeM l G am ty τ (up ρ 14 (sc (0))) cs w1 _ (show okF F from hF) (show Sim F τ from hSm) (show rg w1 from hw1_)) (cwV 1 hts (lw_V q1465 q1467 qs44 q87 q1468) rfl rfl rfl (by decide +kernel) ⟨Nat.le_of_ble_eq_true rfl, Nat.le_of_ble_eq_true rfl⟩) (pvR (r := (RX12, TX12, 52)) hK hP hD hX 0 (aM_0 _ _ _ _ _) rfl) rfl rfl hl.1 rfl (lv_room (Nat.le_of_ble_eq_true rfl)) dX12_far_15 ⟨Nat.le_of_ble_eq_true rfl, Nat.le_of_ble_eq_true rfl⟩) (fun v hv => ?_)
      obtain ⟨z15, rfl, ⟨rfl, hb15⟩ | ⟨rfl, hb15⟩⟩ := hv
      · have hb15 : 0 ≤ w1 ∧ w1 < F 8 0 := hb15
        refine li_if_eq (tgt := 35) hx hb ⟨by decide, by decide⟩ dX12_far_18 (by decide) (fun c18 => ?_) (fun c18 => ?_)
        · exact absurd c18 (by decide)
        · refine lv_iload_n hx hb dX12_far_21 rfl (lv_at hl 2 rfl) ?_
          refine lv_iload_n hx hb dX12_far_22 rfl (lv_at hl 1 rfl) ?_
          refine li_icmp_le (tgt := 35) hx hb hw1_ hl1 dX12_far_23 (by decide) (fun c23 => ?_) (fun c23 => ?_)
          · refine li_iconst hx hb dX12_far_35 ?_
            exact eMi hQ hx hb hr hlk hP hD hS (Nat.le_of_ble_eq_true rfl) (Nat.le_of_ble_eq_true rfl) dX12_far_36 (⟨-1, rfl, rfl, .inr ⟨by unfold okFar; omega, rfl⟩⟩)
          · refine lv_aload_n hx hb dX12_far_26 rfl (lv_at hl 0 rfl) ?_
            refine lv_iload_n hx hb dX12_far_27 rfl (lv_at hl 1 rfl) ?_
            refine lv_iload_n hx hb dX12_far_28 rfl (lv_at hl 2 rfl) ?_
            refine kR (va_runV (As := [.int (ii l1), .int (ii w1)]) (rest := []) ⟨hx, hb, hml, hown, hts⟩ (m_farM l G am ty τ (up ρ 14 (sc (0))) cs l1 w1 _ (show okF F from hF) (show Sim F τ from hSm) (show 0 ≤ l1 ∧ l1 ≤ w1 ∧ w1 ≤ F 8 0 from ⟨by omega, by omega, by omega⟩)) (cwV 2 hts (lw_V q1502 q1504 qs45 q87 q1505) rfl rfl rfl (by decide +kernel) ⟨Nat.le_of_ble_eq_true rfl, Nat.le_of_ble_eq_true rfl⟩) (pvR (r := (RX12, TX12, 52)) hK hP hD hX 0 (aM_0 _ _ _ _ _) rfl) rfl rfl hl.1 rfl (lv_room (Nat.le_of_ble_eq_true rfl)) dX12_far_29 ⟨Nat.le_of_ble_eq_true rfl, Nat.le_of_ble_eq_true rfl⟩) (fun v hv => ?_)
            obtain ⟨rfl, hzb29⟩ := hv
            have hzb29 : 0 ≤ fs (F 2) l1 w1 ∧ fs (F 2) l1 w1 ≤ 1000 := hzb29
            refine lv_goto (tgt := 36) hx hb dX12_far_32 (by decide) ?_
            exact eMi hQ hx hb hr hlk hP hD hS (Nat.le_of_ble_eq_true rfl) (Nat.le_of_ble_eq_true rfl) dX12_far_36 (⟨fs (F 2) l1 w1, rfl, rfl, .inl ⟨by unfold okFar; omega, rfl⟩⟩)
      · have hb15 : ¬ (0 ≤ w1 ∧ w1 < F 8 0) := hb15
        refine li_if_eq (tgt := 35) hx hb ⟨by decide, by decide⟩ dX12_far_18 (by decide) (fun c18 => ?_) (fun c18 => ?_)
        · refine li_iconst hx hb dX12_far_35 ?_
          exact eMi hQ hx hb hr hlk hP hD hS (Nat.le_of_ble_eq_true rfl) (Nat.le_of_ble_eq_true rfl) dX12_far_36 (⟨-1, rfl, rfl, .inr ⟨by unfold okFar; omega, rfl⟩⟩)
        · exact absurd c18 (by decide)
  · have hb7 : ¬ (0 ≤ l1 ∧ l1 < F 8 0) := hb7
    refine li_if_eq (tgt := 35) hx hb ⟨by decide, by decide⟩ dX12_far_10 (by decide) (fun c10 => ?_) (fun c10 => ?_)
    · refine li_iconst hx hb dX12_far_35 ?_
      exact eMi hQ hx hb hr hlk hP hD hS (Nat.le_of_ble_eq_true rfl) (Nat.le_of_ble_eq_true rfl) dX12_far_36 (⟨-1, rfl, rfl, .inr ⟨by unfold okFar; omega, rfl⟩⟩)
    · exact absurd c10 (by decide)
set_option maxHeartbeats 4000000 in
theorem m_thrownM (l : Launch) (G : va_G) (am : Nat → Nat) (ty : Nat → ClassId) (τ ρ : mem) (cs : va_W)    : cR l yX12_thrown (ws_ yX12_thrown cX12_thrown 1 (some .int)) (rm4 0 0 0 0) G ty (wM am ty τ ρ ++ cs) [.ref (am 0)] (fun r => r = some (.int (ii (ρ 14 0)))) := by
  refine cR.of (by decide) (Nat.le_of_ble_eq_true rfl) ?_
  intro p e s m args below meth c Q hQ hx hb hr hml hown hlk hts hK hP hD hX ls hl
  have hl : lv_has ls 1 [(0, .ref (am 0))] := hl
  refine lv_aload_n hx hb dX12_thrown_0 rfl (lv_at hl 0 rfl) ?_
  refine va_get (D := G) (ci := 11) (v := .int (ii (ρ 14 0))) (C := RX12) (T := TX12) (N := 52) hx hb hts in_X12 hown hK hP 0 (aM_0 _ _ _ _ _) rfl 14 (by decide) (hts _ q1279) (fun _ h9 => h9) rfl dX12_thrown_1 ?_
  exact eRi hQ hx hb hr hlk dX12_thrown_4 (rfl)
set_option maxHeartbeats 4000000 in
theorem m_down (l : Launch) (G : va_G) (ad : Nat → Nat) (ty : Nat → ClassId) (hv : Nat → Option Nat) (σ ς κ : mem) (cs : va_W)   (hF : okF σ) : cR l yX1_down (ws_ yX1_down cX1_down 1 (some .int)) (rm4 2 0 0 42) G ty (wD ad ty hv σ ς κ ++ cs) [.ref (ad 0)] (fun r => ∃ (z : Int), r = some (.int (ii z)) ∧ ((dn σ (cdv (σ 6) (σ 7)) ∧ z = 1) ∨ (¬ dn σ (cdv (σ 6) (σ 7)) ∧ z = 0))) := by
  refine cR.of (by decide) (Nat.le_of_ble_eq_true rfl) ?_
  intro p e s m args below meth c Q hQ hx hb hr hml hown hlk hts hK hP hD hX ls hl
  have hl : lv_has ls 1 [(0, .ref (ad 0))] := hl
  obtain ⟨hW, hWS, hlg⟩ := id hF
  obtain ⟨hw0, hw1, hw2, hw3, hw4, hw5, h8a, h8b, h9a, h9b, h10a, h10b⟩ := id hW
  obtain ⟨hs0, hs1⟩ := id hWS
  have hdg := cdv_dig3 hWS
  refine lv_aload_n hx hb dX1_down_0 rfl (lv_at hl 0 rfl) ?_
  refine va_get (D := G) (ci := 0) (v := .ref (ad 1)) (C := RX1) (T := TX1) (N := 21) hx hb hts in_X1 hown hK hP 0 (aD_0 _ _ _ _ _ _ _) rfl 0 (by decide) (hts _ q977) (fun _ h9 => h9) rfl dX1_down_1 ?_
  refine lv_aload_n hx hb dX1_down_4 rfl (lv_at hl 0 rfl) ?_
  refine va_get (D := G) (ci := 0) (v := .ref (ad 1)) (C := RX1) (T := TX1) (N := 21) hx hb hts in_X1 hown hK hP 0 (aD_0 _ _ _ _ _ _ _) rfl 0 (by decide) (hts _ q977) (fun _ h9 => h9) rfl dX1_down_5 ?_
  refine va_get (D := G) (ci := 1) (v := .ref (ad 8)) (C := RX2) (T := TX2) (N := 13) hx hb hts in_X2 hown hK hP 1 (aD_1 _ _ _ _ _ _ _) rfl 12 (by decide) (hts _ q810) (fun _ h9 => h9) rfl dX1_down_8 ?_
  refine kR (va_runV (As := [.ref (ad 8)]) (rest := []) ⟨hx, hb, hml, hown, hts⟩ (m_isDownF l G ty (wD ad ty hv σ ς κ ++ cs) (fun k => 1 + k) (fun k => ad (1 + k)) σ (fun k => 8 + k) (fun k => ad (8 + k)) (σ 6) (σ 7)  ⟨rfl, rfl, rfl, rfl, rfl, rfl, rfl⟩ (hW) ⟨rfl, rfl, rfl⟩ (hWS)) (cwV 1 hts (lw_V q595 q596 q597 q77 q598) rfl rfl rfl (by decide +kernel) ⟨Nat.le_of_ble_eq_true rfl, Nat.le_of_ble_eq_true rfl⟩) (pvR (r := (RX2, TX2, 13)) hK hP hD hX 1 (aD_1 _ _ _ _ _ _ _) rfl) rfl rfl hl.1 rfl (lv_room (Nat.le_of_ble_eq_true rfl)) dX1_down_11 ⟨Nat.le_of_ble_eq_true rfl, Nat.le_of_ble_eq_true rfl⟩) (fun v hv => ?_)
  obtain ⟨z11, rfl, ⟨rfl, hb11⟩ | ⟨rfl, hb11⟩⟩ := hv
  · have hb11 : dn σ (cdv (σ 6) (σ 7)) := (dn_iff (hdg)).mp hb11
    refine li_if_eq (tgt := 21) hx hb ⟨by decide, by decide⟩ dX1_down_14 (by decide) (fun c14 => ?_) (fun c14 => ?_)
    · exact absurd c14 (by decide)
    · refine li_iconst hx hb dX1_down_17 ?_
      refine lv_goto (tgt := 22) hx hb dX1_down_18 (by decide) ?_
      exact eRi hQ hx hb hr hlk dX1_down_22 (⟨1, rfl, .inl ⟨hb11, rfl⟩⟩)
  · have hb11 : ¬ dn σ (cdv (σ 6) (σ 7)) := fun q => hb11 ((dn_iff (hdg)).mpr q)
    refine li_if_eq (tgt := 21) hx hb ⟨by decide, by decide⟩ dX1_down_14 (by decide) (fun c14 => ?_) (fun c14 => ?_)
    · refine li_iconst hx hb dX1_down_21 ?_
      exact eRi hQ hx hb hr hlk dX1_down_22 (⟨0, rfl, .inr ⟨hb11, rfl⟩⟩)
    · exact absurd c14 (by decide)
set_option maxHeartbeats 4000000 in
theorem m_downM (l : Launch) (G : va_G) (am : Nat → Nat) (ty : Nat → ClassId) (τ ρ : mem) (cs : va_W)  (F : mem) (hF : okF F) (hSm : Sim F τ) (hSt : wfS (ρ 27) (ρ 28)) (hZ : zerF F) : cM l yX12_down (ws_ yX12_down cX12_down 1 (some .int)) (rm4 1 0 0 22) G ty (wM am ty τ ρ ++ cs) [.ref (am 0)] 0 0 (fun r W' => ∃ (z : Int) (wT : Int → Int) (qT : Int → Int), r = some (.int (ii z)) ∧ W' = wM am ty τ (up (up (up ρ 14 (sc (0))) 27 wT) 28 qT) ++ cs ∧ (wfS wT qT) ∧ ((dn F (cdv (F 6) (F 7)) ∧ z = 1) ∨ (¬ dn F (cdv (F 6) (F 7)) ∧ z = 0))) := by
  refine cM.of (by decide) (Nat.le_of_ble_eq_true rfl) ?_
  intro p e s m args below meth c A Q H locs hQ hx hb hr hml hown hlk hname hts hK hP hD hS hA hX ls hl
  have hl : lv_has ls 1 [(0, .ref (am 0))] := hl
  obtain ⟨hW, hWS, hlg⟩ := id hF
  obtain ⟨hw0, hw1, hw2, hw3, hw4, hw5, h8a, h8b, h9a, h9b, h10a, h10b⟩ := id hW
  obtain ⟨mL, mP, mR, mC, mK, mM, mA, mB, mD⟩ := id hSm
  have hst := (cdv_dig hWS.1 hWS.2).1
  refine lv_aload_n hx hb dX12_down_0 rfl (lv_at hl 0 rfl) ?_
  refine li_iconst hx hb dX12_down_1 ?_
  refine va_put (D := G) (ci := 11) (v := .int (ii 0)) (ty := .int) (C := RX12) (T := TX12) (N := 52) hx hb hts in_X12 tyX12 tyX12_ok nmX12 hown hK hP hD hS 0 (aM_0 _ _ _ _ _) rfl 14 (by decide) (hts _ q1279) (fun _ h9 => h9) rfl (tyX12_ok 14 (by decide)) rfl rfl (Nat.le_of_ble_eq_true rfl) dX12_down_2 (fun H locs hP hD hS => ?_)
  have hP : va_P G gcl (wM am ty τ (up ρ 14 (sc (0))) ++ cs) H := hP
  have hD : va_D A (wM am ty τ (up ρ 14 (sc (0))) ++ cs) := hD
  refine lv_aload_n hx hb dX12_down_5 rfl (lv_at hl 0 rfl) ?_
  refine lv_aload_n hx hb dX12_down_6 rfl (lv_at hl 0 rfl) ?_
  refine kR (va_runV (As := []) (rest := [.ref (am 0)]) ⟨hx, hb, hml, hown, hts⟩ (m_stateNowM l G am ty τ (up ρ 14 (sc (0))) cs _ (show okF F from hF) (show Sim F τ from hSm) (show zerF F from hZ)) (cwV 0 hts (lw_V q1514 q1516 qs46 q87 q1517) rfl rfl rfl (by decide +kernel) ⟨Nat.le_of_ble_eq_true rfl, Nat.le_of_ble_eq_true rfl⟩) (pvR (r := (RX12, TX12, 52)) hK hP hD hX 0 (aM_0 _ _ _ _ _) rfl) rfl rfl hl.1 rfl (lv_room (Nat.le_of_ble_eq_true rfl)) dX12_down_7 ⟨Nat.le_of_ble_eq_true rfl, Nat.le_of_ble_eq_true rfl⟩) (fun v hv => ?_)
  have hv := hv
  subst hv
  refine kM (va_runV (As := [.int (ii (cdv (F 6) (F 7)))]) (rest := []) ⟨hx, hb, hml, hown, hts⟩ ((m_openM l G am ty τ (up ρ 14 (sc (0))) cs (cdv (F 6) (F 7)) (show inSt (cdv (F 6) (F 7)) from hst)) H.size) (cwV 1 hts (lw_V q1518 q1520 qs47 q87 q1521) rfl rfl rfl (by decide +kernel) ⟨Nat.le_of_ble_eq_true rfl, Nat.le_of_ble_eq_true rfl⟩) (pvM (r := (RX12, TX12, 52)) hK hP hD hX 0 (aM_0 _ _ _ _ _) rfl) rfl rfl hl.1 rfl (lv_room (Nat.le_of_ble_eq_true rfl)) dX12_down_10 ⟨Nat.le_of_ble_eq_true rfl, Nat.le_of_ble_eq_true rfl⟩) hD hS hA (fun v ws1 H locs hv hP hD hS => ?_)
  obtain ⟨rfl, rfl, hal10⟩ := hv
  have hP : va_P G gcl (wM am ty τ (up (up (up ρ 14 (sc (0))) 27 (dcw (cdv (F 6) (F 7)) (ρ 27))) 28 (dcq (cdv (F 6) (F 7)) (ρ 28))) ++ cs) H := hP
  have hD : va_D A (wM am ty τ (up (up (up ρ 14 (sc (0))) 27 (dcw (cdv (F 6) (F 7)) (ρ 27))) 28 (dcq (cdv (F 6) (F 7)) (ρ 28))) ++ cs) := hD
  have hal10 : alike (dcw (cdv (F 6) (F 7)) (ρ 27)) (dcq (cdv (F 6) (F 7)) (ρ 28)) (stW (cdv (F 6) (F 7))) (stQ (cdv (F 6) (F 7))) := hal10
  have hS2 : wfS (dcw (cdv (F 6) (F 7)) (ρ 27)) (dcq (cdv (F 6) (F 7)) (ρ 28)) := ⟨dcw_b hSt.1, dcq_b hSt.2⟩
  refine lv_aload_n hx hb dX12_down_13 rfl (lv_at hl 0 rfl) ?_
  refine kR (va_runV (As := []) (rest := []) ⟨hx, hb, hml, hown, hts⟩ (m_isDownM l G am ty τ (up (up (up ρ 14 (sc (0))) 27 (dcw (cdv (F 6) (F 7)) (ρ 27))) 28 (dcq (cdv (F 6) (F 7)) (ρ 28))) cs _ (show okF F from hF) (show Sim F τ from hSm) (show wfS (dcw (cdv (F 6) (F 7)) (ρ 27)) (dcq (cdv (F 6) (F 7)) (ρ 28)) from ⟨dcw_b hSt.1, dcq_b hSt.2⟩)) (cwV 0 hts (lw_V q1570 q1572 qs56 q87 q1573) rfl rfl rfl (by decide +kernel) ⟨Nat.le_of_ble_eq_true rfl, Nat.le_of_ble_eq_true rfl⟩) (pvR (r := (RX12, TX12, 52)) hK hP hD hX 0 (aM_0 _ _ _ _ _) rfl) rfl rfl hl.1 rfl (lv_room (Nat.le_of_ble_eq_true rfl)) dX12_down_14 ⟨Nat.le_of_ble_eq_true rfl, Nat.le_of_ble_eq_true rfl⟩) (fun v hv => ?_)
  obtain ⟨z14, rfl, ⟨rfl, hb14⟩ | ⟨rfl, hb14⟩⟩ := hv
  · have hb14 : dnW F (dcw (cdv (F 6) (F 7)) (ρ 27)) := hb14
    refine li_if_eq (tgt := 24) hx hb ⟨by decide, by decide⟩ dX12_down_17 (by decide) (fun c17 => ?_) (fun c17 => ?_)
    · exact absurd c17 (by decide)
    · refine li_iconst hx hb dX12_down_20 ?_
      refine lv_goto (tgt := 25) hx hb dX12_down_21 (by decide) ?_
      exact eMi hQ hx hb hr hlk hP hD hS (Nat.le_of_ble_eq_true rfl) (Nat.le_of_ble_eq_true rfl) dX12_down_25 (⟨1, (dcw (cdv (F 6) (F 7)) (ρ 27)), (dcq (cdv (F 6) (F 7)) (ρ 28)), rfl, rfl, hS2, .inl ⟨(dnW_al hal10).mp hb14, rfl⟩⟩)
  · have hb14 : ¬ dnW F (dcw (cdv (F 6) (F 7)) (ρ 27)) := hb14
    refine li_if_eq (tgt := 24) hx hb ⟨by decide, by decide⟩ dX12_down_17 (by decide) (fun c17 => ?_) (fun c17 => ?_)
    · refine li_iconst hx hb dX12_down_24 ?_
      exact eMi hQ hx hb hr hlk hP hD hS (Nat.le_of_ble_eq_true rfl) (Nat.le_of_ble_eq_true rfl) dX12_down_25 (⟨0, (dcw (cdv (F 6) (F 7)) (ρ 27)), (dcq (cdv (F 6) (F 7)) (ρ 28)), rfl, rfl, hS2, .inr ⟨fun q => hb14 ((dnW_al hal10).mpr q), rfl⟩⟩)
    · exact absurd c17 (by decide)
