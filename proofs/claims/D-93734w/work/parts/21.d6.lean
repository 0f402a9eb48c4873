/-! DownRope: isAlone, leadsOn, findGood (written by gen/d6.py) -/
set_option maxRecDepth 100000
set_option maxHeartbeats 4000000 in
theorem m_isAlone (l : Launch) (G : va_G) (ad : Nat → Nat) (ty : Nat → ClassId) (hv : Nat → Option Nat) (σ ς κ : mem) (cs : va_W) (c1 : Int) (a1 : Int)  (hF : okF σ) (hT : wfS (ς 11) (ς 12)) (hc : inSt c1) (ha : 0 ≤ a1 ∧ a1 ≤ 2) : cM l yX1_isAlone (ws_ yX1_isAlone cX1_isAlone 4 (some .boolean)) (rm4 1 0 0 23) G ty (wD ad ty hv σ ς κ ++ cs) [.ref (ad 0), .int (ii c1), .int (ii a1)] 0 0 (fun r W' => ∃ (z : Int) (wT : Int → Int) (qT : Int → Int) (κ' : mem), r = some (.int (ii z)) ∧ W' = wD ad ty hv σ (up (up ς 11 wT) 12 qT) κ' ++ cs ∧ (wfS wT qT) ∧ ((z = 1 ∧ (alone σ a1 c1)) ∨ (z = 0 ∧ (¬ alone σ a1 c1)))) := by
  refine cM.of (by decide) (Nat.le_of_ble_eq_true rfl) ?_
  intro p e s m args below meth c A Q H locs hQ hx hb hr hml hown hlk hname hts hK hP hD hS hA hX ls hl
  have hl : lv_has ls 4 [(0, .ref (ad 0)), (1, .int (ii c1)), (2, .int (ii a1))] := hl
  obtain ⟨hW, hWS, hlg⟩ := id hF
  obtain ⟨hw0, hw1, hw2, hw3, hw4, hw5, h8a, h8b, h9a, h9b, h10a, h10b⟩ := id hW
  obtain ⟨hs0, hs1⟩ := id hWS
  obtain ⟨ha0, ha1⟩ := id ha
  have hT2 : wfS (dcw c1 (ς 11)) (dcq c1 (ς 12)) := ⟨dcw_b hT.1, dcq_b hT.2⟩
  have hd0 := dcw_0 c1 (ς 11)
  have hd1 := dcw_1 c1 (ς 11)
  have hd2 := dcw_2 c1 (ς 11)
  refine lv_aload_n hx hb dX1_isAlone_0 rfl (lv_at hl 0 rfl) ?_
  refine va_get (D := G) (ci := 0) (v := .ref (ad 48)) (C := RX1) (T := TX1) (N := 21) hx hb hts in_X1 hown hK hP 0 (aD_0 _ _ _ _ _ _ _) rfl 15 (by decide) (hts _ q992) (fun _ h9 => h9) rfl dX1_isAlone_1 ?_
  refine lv_iload_n hx hb dX1_isAlone_4 rfl (lv_at hl 1 rfl) ?_
  refine kM (va_runV (As := [.int (ii c1)]) (rest := []) ⟨hx, hb, hml, hown, hts⟩ (m_decodes l G ty (wD ad ty hv σ ς κ ++ cs) (fun k => 48 + k) (fun k => ad (48 + k)) (ς 11) (ς 12) c1 ⟨rfl, rfl, rfl⟩ hc (by decide) (by decide) (by decide) (by decide) H.size) (cwV 1 hts (lw_V q626 q627 q628 q78 q629) rfl rfl rfl (by decide +kernel) ⟨Nat.le_of_ble_eq_true rfl, Nat.le_of_ble_eq_true rfl⟩) (pvM (r := (RX3, TX3, 2)) hK hP hD hX 48 (aD_48 _ _ _ _ _ _ _) rfl) rfl rfl hl.1 rfl (lv_room (Nat.le_of_ble_eq_true rfl)) dX1_isAlone_5 ⟨Nat.le_of_ble_eq_true rfl, Nat.le_of_ble_eq_true rfl⟩) hD hS hA (fun v ws1 H locs hv hP hD hS => ?_)
  obtain ⟨rfl, rfl⟩ := hv
  have hP : va_P G gcl (wD ad ty hv σ (up (up ς 11 (dcw c1 (ς 11))) 12 (dcq c1 (ς 12))) κ ++ cs) H := hP
  have hD : va_D A (wD ad ty hv σ (up (up ς 11 (dcw c1 (ς 11))) 12 (dcq c1 (ς 12))) κ ++ cs) := hD
  refine li_iconst hx hb dX1_isAlone_8 ?_
  refine lv_istore_n (lv' := [(3, .int (ii 0)), (0, .ref (ad 0)), (1, .int (ii c1)), (2, .int (ii a1))]) hx hb dX1_isAlone_9 rfl hl (by decide) rfl (fun ls hl => ?_)
  refine lv_iload_n hx hb dX1_isAlone_10 rfl (lv_at hl 0 rfl) ?_
  refine lv_aload_n hx hb dX1_isAlone_11 rfl (lv_at hl 1 rfl) ?_
  refine va_get (D := G) (ci := 0) (v := .ref (ad 1)) (C := RX1) (T := TX1) (N := 21) hx hb hts in_X1 hown hK hP 0 (aD_0 _ _ _ _ _ _ _) rfl 0 (by decide) (hts _ q977) (fun _ h9 => h9) rfl dX1_isAlone_12 ?_
  refine va_get (D := G) (ci := 1) (v := .int (ii (σ 9 0))) (C := RX2) (T := TX2) (N := 13) hx hb hts in_X2 hown hK hP 1 (aD_1 _ _ _ _ _ _ _) rfl 6 (by decide) (hts _ q790) (fun _ h9 => h9) rfl dX1_isAlone_15 ?_
  refine li_icmp_ge (tgt := 66) hx hb ⟨by decide, by decide⟩ (rgi h9a h9b) dX1_isAlone_18 (by decide) (fun c18 => ?_) (fun c18 => ?_)
  · refine li_iconst hx hb dX1_isAlone_66 ?_
    exact eMz hQ hx hb hr hlk hP hD hS (Nat.le_of_ble_eq_true rfl) (Nat.le_of_ble_eq_true rfl) dX1_isAlone_67 (.inr rfl) (⟨1, (dcw c1 (ς 11)), (dcq c1 (ς 12)), κ, rfl, rfl, hT2, .inl ⟨rfl, by unfold alone; omega⟩⟩)
  · refine lv_aload_n hx hb dX1_isAlone_21 rfl (lv_at hl 1 rfl) ?_
    refine va_get (D := G) (ci := 0) (v := .ref (ad 48)) (C := RX1) (T := TX1) (N := 21) hx hb hts in_X1 hown hK hP 0 (aD_0 _ _ _ _ _ _ _) rfl 15 (by decide) (hts _ q992) (fun _ h9 => h9) rfl dX1_isAlone_22 ?_
    refine va_get (D := G) (ci := 2) (v := .ref (ad 49)) (C := RX3) (T := TX3) (N := 2) hx hb hts in_X3 hown hK hP 48 (aD_48 _ _ _ _ _ _ _) rfl 0 (by decide) (hts _ q657) (fun _ h9 => h9) rfl dX1_isAlone_25 ?_
    refine lv_iload_n hx hb dX1_isAlone_28 rfl (lv_at hl 0 rfl) ?_
    refine li_iald (g := (dcw c1 (ς 11))) hx hb hK hP 49 0 (aD_49 _ _ _ _ _ _ _) rfl (by decide) (by decide) (by decide) dX1_isAlone_29 ?_
    refine lv_aload_n hx hb dX1_isAlone_30 rfl (lv_at hl 1 rfl) ?_
    refine va_get (D := G) (ci := 0) (v := .ref (ad 1)) (C := RX1) (T := TX1) (N := 21) hx hb hts in_X1 hown hK hP 0 (aD_0 _ _ _ _ _ _ _) rfl 0 (by decide) (hts _ q977) (fun _ h9 => h9) rfl dX1_isAlone_31 ?_
    refine kR (va_runV (As := []) (rest := [.int (ii ((dcw c1 (ς 11)) 0))]) ⟨hx, hb, hml, hown, hts⟩ (m_ground l G ty (wD ad ty hv σ (up (up ς 11 (dcw c1 (ς 11))) 12 (dcq c1 (ς 12))) κ ++ cs) (fun k => 1 + k) (fun k => ad (1 + k)) σ  ⟨rfl, rfl, rfl, rfl, rfl, rfl, rfl⟩ (hW)) (cwV 0 hts (lw_V q329 q330 q331 q77 q332) rfl rfl rfl (by decide +kernel) ⟨Nat.le_of_ble_eq_true rfl, Nat.le_of_ble_eq_true rfl⟩) (pvR (r := (RX2, TX2, 13)) hK hP hD hX 1 (aD_1 _ _ _ _ _ _ _) rfl) rfl rfl hl.1 rfl (lv_room (Nat.le_of_ble_eq_true rfl)) dX1_isAlone_34 ⟨Nat.le_of_ble_eq_true rfl, Nat.le_of_ble_eq_true rfl⟩) (fun v hv => ?_)
    obtain ⟨z34, rfl, h34⟩ := hv
    refine li_icmp_ne (tgt := 44) hx hb ⟨by omega, by omega⟩ ⟨by omega, by omega⟩ dX1_isAlone_37 (by decide) (fun c37 => ?_) (fun c37 => ?_)
    · refine li_iconst hx hb dX1_isAlone_44 ?_
      refine lv_iload_n hx hb dX1_isAlone_45 rfl (lv_at hl 0 rfl) ?_
      refine lv_iload_n hx hb dX1_isAlone_46 rfl (lv_at hl 3 rfl) ?_
      refine li_icmp_ne (tgt := 54) hx hb ⟨by decide, by decide⟩ ⟨by omega, by omega⟩ dX1_isAlone_47 (by decide) (fun c47 => ?_) (fun c47 => ?_)
      · refine li_iconst hx hb dX1_isAlone_54 ?_
        refine li_icmp_ne (tgt := 60) hx hb ⟨by decide, by decide⟩ ⟨by decide, by decide⟩ dX1_isAlone_55 (by decide) (fun c55 => ?_) (fun c55 => ?_)
        · exact absurd c55 (by decide)
        · refine li_iconst hx hb dX1_isAlone_58 ?_
          exact eMz hQ hx hb hr hlk hP hD hS (Nat.le_of_ble_eq_true rfl) (Nat.le_of_ble_eq_true rfl) dX1_isAlone_59 (.inl rfl) (⟨0, (dcw c1 (ς 11)), (dcq c1 (ς 12)), κ, rfl, rfl, hT2, .inr ⟨rfl, by unfold alone; omega⟩⟩)
      · refine li_iconst hx hb dX1_isAlone_50 ?_
        refine lv_goto (tgt := 55) hx hb dX1_isAlone_51 (by decide) ?_
        refine li_icmp_ne (tgt := 60) hx hb ⟨by decide, by decide⟩ ⟨by decide, by decide⟩ dX1_isAlone_55 (by decide) (fun c55 => ?_) (fun c55 => ?_)
        · refine li_iinc (a := 0) (lv' := [(3, .int (ii 1)), (0, .ref (ad 0)), (1, .int (ii c1)), (2, .int (ii a1))]) hx hb dX1_isAlone_60 hl (k := 0) rfl (by decide) rfl (fun ls hl => ?_)
          refine lv_goto (tgt := 10) hx hb dX1_isAlone_63 (by decide) ?_
          refine lv_iload_n hx hb dX1_isAlone_10 rfl (lv_at hl 0 rfl) ?_
          refine lv_aload_n hx hb dX1_isAlone_11 rfl (lv_at hl 1 rfl) ?_
          refine va_get (D := G) (ci := 0) (v := .ref (ad 1)) (C := RX1) (T := TX1) (N := 21) hx hb hts in_X1 hown hK hP 0 (aD_0 _ _ _ _ _ _ _) rfl 0 (by decide) (hts _ q977) (fun _ h9 => h9) rfl dX1_isAlone_12 ?_
          refine va_get (D := G) (ci := 1) (v := .int (ii (σ 9 0))) (C := RX2) (T := TX2) (N := 13) hx hb hts in_X2 hown hK hP 1 (aD_1 _ _ _ _ _ _ _) rfl 6 (by decide) (hts _ q790) (fun _ h9 => h9) rfl dX1_isAlone_15 ?_
          refine li_icmp_ge (tgt := 66) hx hb ⟨by decide, by decide⟩ (rgi h9a h9b) dX1_isAlone_18 (by decide) (fun c18 => ?_) (fun c18 => ?_)
          · refine li_iconst hx hb dX1_isAlone_66 ?_
            exact eMz hQ hx hb hr hlk hP hD hS (Nat.le_of_ble_eq_true rfl) (Nat.le_of_ble_eq_true rfl) dX1_isAlone_67 (.inr rfl) (⟨1, (dcw c1 (ς 11)), (dcq c1 (ς 12)), κ, rfl, rfl, hT2, .inl ⟨rfl, by unfold alone; omega⟩⟩)
          · refine lv_aload_n hx hb dX1_isAlone_21 rfl (lv_at hl 1 rfl) ?_
            refine va_get (D := G) (ci := 0) (v := .ref (ad 48)) (C := RX1) (T := TX1) (N := 21) hx hb hts in_X1 hown hK hP 0 (aD_0 _ _ _ _ _ _ _) rfl 15 (by decide) (hts _ q992) (fun _ h9 => h9) rfl dX1_isAlone_22 ?_
            refine va_get (D := G) (ci := 2) (v := .ref (ad 49)) (C := RX3) (T := TX3) (N := 2) hx hb hts in_X3 hown hK hP 48 (aD_48 _ _ _ _ _ _ _) rfl 0 (by decide) (hts _ q657) (fun _ h9 => h9) rfl dX1_isAlone_25 ?_
            refine lv_iload_n hx hb dX1_isAlone_28 rfl (lv_at hl 0 rfl) ?_
            refine li_iald (g := (dcw c1 (ς 11))) hx hb hK hP 49 0 (aD_49 _ _ _ _ _ _ _) rfl (by decide) (by decide) (by decide) dX1_isAlone_29 ?_
            refine lv_aload_n hx hb dX1_isAlone_30 rfl (lv_at hl 1 rfl) ?_
            refine va_get (D := G) (ci := 0) (v := .ref (ad 1)) (C := RX1) (T := TX1) (N := 21) hx hb hts in_X1 hown hK hP 0 (aD_0 _ _ _ _ _ _ _) rfl 0 (by decide) (hts _ q977) (fun _ h9 => h9) rfl dX1_isAlone_31 ?_
            refine kR (va_runV (As := []) (rest := [.int (ii ((dcw c1 (ς 11)) 1))]) ⟨hx, hb, hml, hown, hts⟩ (m_ground l G ty (wD ad ty hv σ (up (up ς 11 (dcw c1 (ς 11))) 12 (dcq c1 (ς 12))) κ ++ cs) (fun k => 1 + k) (fun k => ad (1 + k)) σ  ⟨rfl, rfl, rfl, rfl, rfl, rfl, rfl⟩ (hW)) (cwV 0 hts (lw_V q329 q330 q331 q77 q332) rfl rfl rfl (by decide +kernel) ⟨Nat.le_of_ble_eq_true rfl, Nat.le_of_ble_eq_true rfl⟩) (pvR (r := (RX2, TX2, 13)) hK hP hD hX 1 (aD_1 _ _ _ _ _ _ _) rfl) rfl rfl hl.1 rfl (lv_room (Nat.le_of_ble_eq_true rfl)) dX1_isAlone_34 ⟨Nat.le_of_ble_eq_true rfl, Nat.le_of_ble_eq_true rfl⟩) (fun v hv => ?_)
            obtain ⟨z34_1, rfl, h34_1⟩ := hv
            refine li_icmp_ne (tgt := 44) hx hb ⟨by omega, by omega⟩ ⟨by omega, by omega⟩ dX1_isAlone_37 (by decide) (fun c37 => ?_) (fun c37 => ?_)
            · refine li_iconst hx hb dX1_isAlone_44 ?_
              refine lv_iload_n hx hb dX1_isAlone_45 rfl (lv_at hl 0 rfl) ?_
              refine lv_iload_n hx hb dX1_isAlone_46 rfl (lv_at hl 3 rfl) ?_
              refine li_icmp_ne (tgt := 54) hx hb ⟨by decide, by decide⟩ ⟨by omega, by omega⟩ dX1_isAlone_47 (by decide) (fun c47 => ?_) (fun c47 => ?_)
              · refine li_iconst hx hb dX1_isAlone_54 ?_
                refine li_icmp_ne (tgt := 60) hx hb ⟨by decide, by decide⟩ ⟨by decide, by decide⟩ dX1_isAlone_55 (by decide) (fun c55 => ?_) (fun c55 => ?_)
                · exact absurd c55 (by decide)
                · refine li_iconst hx hb dX1_isAlone_58 ?_
                  exact eMz hQ hx hb hr hlk hP hD hS (Nat.le_of_ble_eq_true rfl) (Nat.le_of_ble_eq_true rfl) dX1_isAlone_59 (.inl rfl) (⟨0, (dcw c1 (ς 11)), (dcq c1 (ς 12)), κ, rfl, rfl, hT2, .inr ⟨rfl, by unfold alone; omega⟩⟩)
              · refine li_iconst hx hb dX1_isAlone_50 ?_
                refine lv_goto (tgt := 55) hx hb dX1_isAlone_51 (by decide) ?_
                refine li_icmp_ne (tgt := 60) hx hb ⟨by decide, by decide⟩ ⟨by decide, by decide⟩ dX1_isAlone_55 (by decide) (fun c55 => ?_) (fun c55 => ?_)
                · refine li_iinc (a := 1) (lv' := [(3, .int (ii 2)), (0, .ref (ad 0)), (1, .int (ii c1)), (2, .int (ii a1))]) hx hb dX1_isAlone_60 hl (k := 0) rfl (by decide) rfl (fun ls hl => ?_)
                  refine lv_goto (tgt := 10) hx hb dX1_isAlone_63 (by decide) ?_
                  refine lv_iload_n hx hb dX1_isAlone_10 rfl (lv_at hl 0 rfl) ?_
                  refine lv_aload_n hx hb dX1_isAlone_11 rfl (lv_at hl 1 rfl) ?_
                  refine va_get (D := G) (ci := 0) (v := .ref (ad 1)) (C := RX1) (T := TX1) (N := 21) hx hb hts in_X1 hown hK hP 0 (aD_0 _ _ _ _ _ _ _) rfl 0 (by decide) (hts _ q977) (fun _ h9 => h9) rfl dX1_isAlone_12 ?_
                  refine va_get (D := G) (ci := 1) (v := .int (ii (σ 9 0))) (C := RX2) (T := TX2) (N := 13) hx hb hts in_X2 hown hK hP 1 (aD_1 _ _ _ _ _ _ _) rfl 6 (by decide) (hts _ q790) (fun _ h9 => h9) rfl dX1_isAlone_15 ?_
                  refine li_icmp_ge (tgt := 66) hx hb ⟨by decide, by decide⟩ (rgi h9a h9b) dX1_isAlone_18 (by decide) (fun c18 => ?_) (fun c18 => ?_)
                  · refine li_iconst hx hb dX1_isAlone_66 ?_
                    exact eMz hQ hx hb hr hlk hP hD hS (Nat.le_of_ble_eq_true rfl) (Nat.le_of_ble_eq_true rfl) dX1_isAlone_67 (.inr rfl) (⟨1, (dcw c1 (ς 11)), (dcq c1 (ς 12)), κ, rfl, rfl, hT2, .inl ⟨rfl, by unfold alone; omega⟩⟩)
                  · refine lv_aload_n hx hb dX1_isAlone_21 rfl (lv_at hl 1 rfl) ?_
                    refine va_get (D := G) (ci := 0) (v := .ref (ad 48)) (C := RX1) (T := TX1) (N := 21) hx hb hts in_X1 hown hK hP 0 (aD_0 _ _ _ _ _ _ _) rfl 15 (by decide) (hts _ q992) (fun _ h9 => h9) rfl dX1_isAlone_22 ?_
                    refine va_get (D := G) (ci := 2) (v := .ref (ad 49)) (C := RX3) (T := TX3) (N := 2) hx hb hts in_X3 hown hK hP 48 (aD_48 _ _ _ _ _ _ _) rfl 0 (by decide) (hts _ q657) (fun _ h9 => h9) rfl dX1_isAlone_25 ?_
                    refine lv_iload_n hx hb dX1_isAlone_28 rfl (lv_at hl 0 rfl) ?_
                    refine li_iald (g := (dcw c1 (ς 11))) hx hb hK hP 49 0 (aD_49 _ _ _ _ _ _ _) rfl (by decide) (by decide) (by decide) dX1_isAlone_29 ?_
                    refine lv_aload_n hx hb dX1_isAlone_30 rfl (lv_at hl 1 rfl) ?_
                    refine va_get (D := G) (ci := 0) (v := .ref (ad 1)) (C := RX1) (T := TX1) (N := 21) hx hb hts in_X1 hown hK hP 0 (aD_0 _ _ _ _ _ _ _) rfl 0 (by decide) (hts _ q977) (fun _ h9 => h9) rfl dX1_isAlone_31 ?_
                    refine kR (va_runV (As := []) (rest := [.int (ii ((dcw c1 (ς 11)) 2))]) ⟨hx, hb, hml, hown, hts⟩ (m_ground l G ty (wD ad ty hv σ (up (up ς 11 (dcw c1 (ς 11))) 12 (dcq c1 (ς 12))) κ ++ cs) (fun k => 1 + k) (fun k => ad (1 + k)) σ  ⟨rfl, rfl, rfl, rfl, rfl, rfl, rfl⟩ (hW)) (cwV 0 hts (lw_V q329 q330 q331 q77 q332) rfl rfl rfl (by decide +kernel) ⟨Nat.le_of_ble_eq_true rfl, Nat.le_of_ble_eq_true rfl⟩) (pvR (r := (RX2, TX2, 13)) hK hP hD hX 1 (aD_1 _ _ _ _ _ _ _) rfl) rfl rfl hl.1 rfl (lv_room (Nat.le_of_ble_eq_true rfl)) dX1_isAlone_34 ⟨Nat.le_of_ble_eq_true rfl, Nat.le_of_ble_eq_true rfl⟩) (fun v hv => ?_)
                    obtain ⟨z34_2, rfl, h34_2⟩ := hv
                    refine li_icmp_ne (tgt := 44) hx hb ⟨by omega, by omega⟩ ⟨by omega, by omega⟩ dX1_isAlone_37 (by decide) (fun c37 => ?_) (fun c37 => ?_)
                    · refine li_iconst hx hb dX1_isAlone_44 ?_
                      refine lv_iload_n hx hb dX1_isAlone_45 rfl (lv_at hl 0 rfl) ?_
                      refine lv_iload_n hx hb dX1_isAlone_46 rfl (lv_at hl 3 rfl) ?_
                      refine li_icmp_ne (tgt := 54) hx hb ⟨by decide, by decide⟩ ⟨by omega, by omega⟩ dX1_isAlone_47 (by decide) (fun c47 => ?_) (fun c47 => ?_)
                      · refine li_iconst hx hb dX1_isAlone_54 ?_
                        refine li_icmp_ne (tgt := 60) hx hb ⟨by decide, by decide⟩ ⟨by decide, by decide⟩ dX1_isAlone_55 (by decide) (fun c55 => ?_) (fun c55 => ?_)
                        · exact absurd c55 (by decide)
                        · refine li_iconst hx hb dX1_isAlone_58 ?_
                          exact eMz hQ hx hb hr hlk hP hD hS (Nat.le_of_ble_eq_true rfl) (Nat.le_of_ble_eq_true rfl) dX1_isAlone_59 (.inl rfl) (⟨0, (dcw c1 (ς 11)), (dcq c1 (ς 12)), κ, rfl, rfl, hT2, .inr ⟨rfl, by unfold alone; omega⟩⟩)
                      · refine li_iconst hx hb dX1_isAlone_50 ?_
                        refine lv_goto (tgt := 55) hx hb dX1_isAlone_51 (by decide) ?_
                        refine li_icmp_ne (tgt := 60) hx hb ⟨by decide, by decide⟩ ⟨by decide, by decide⟩ dX1_isAlone_55 (by decide) (fun c55 => ?_) (fun c55 => ?_)
                        · refine li_iinc (a := 2) (lv' := [(3, .int (ii 3)), (0, .ref (ad 0)), (1, .int (ii c1)), (2, .int (ii a1))]) hx hb dX1_isAlone_60 hl (k := 0) rfl (by decide) rfl (fun ls hl => ?_)
                          refine lv_goto (tgt := 10) hx hb dX1_isAlone_63 (by decide) ?_
                          refine lv_iload_n hx hb dX1_isAlone_10 rfl (lv_at hl 0 rfl) ?_
                          refine lv_aload_n hx hb dX1_isAlone_11 rfl (lv_at hl 1 rfl) ?_
                          refine va_get (D := G) (ci := 0) (v := .ref (ad 1)) (C := RX1) (T := TX1) (N := 21) hx hb hts in_X1 hown hK hP 0 (aD_0 _ _ _ _ _ _ _) rfl 0 (by decide) (hts _ q977) (fun _ h9 => h9) rfl dX1_isAlone_12 ?_
                          refine va_get (D := G) (ci := 1) (v := .int (ii (σ 9 0))) (C := RX2) (T := TX2) (N := 13) hx hb hts in_X2 hown hK hP 1 (aD_1 _ _ _ _ _ _ _) rfl 6 (by decide) (hts _ q790) (fun _ h9 => h9) rfl dX1_isAlone_15 ?_
                          refine li_icmp_ge (tgt := 66) hx hb ⟨by decide, by decide⟩ (rgi h9a h9b) dX1_isAlone_18 (by decide) (fun c18 => ?_) (fun c18 => ?_)
                          · refine li_iconst hx hb dX1_isAlone_66 ?_
                            exact eMz hQ hx hb hr hlk hP hD hS (Nat.le_of_ble_eq_true rfl) (Nat.le_of_ble_eq_true rfl) dX1_isAlone_67 (.inr rfl) (⟨1, (dcw c1 (ς 11)), (dcq c1 (ς 12)), κ, rfl, rfl, hT2, .inl ⟨rfl, by unfold alone; omega⟩⟩)
                          · exfalso
                            omega
                        · exact absurd c55 (by decide)
                    · refine li_iconst hx hb dX1_isAlone_40 ?_
                      refine lv_goto (tgt := 45) hx hb dX1_isAlone_41 (by decide) ?_
                      refine lv_iload_n hx hb dX1_isAlone_45 rfl (lv_at hl 0 rfl) ?_
                      refine lv_iload_n hx hb dX1_isAlone_46 rfl (lv_at hl 3 rfl) ?_
                      refine li_icmp_ne (tgt := 54) hx hb ⟨by decide, by decide⟩ ⟨by omega, by omega⟩ dX1_isAlone_47 (by decide) (fun c47 => ?_) (fun c47 => ?_)
                      · refine li_iconst hx hb dX1_isAlone_54 ?_
                        refine li_icmp_ne (tgt := 60) hx hb ⟨by decide, by decide⟩ ⟨by decide, by decide⟩ dX1_isAlone_55 (by decide) (fun c55 => ?_) (fun c55 => ?_)
                        · refine li_iinc (a := 2) (lv' := [(3, .int (ii 3)), (0, .ref (ad 0)), (1, .int (ii c1)), (2, .int (ii a1))]) hx hb dX1_isAlone_60 hl (k := 0) rfl (by decide) rfl (fun ls hl => ?_)
                          refine lv_goto (tgt := 10) hx hb dX1_isAlone_63 (by decide) ?_
                          refine lv_iload_n hx hb dX1_isAlone_10 rfl (lv_at hl 0 rfl) ?_
                          refine lv_aload_n hx hb dX1_isAlone_11 rfl (lv_at hl 1 rfl) ?_
                          refine va_get (D := G) (ci := 0) (v := .ref (ad 1)) (C := RX1) (T := TX1) (N := 21) hx hb hts in_X1 hown hK hP 0 (aD_0 _ _ _ _ _ _ _) rfl 0 (by decide) (hts _ q977) (fun _ h9 => h9) rfl dX1_isAlone_12 ?_
                          refine va_get (D := G) (ci := 1) (v := .int (ii (σ 9 0))) (C := RX2) (T := TX2) (N := 13) hx hb hts in_X2 hown hK hP 1 (aD_1 _ _ _ _ _ _ _) rfl 6 (by decide) (hts _ q790) (fun _ h9 => h9) rfl dX1_isAlone_15 ?_
                          refine li_icmp_ge (tgt := 66) hx hb ⟨by decide, by decide⟩ (rgi h9a h9b) dX1_isAlone_18 (by decide) (fun c18 => ?_) (fun c18 => ?_)
                          · refine li_iconst hx hb dX1_isAlone_66 ?_
                            exact eMz hQ hx hb hr hlk hP hD hS (Nat.le_of_ble_eq_true rfl) (Nat.le_of_ble_eq_true rfl) dX1_isAlone_67 (.inr rfl) (⟨1, (dcw c1 (ς 11)), (dcq c1 (ς 12)), κ, rfl, rfl, hT2, .inl ⟨rfl, by unfold alone; omega⟩⟩)
                          · exfalso
                            omega
                        · exact absurd c55 (by decide)
                      · refine li_iconst hx hb dX1_isAlone_50 ?_
                        refine lv_goto (tgt := 55) hx hb dX1_isAlone_51 (by decide) ?_
                        refine li_icmp_ne (tgt := 60) hx hb ⟨by decide, by decide⟩ ⟨by decide, by decide⟩ dX1_isAlone_55 (by decide) (fun c55 => ?_) (fun c55 => ?_)
                        · exact absurd c55 (by decide)
                        · refine li_iconst hx hb dX1_isAlone_58 ?_
                          exact eMz hQ hx hb hr hlk hP hD hS (Nat.le_of_ble_eq_true rfl) (Nat.le_of_ble_eq_true rfl) dX1_isAlone_59 (.inl rfl) (⟨0, (dcw c1 (ς 11)), (dcq c1 (ς 12)), κ, rfl, rfl, hT2, .inr ⟨rfl, by unfold alone; omega⟩⟩)
                · exact absurd c55 (by decide)
            · refine li_iconst hx hb dX1_isAlone_40 ?_
              refine lv_goto (tgt := 45) hx hb dX1_isAlone_41 (by decide) ?_
              refine lv_iload_n hx hb dX1_isAlone_45 rfl (lv_at hl 0 rfl) ?_
              refine lv_iload_n hx hb dX1_isAlone_46 rfl (lv_at hl 3 rfl) ?_
              refine li_icmp_ne (tgt := 54) hx hb ⟨by decide, by decide⟩ ⟨by omega, by omega⟩ dX1_isAlone_47 (by decide) (fun c47 => ?_) (fun c47 => ?_)
              · refine li_iconst hx hb dX1_isAlone_54 ?_
                refine li_icmp_ne (tgt := 60) hx hb ⟨by decide, by decide⟩ ⟨by decide, by decide⟩ dX1_isAlone_55 (by decide) (fun c55 => ?_) (fun c55 => ?_)
                · refine li_iinc (a := 1) (lv' := [(3, .int (ii 2)), (0, .ref (ad 0)), (1, .int (ii c1)), (2, .int (ii a1))]) hx hb dX1_isAlone_60 hl (k := 0) rfl (by decide) rfl (fun ls hl => ?_)
                  refine lv_goto (tgt := 10) hx hb dX1_isAlone_63 (by decide) ?_
                  refine lv_iload_n hx hb dX1_isAlone_10 rfl (lv_at hl 0 rfl) ?_
                  refine lv_aload_n hx hb dX1_isAlone_11 rfl (lv_at hl 1 rfl) ?_
                  refine va_get (D := G) (ci := 0) (v := .ref (ad 1)) (C := RX1) (T := TX1) (N := 21) hx hb hts in_X1 hown hK hP 0 (aD_0 _ _ _ _ _ _ _) rfl 0 (by decide) (hts _ q977) (fun _ h9 => h9) rfl dX1_isAlone_12 ?_
                  refine va_get (D := G) (ci := 1) (v := .int (ii (σ 9 0))) (C := RX2) (T := TX2) (N := 13) hx hb hts in_X2 hown hK hP 1 (aD_1 _ _ _ _ _ _ _) rfl 6 (by decide) (hts _ q790) (fun _ h9 => h9) rfl dX1_isAlone_15 ?_
                  refine li_icmp_ge (tgt := 66) hx hb ⟨by decide, by decide⟩ (rgi h9a h9b) dX1_isAlone_18 (by decide) (fun c18 => ?_) (fun c18 => ?_)
                  · refine li_iconst hx hb dX1_isAlone_66 ?_
                    exact eMz hQ hx hb hr hlk hP hD hS (Nat.le_of_ble_eq_true rfl) (Nat.le_of_ble_eq_true rfl) dX1_isAlone_67 (.inr rfl) (⟨1, (dcw c1 (ς 11)), (dcq c1 (ς 12)), κ, rfl, rfl, hT2, .inl ⟨rfl, by unfold alone; omega⟩⟩)
                  · refine lv_aload_n hx hb dX1_isAlone_21 rfl (lv_at hl 1 rfl) ?_
                    refine va_get (D := G) (ci := 0) (v := .ref (ad 48)) (C := RX1) (T := TX1) (N := 21) hx hb hts in_X1 hown hK hP 0 (aD_0 _ _ _ _ _ _ _) rfl 15 (by decide) (hts _ q992) (fun _ h9 => h9) rfl dX1_isAlone_22 ?_
                    refine va_get (D := G) (ci := 2) (v := .ref (ad 49)) (C := RX3) (T := TX3) (N := 2) hx hb hts in_X3 hown hK hP 48 (aD_48 _ _ _ _ _ _ _) rfl 0 (by decide) (hts _ q657) (fun _ h9 => h9) rfl dX1_isAlone_25 ?_
                    refine lv_iload_n hx hb dX1_isAlone_28 rfl (lv_at hl 0 rfl) ?_
                    refine li_iald (g := (dcw c1 (ς 11))) hx hb hK hP 49 0 (aD_49 _ _ _ _ _ _ _) rfl (by decide) (by decide) (by decide) dX1_isAlone_29 ?_
                    refine lv_aload_n hx hb dX1_isAlone_30 rfl (lv_at hl 1 rfl) ?_
                    refine va_get (D := G) (ci := 0) (v := .ref (ad 1)) (C := RX1) (T := TX1) (N := 21) hx hb hts in_X1 hown hK hP 0 (aD_0 _ _ _ _ _ _ _) rfl 0 (by decide) (hts _ q977) (fun _ h9 => h9) rfl dX1_isAlone_31 ?_
                    refine kR (va_runV (As := []) (rest := [.int (ii ((dcw c1 (ς 11)) 2))]) ⟨hx, hb, hml, hown, hts⟩ (m_ground l G ty (wD ad ty hv σ (up (up ς 11 (dcw c1 (ς 11))) 12 (dcq c1 (ς 12))) κ ++ cs) (fun k => 1 + k) (fun k => ad (1 + k)) σ  ⟨rfl, rfl, rfl, rfl, rfl, rfl, rfl⟩ (hW)) (cwV 0 hts (lw_V q329 q330 q331 q77 q332) rfl rfl rfl (by decide +kernel) ⟨Nat.le_of_ble_eq_true rfl, Nat.le_of_ble_eq_true rfl⟩) (pvR (r := (RX2, TX2, 13)) hK hP hD hX 1 (aD_1 _ _ _ _ _ _ _) rfl) rfl rfl hl.1 rfl (lv_room (Nat.le_of_ble_eq_true rfl)) dX1_isAlone_34 ⟨Nat.le_of_ble_eq_true rfl, Nat.le_of_ble_eq_true rfl⟩) (fun v hv => ?_)
                    obtain ⟨z34_2, rfl, h34_2⟩ := hv
                    refine li_icmp_ne (tgt := 44) hx hb ⟨by omega, by omega⟩ ⟨by omega, by omega⟩ dX1_isAlone_37 (by decide) (fun c37 => ?_) (fun c37 => ?_)
                    · refine li_iconst hx hb dX1_isAlone_44 ?_
                      refine lv_iload_n hx hb dX1_isAlone_45 rfl (lv_at hl 0 rfl) ?_
                      refine lv_iload_n hx hb dX1_isAlone_46 rfl (lv_at hl 3 rfl) ?_
                      refine li_icmp_ne (tgt := 54) hx hb ⟨by decide, by decide⟩ ⟨by omega, by omega⟩ dX1_isAlone_47 (by decide) (fun c47 => ?_) (fun c47 => ?_)
                      · refine li_iconst hx hb dX1_isAlone_54 ?_
                        refine li_icmp_ne (tgt := 60) hx hb ⟨by decide, by decide⟩ ⟨by decide, by decide⟩ dX1_isAlone_55 (by decide) (fun c55 => ?_) (fun c55 => ?_)
                        · exact absurd c55 (by decide)
                        · refine li_iconst hx hb dX1_isAlone_58 ?_
                          exact eMz hQ hx hb hr hlk hP hD hS (Nat.le_of_ble_eq_true rfl) (Nat.le_of_ble_eq_true rfl) dX1_isAlone_59 (.inl rfl) (⟨0, (dcw c1 (ς 11)), (dcq c1 (ς 12)), κ, rfl, rfl, hT2, .inr ⟨rfl, by unfold alone; omega⟩⟩)
                      · refine li_iconst hx hb dX1_isAlone_50 ?_
                        refine lv_goto (tgt := 55) hx hb dX1_isAlone_51 (by decide) ?_
                        refine li_icmp_ne (tgt := 60) hx hb ⟨by decide, by decide⟩ ⟨by decide, by decide⟩ dX1_isAlone_55 (by decide) (fun c55 => ?_) (fun c55 => ?_)
                        · refine li_iinc (a := 2) (lv' := [(3, .int (ii 3)), (0, .ref (ad 0)), (1, .int (ii c1)), (2, .int (ii a1))]) hx hb dX1_isAlone_60 hl (k := 0) rfl (by decide) rfl (fun ls hl => ?_)
                          refine lv_goto (tgt := 10) hx hb dX1_isAlone_63 (by decide) ?_
                          refine lv_iload_n hx hb dX1_isAlone_10 rfl (lv_at hl 0 rfl) ?_
                          refine lv_aload_n hx hb dX1_isAlone_11 rfl (lv_at hl 1 rfl) ?_
                          refine va_get (D := G) (ci := 0) (v := .ref (ad 1)) (C := RX1) (T := TX1) (N := 21) hx hb hts in_X1 hown hK hP 0 (aD_0 _ _ _ _ _ _ _) rfl 0 (by decide) (hts _ q977) (fun _ h9 => h9) rfl dX1_isAlone_12 ?_
                          refine va_get (D := G) (ci := 1) (v := .int (ii (σ 9 0))) (C := RX2) (T := TX2) (N := 13) hx hb hts in_X2 hown hK hP 1 (aD_1 _ _ _ _ _ _ _) rfl 6 (by decide) (hts _ q790) (fun _ h9 => h9) rfl dX1_isAlone_15 ?_
                          refine li_icmp_ge (tgt := 66) hx hb ⟨by decide, by decide⟩ (rgi h9a h9b) dX1_isAlone_18 (by decide) (fun c18 => ?_) (fun c18 => ?_)
                          · refine li_iconst hx hb dX1_isAlone_66 ?_
                            exact eMz hQ hx hb hr hlk hP hD hS (Nat.le_of_ble_eq_true rfl) (Nat.le_of_ble_eq_true rfl) dX1_isAlone_67 (.inr rfl) (⟨1, (dcw c1 (ς 11)), (dcq c1 (ς 12)), κ, rfl, rfl, hT2, .inl ⟨rfl, by unfold alone; omega⟩⟩)
                          · exfalso
                            omega
                        · exact absurd c55 (by decide)
                    · refine li_iconst hx hb dX1_isAlone_40 ?_
                      refine lv_goto (tgt := 45) hx hb dX1_isAlone_41 (by decide) ?_
                      refine lv_iload_n hx hb dX1_isAlone_45 rfl (lv_at hl 0 rfl) ?_
                      refine lv_iload_n hx hb dX1_isAlone_46 rfl (lv_at hl 3 rfl) ?_
                      refine li_icmp_ne (tgt := 54) hx hb ⟨by decide, by decide⟩ ⟨by omega, by omega⟩ dX1_isAlone_47 (by decide) (fun c47 => ?_) (fun c47 => ?_)
                      · refine li_iconst hx hb dX1_isAlone_54 ?_
                        refine li_icmp_ne (tgt := 60) hx hb ⟨by decide, by decide⟩ ⟨by decide, by decide⟩ dX1_isAlone_55 (by decide) (fun c55 => ?_) (fun c55 => ?_)
                        · refine li_iinc (a := 2) (lv' := [(3, .int (ii 3)), (0, .ref (ad 0)), (1, .int (ii c1)), (2, .int (ii a1))]) hx hb dX1_isAlone_60 hl (k := 0) rfl (by decide) rfl (fun ls hl => ?_)
                          refine lv_goto (tgt := 10) hx hb dX1_isAlone_63 (by decide) ?_
                          refine lv_iload_n hx hb dX1_isAlone_10 rfl (lv_at hl 0 rfl) ?_
                          refine lv_aload_n hx hb dX1_isAlone_11 rfl (lv_at hl 1 rfl) ?_
                          refine va_get (D := G) (ci := 0) (v := .ref (ad 1)) (C := RX1) (T := TX1) (N := 21) hx hb hts in_X1 hown hK hP 0 (aD_0 _ _ _ _ _ _ _) rfl 0 (by decide) (hts _ q977) (fun _ h9 => h9) rfl dX1_isAlone_12 ?_
                          refine va_get (D := G) (ci := 1) (v := .int (ii (σ 9 0))) (C := RX2) (T := TX2) (N := 13) hx hb hts in_X2 hown hK hP 1 (aD_1 _ _ _ _ _ _ _) rfl 6 (by decide) (hts _ q790) (fun _ h9 => h9) rfl dX1_isAlone_15 ?_
                          refine li_icmp_ge (tgt := 66) hx hb ⟨by decide, by decide⟩ (rgi h9a h9b) dX1_isAlone_18 (by decide) (fun c18 => ?_) (fun c18 => ?_)
                          · refine li_iconst hx hb dX1_isAlone_66 ?_
                            exact eMz hQ hx hb hr hlk hP hD hS (Nat.le_of_ble_eq_true rfl) (Nat.le_of_ble_eq_true rfl) dX1_isAlone_67 (.inr rfl) (⟨1, (dcw c1 (ς 11)), (dcq c1 (ς 12)), κ, rfl, rfl, hT2, .inl ⟨rfl, by unfold alone; omega⟩⟩)
                          · exfalso
                            omega
                        · exact absurd c55 (by decide)
                      · refine li_iconst hx hb dX1_isAlone_50 ?_
                        refine lv_goto (tgt := 55) hx hb dX1_isAlone_51 (by decide) ?_
                        refine li_icmp_ne (tgt := 60) hx hb ⟨by decide, by decide⟩ ⟨by decide, by decide⟩ dX1_isAlone_55 (by decide) (fun c55 => ?_) (fun c55 => ?_)
                        · exact absurd c55 (by decide)
                        · refine li_iconst hx hb dX1_isAlone_58 ?_
                          exact eMz hQ hx hb hr hlk hP hD hS (Nat.le_of_ble_eq_true rfl) (Nat.le_of_ble_eq_true rfl) dX1_isAlone_59 (.inl rfl) (⟨0, (dcw c1 (ς 11)), (dcq c1 (ς 12)), κ, rfl, rfl, hT2, .inr ⟨rfl, by unfold alone; omega⟩⟩)
                · exact absurd c55 (by decide)
              · refine li_iconst hx hb dX1_isAlone_50 ?_
                refine lv_goto (tgt := 55) hx hb dX1_isAlone_51 (by decide) ?_
                refine li_icmp_ne (tgt := 60) hx hb ⟨by decide, by decide⟩ ⟨by decide, by decide⟩ dX1_isAlone_55 (by decide) (fun c55 => ?_) (fun c55 => ?_)
                · exact absurd c55 (by decide)
                · refine li_iconst hx hb dX1_isAlone_58 ?_
                  exact eMz hQ hx hb hr hlk hP hD hS (Nat.le_of_ble_eq_true rfl) (Nat.le_of_ble_eq_true rfl) dX1_isAlone_59 (.inl rfl) (⟨0, (dcw c1 (ς 11)), (dcq c1 (ς 12)), κ, rfl, rfl, hT2, .inr ⟨rfl, by unfold alone; omega⟩⟩)
        · exact absurd c55 (by decide)
    · refine li_iconst hx hb dX1_isAlone_40 ?_
      refine lv_goto (tgt := 45) hx hb dX1_isAlone_41 (by decide) ?_
      refine lv_iload_n hx hb dX1_isAlone_45 rfl (lv_at hl 0 rfl) ?_
      refine lv_iload_n hx hb dX1_isAlone_46 rfl (lv_at hl 3 rfl) ?_
      refine li_icmp_ne (tgt := 54) hx hb ⟨by decide, by decide⟩ ⟨by omega, by omega⟩ dX1_isAlone_47 (by decide) (fun c47 => ?_) (fun c47 => ?_)
      · refine li_iconst hx hb dX1_isAlone_54 ?_
        refine li_icmp_ne (tgt := 60) hx hb ⟨by decide, by decide⟩ ⟨by decide, by decide⟩ dX1_isAlone_55 (by decide) (fun c55 => ?_) (fun c55 => ?_)
        · refine li_iinc (a := 0) (lv' := [(3, .int (ii 1)), (0, .ref (ad 0)), (1, .int (ii c1)), (2, .int (ii a1))]) hx hb dX1_isAlone_60 hl (k := 0) rfl (by decide) rfl (fun ls hl => ?_)
          refine lv_goto (tgt := 10) hx hb dX1_isAlone_63 (by decide) ?_
          refine lv_iload_n hx hb dX1_isAlone_10 rfl (lv_at hl 0 rfl) ?_
          refine lv_aload_n hx hb dX1_isAlone_11 rfl (lv_at hl 1 rfl) ?_
          refine va_get (D := G) (ci := 0) (v := .ref (ad 1)) (C := RX1) (T := TX1) (N := 21) hx hb hts in_X1 hown hK hP 0 (aD_0 _ _ _ _ _ _ _) rfl 0 (by decide) (hts _ q977) (fun _ h9 => h9) rfl dX1_isAlone_12 ?_
          refine va_get (D := G) (ci := 1) (v := .int (ii (σ 9 0))) (C := RX2) (T := TX2) (N := 13) hx hb hts in_X2 hown hK hP 1 (aD_1 _ _ _ _ _ _ _) rfl 6 (by decide) (hts _ q790) (fun _ h9 => h9) rfl dX1_isAlone_15 ?_
          refine li_icmp_ge (tgt := 66) hx hb ⟨by decide, by decide⟩ (rgi h9a h9b) dX1_isAlone_18 (by decide) (fun c18 => ?_) (fun c18 => ?_)
          · refine li_iconst hx hb dX1_isAlone_66 ?_
            exact eMz hQ hx hb hr hlk hP hD hS (Nat.le_of_ble_eq_true rfl) (Nat.le_of_ble_eq_true rfl) dX1_isAlone_67 (.inr rfl) (⟨1, (dcw c1 (ς 11)), (dcq c1 (ς 12)), κ, rfl, rfl, hT2, .inl ⟨rfl, by unfold alone; omega⟩⟩)
          · refine lv_aload_n hx hb dX1_isAlone_21 rfl (lv_at hl 1 rfl) ?_
            refine va_get (D := G) (ci := 0) (v := .ref (ad 48)) (C := RX1) (T := TX1) (N := 21) hx hb hts in_X1 hown hK hP 0 (aD_0 _ _ _ _ _ _ _) rfl 15 (by decide) (hts _ q992) (fun _ h9 => h9) rfl dX1_isAlone_22 ?_
            refine va_get (D := G) (ci := 2) (v := .ref (ad 49)) (C := RX3) (T := TX3) (N := 2) hx hb hts in_X3 hown hK hP 48 (aD_48 _ _ _ _ _ _ _) rfl 0 (by decide) (hts _ q657) (fun _ h9 => h9) rfl dX1_isAlone_25 ?_
            refine lv_iload_n hx hb dX1_isAlone_28 rfl (lv_at hl 0 rfl) ?_
            refine li_iald (g := (dcw c1 (ς 11))) hx hb hK hP 49 0 (aD_49 _ _ _ _ _ _ _) rfl (by decide) (by decide) (by decide) dX1_isAlone_29 ?_
            refine lv_aload_n hx hb dX1_isAlone_30 rfl (lv_at hl 1 rfl) ?_
            refine va_get (D := G) (ci := 0) (v := .ref (ad 1)) (C := RX1) (T := TX1) (N := 21) hx hb hts in_X1 hown hK hP 0 (aD_0 _ _ _ _ _ _ _) rfl 0 (by decide) (hts _ q977) (fun _ h9 => h9) rfl dX1_isAlone_31 ?_
            refine kR (va_runV (As := []) (rest := [.int (ii ((dcw c1 (ς 11)) 1))]) ⟨hx, hb, hml, hown, hts⟩ (m_ground l G ty (wD ad ty hv σ (up (up ς 11 (dcw c1 (ς 11))) 12 (dcq c1 (ς 12))) κ ++ cs) (fun k => 1 + k) (fun k => ad (1 + k)) σ  ⟨rfl, rfl, rfl, rfl, rfl, rfl, rfl⟩ (hW)) (cwV 0 hts (lw_V q329 q330 q331 q77 q332) rfl rfl rfl (by decide +kernel) ⟨Nat.le_of_ble_eq_true rfl, Nat.le_of_ble_eq_true rfl⟩) (pvR (r := (RX2, TX2, 13)) hK hP hD hX 1 (aD_1 _ _ _ _ _ _ _) rfl) rfl rfl hl.1 rfl (lv_room (Nat.le_of_ble_eq_true rfl)) dX1_isAlone_34 ⟨Nat.le_of_ble_eq_true rfl, Nat.le_of_ble_eq_true rfl⟩) (fun v hv => ?_)
            obtain ⟨z34_1, rfl, h34_1⟩ := hv
            refine li_icmp_ne (tgt := 44) hx hb ⟨by omega, by omega⟩ ⟨by omega, by omega⟩ dX1_isAlone_37 (by decide) (fun c37 => ?_) (fun c37 => ?_)
            · refine li_iconst hx hb dX1_isAlone_44 ?_
              refine lv_iload_n hx hb dX1_isAlone_45 rfl (lv_at hl 0 rfl) ?_
              refine lv_iload_n hx hb dX1_isAlone_46 rfl (lv_at hl 3 rfl) ?_
              refine li_icmp_ne (tgt := 54) hx hb ⟨by decide, by decide⟩ ⟨by omega, by omega⟩ dX1_isAlone_47 (by decide) (fun c47 => ?_) (fun c47 => ?_)
              · refine li_iconst hx hb dX1_isAlone_54 ?_
                refine li_icmp_ne (tgt := 60) hx hb ⟨by decide, by decide⟩ ⟨by decide, by decide⟩ dX1_isAlone_55 (by decide) (fun c55 => ?_) (fun c55 => ?_)
                · exact absurd c55 (by decide)
                · refine li_iconst hx hb dX1_isAlone_58 ?_
                  exact eMz hQ hx hb hr hlk hP hD hS (Nat.le_of_ble_eq_true rfl) (Nat.le_of_ble_eq_true rfl) dX1_isAlone_59 (.inl rfl) (⟨0, (dcw c1 (ς 11)), (dcq c1 (ς 12)), κ, rfl, rfl, hT2, .inr ⟨rfl, by unfold alone; omega⟩⟩)
              · refine li_iconst hx hb dX1_isAlone_50 ?_
                refine lv_goto (tgt := 55) hx hb dX1_isAlone_51 (by decide) ?_
                refine li_icmp_ne (tgt := 60) hx hb ⟨by decide, by decide⟩ ⟨by decide, by decide⟩ dX1_isAlone_55 (by decide) (fun c55 => ?_) (fun c55 => ?_)
                · refine li_iinc (a := 1) (lv' := [(3, .int (ii 2)), (0, .ref (ad 0)), (1, .int (ii c1)), (2, .int (ii a1))]) hx hb dX1_isAlone_60 hl (k := 0) rfl (by decide) rfl (fun ls hl => ?_)
                  refine lv_goto (tgt := 10) hx hb dX1_isAlone_63 (by decide) ?_
                  refine lv_iload_n hx hb dX1_isAlone_10 rfl (lv_at hl 0 rfl) ?_
                  refine lv_aload_n hx hb dX1_isAlone_11 rfl (lv_at hl 1 rfl) ?_
                  refine va_get (D := G) (ci := 0) (v := .ref (ad 1)) (C := RX1) (T := TX1) (N := 21) hx hb hts in_X1 hown hK hP 0 (aD_0 _ _ _ _ _ _ _) rfl 0 (by decide) (hts _ q977) (fun _ h9 => h9) rfl dX1_isAlone_12 ?_
                  refine va_get (D := G) (ci := 1) (v := .int (ii (σ 9 0))) (C := RX2) (T := TX2) (N := 13) hx hb hts in_X2 hown hK hP 1 (aD_1 _ _ _ _ _ _ _) rfl 6 (by decide) (hts _ q790) (fun _ h9 => h9) rfl dX1_isAlone_15 ?_
                  refine li_icmp_ge (tgt := 66) hx hb ⟨by decide, by decide⟩ (rgi h9a h9b) dX1_isAlone_18 (by decide) (fun c18 => ?_) (fun c18 => ?_)
                  · refine li_iconst hx hb dX1_isAlone_66 ?_
                    exact eMz hQ hx hb hr hlk hP hD hS (Nat.le_of_ble_eq_true rfl) (Nat.le_of_ble_eq_true rfl) dX1_isAlone_67 (.inr rfl) (⟨1, (dcw c1 (ς 11)), (dcq c1 (ς 12)), κ, rfl, rfl, hT2, .inl ⟨rfl, by unfold alone; omega⟩⟩)
                  · refine lv_aload_n hx hb dX1_isAlone_21 rfl (lv_at hl 1 rfl) ?_
                    refine va_get (D := G) (ci := 0) (v := .ref (ad 48)) (C := RX1) (T := TX1) (N := 21) hx hb hts in_X1 hown hK hP 0 (aD_0 _ _ _ _ _ _ _) rfl 15 (by decide) (hts _ q992) (fun _ h9 => h9) rfl dX1_isAlone_22 ?_
                    refine va_get (D := G) (ci := 2) (v := .ref (ad 49)) (C := RX3) (T := TX3) (N := 2) hx hb hts in_X3 hown hK hP 48 (aD_48 _ _ _ _ _ _ _) rfl 0 (by decide) (hts _ q657) (fun _ h9 => h9) rfl dX1_isAlone_25 ?_
                    refine lv_iload_n hx hb dX1_isAlone_28 rfl (lv_at hl 0 rfl) ?_
                    refine li_iald (g := (dcw c1 (ς 11))) hx hb hK hP 49 0 (aD_49 _ _ _ _ _ _ _) rfl (by decide) (by decide) (by decide) dX1_isAlone_29 ?_
                    refine lv_aload_n hx hb dX1_isAlone_30 rfl (lv_at hl 1 rfl) ?_
                    refine va_get (D := G) (ci := 0) (v := .ref (ad 1)) (C := RX1) (T := TX1) (N := 21) hx hb hts in_X1 hown hK hP 0 (aD_0 _ _ _ _ _ _ _) rfl 0 (by decide) (hts _ q977) (fun _ h9 => h9) rfl dX1_isAlone_31 ?_
                    refine kR (va_runV (As := []) (rest := [.int (ii ((dcw c1 (ς 11)) 2))]) ⟨hx, hb, hml, hown, hts⟩ (m_ground l G ty (wD ad ty hv σ (up (up ς 11 (dcw c1 (ς 11))) 12 (dcq c1 (ς 12))) κ ++ cs) (fun k => 1 + k) (fun k => ad (1 + k)) σ  ⟨rfl, rfl, rfl, rfl, rfl, rfl, rfl⟩ (hW)) (cwV 0 hts (lw_V q329 q330 q331 q77 q332) rfl rfl rfl (by decide +kernel) ⟨Nat.le_of_ble_eq_true rfl, Nat.le_of_ble_eq_true rfl⟩) (pvR (r := (RX2, TX2, 13)) hK hP hD hX 1 (aD_1 _ _ _ _ _ _ _) rfl) rfl rfl hl.1 rfl (lv_room (Nat.le_of_ble_eq_true rfl)) dX1_isAlone_34 ⟨Nat.le_of_ble_eq_true rfl, Nat.le_of_ble_eq_true rfl⟩) (fun v hv => ?_)
                    obtain ⟨z34_2, rfl, h34_2⟩ := hv
                    refine li_icmp_ne (tgt := 44) hx hb ⟨by omega, by omega⟩ ⟨by omega, by omega⟩ dX1_isAlone_37 (by decide) (fun c37 => ?_) (fun c37 => ?_)
                    · refine li_iconst hx hb dX1_isAlone_44 ?_
                      refine lv_iload_n hx hb dX1_isAlone_45 rfl (lv_at hl 0 rfl) ?_
                      refine lv_iload_n hx hb dX1_isAlone_46 rfl (lv_at hl 3 rfl) ?_
                      refine li_icmp_ne (tgt := 54) hx hb ⟨by decide, by decide⟩ ⟨by omega, by omega⟩ dX1_isAlone_47 (by decide) (fun c47 => ?_) (fun c47 => ?_)
                      · refine li_iconst hx hb dX1_isAlone_54 ?_
                        refine li_icmp_ne (tgt := 60) hx hb ⟨by decide, by decide⟩ ⟨by decide, by decide⟩ dX1_isAlone_55 (by decide) (fun c55 => ?_) (fun c55 => ?_)
                        · exact absurd c55 (by decide)
                        · refine li_iconst hx hb dX1_isAlone_58 ?_
                          exact eMz hQ hx hb hr hlk hP hD hS (Nat.le_of_ble_eq_true rfl) (Nat.le_of_ble_eq_true rfl) dX1_isAlone_59 (.inl rfl) (⟨0, (dcw c1 (ς 11)), (dcq c1 (ς 12)), κ, rfl, rfl, hT2, .inr ⟨rfl, by unfold alone; omega⟩⟩)
                      · refine li_iconst hx hb dX1_isAlone_50 ?_
                        refine lv_goto (tgt := 55) hx hb dX1_isAlone_51 (by decide) ?_
                        refine li_icmp_ne (tgt := 60) hx hb ⟨by decide, by decide⟩ ⟨by decide, by decide⟩ dX1_isAlone_55 (by decide) (fun c55 => ?_) (fun c55 => ?_)
                        · refine li_iinc (a := 2) (lv' := [(3, .int (ii 3)), (0, .ref (ad 0)), (1, .int (ii c1)), (2, .int (ii a1))]) hx hb dX1_isAlone_60 hl (k := 0) rfl (by decide) rfl (fun ls hl => ?_)
                          refine lv_goto (tgt := 10) hx hb dX1_isAlone_63 (by decide) ?_
                          refine lv_iload_n hx hb dX1_isAlone_10 rfl (lv_at hl 0 rfl) ?_
                          refine lv_aload_n hx hb dX1_isAlone_11 rfl (lv_at hl 1 rfl) ?_
                          refine va_get (D := G) (ci := 0) (v := .ref (ad 1)) (C := RX1) (T := TX1) (N := 21) hx hb hts in_X1 hown hK hP 0 (aD_0 _ _ _ _ _ _ _) rfl 0 (by decide) (hts _ q977) (fun _ h9 => h9) rfl dX1_isAlone_12 ?_
                          refine va_get (D := G) (ci := 1) (v := .int (ii (σ 9 0))) (C := RX2) (T := TX2) (N := 13) hx hb hts in_X2 hown hK hP 1 (aD_1 _ _ _ _ _ _ _) rfl 6 (by decide) (hts _ q790) (fun _ h9 => h9) rfl dX1_isAlone_15 ?_
                          refine li_icmp_ge (tgt := 66) hx hb ⟨by decide, by decide⟩ (rgi h9a h9b) dX1_isAlone_18 (by decide) (fun c18 => ?_) (fun c18 => ?_)
                          · refine li_iconst hx hb dX1_isAlone_66 ?_
                            exact eMz hQ hx hb hr hlk hP hD hS (Nat.le_of_ble_eq_true rfl) (Nat.le_of_ble_eq_true rfl) dX1_isAlone_67 (.inr rfl) (⟨1, (dcw c1 (ς 11)), (dcq c1 (ς 12)), κ, rfl, rfl, hT2, .inl ⟨rfl, by unfold alone; omega⟩⟩)
                          · exfalso
                            omega
                        · exact absurd c55 (by decide)
                    · refine li_iconst hx hb dX1_isAlone_40 ?_
                      refine lv_goto (tgt := 45) hx hb dX1_isAlone_41 (by decide) ?_
                      refine lv_iload_n hx hb dX1_isAlone_45 rfl (lv_at hl 0 rfl) ?_
                      refine lv_iload_n hx hb dX1_isAlone_46 rfl (lv_at hl 3 rfl) ?_
                      refine li_icmp_ne (tgt := 54) hx hb ⟨by decide, by decide⟩ ⟨by omega, by omega⟩ dX1_isAlone_47 (by decide) (fun c47 => ?_) (fun c47 => ?_)
                      · refine li_iconst hx hb dX1_isAlone_54 ?_
                        refine li_icmp_ne (tgt := 60) hx hb ⟨by decide, by decide⟩ ⟨by decide, by decide⟩ dX1_isAlone_55 (by decide) (fun c55 => ?_) (fun c55 => ?_)
                        · refine li_iinc (a := 2) (lv' := [(3, .int (ii 3)), (0, .ref (ad 0)), (1, .int (ii c1)), (2, .int (ii a1))]) hx hb dX1_isAlone_60 hl (k := 0) rfl (by decide) rfl (fun ls hl => ?_)
                          refine lv_goto (tgt := 10) hx hb dX1_isAlone_63 (by decide) ?_
                          refine lv_iload_n hx hb dX1_isAlone_10 rfl (lv_at hl 0 rfl) ?_
                          refine lv_aload_n hx hb dX1_isAlone_11 rfl (lv_at hl 1 rfl) ?_
                          refine va_get (D := G) (ci := 0) (v := .ref (ad 1)) (C := RX1) (T := TX1) (N := 21) hx hb hts in_X1 hown hK hP 0 (aD_0 _ _ _ _ _ _ _) rfl 0 (by decide) (hts _ q977) (fun _ h9 => h9) rfl dX1_isAlone_12 ?_
                          refine va_get (D := G) (ci := 1) (v := .int (ii (σ 9 0))) (C := RX2) (T := TX2) (N := 13) hx hb hts in_X2 hown hK hP 1 (aD_1 _ _ _ _ _ _ _) rfl 6 (by decide) (hts _ q790) (fun _ h9 => h9) rfl dX1_isAlone_15 ?_
                          refine li_icmp_ge (tgt := 66) hx hb ⟨by decide, by decide⟩ (rgi h9a h9b) dX1_isAlone_18 (by decide) (fun c18 => ?_) (fun c18 => ?_)
                          · refine li_iconst hx hb dX1_isAlone_66 ?_
                            exact eMz hQ hx hb hr hlk hP hD hS (Nat.le_of_ble_eq_true rfl) (Nat.le_of_ble_eq_true rfl) dX1_isAlone_67 (.inr rfl) (⟨1, (dcw c1 (ς 11)), (dcq c1 (ς 12)), κ, rfl, rfl, hT2, .inl ⟨rfl, by unfold alone; omega⟩⟩)
                          · exfalso
                            omega
                        · exact absurd c55 (by decide)
                      · refine li_iconst hx hb dX1_isAlone_50 ?_
                        refine lv_goto (tgt := 55) hx hb dX1_isAlone_51 (by decide) ?_
                        refine li_icmp_ne (tgt := 60) hx hb ⟨by decide, by decide⟩ ⟨by decide, by decide⟩ dX1_isAlone_55 (by decide) (fun c55 => ?_) (fun c55 => ?_)
                        · exact absurd c55 (by decide)
                        · refine li_iconst hx hb dX1_isAlone_58 ?_
                          exact eMz hQ hx hb hr hlk hP hD hS (Nat.le_of_ble_eq_true rfl) (Nat.le_of_ble_eq_true rfl) dX1_isAlone_59 (.inl rfl) (⟨0, (dcw c1 (ς 11)), (dcq c1 (ς 12)), κ, rfl, rfl, hT2, .inr ⟨rfl, by unfold alone; omega⟩⟩)
                · exact absurd c55 (by decide)
            · refine li_iconst hx hb dX1_isAlone_40 ?_
              refine lv_goto (tgt := 45) hx hb dX1_isAlone_41 (by decide) ?_
              refine lv_iload_n hx hb dX1_isAlone_45 rfl (lv_at hl 0 rfl) ?_
              refine lv_iload_n hx hb dX1_isAlone_46 rfl (lv_at hl 3 rfl) ?_
              refine li_icmp_ne (tgt := 54) hx hb ⟨by decide, by decide⟩ ⟨by omega, by omega⟩ dX1_isAlone_47 (by decide) (fun c47 => ?_) (fun c47 => ?_)
              · refine li_iconst hx hb dX1_isAlone_54 ?_
                refine li_icmp_ne (tgt := 60) hx hb ⟨by decide, by decide⟩ ⟨by decide, by decide⟩ dX1_isAlone_55 (by decide) (fun c55 => ?_) (fun c55 => ?_)
                · refine li_iinc (a := 1) (lv' := [(3, .int (ii 2)), (0, .ref (ad 0)), (1, .int (ii c1)), (2, .int (ii a1))]) hx hb dX1_isAlone_60 hl (k := 0) rfl (by decide) rfl (fun ls hl => ?_)
                  refine lv_goto (tgt := 10) hx hb dX1_isAlone_63 (by decide) ?_
                  refine lv_iload_n hx hb dX1_isAlone_10 rfl (lv_at hl 0 rfl) ?_
                  refine lv_aload_n hx hb dX1_isAlone_11 rfl (lv_at hl 1 rfl) ?_
                  refine va_get (D := G) (ci := 0) (v := .ref (ad 1)) (C := RX1) (T := TX1) (N := 21) hx hb hts in_X1 hown hK hP 0 (aD_0 _ _ _ _ _ _ _) rfl 0 (by decide) (hts _ q977) (fun _ h9 => h9) rfl dX1_isAlone_12 ?_
                  refine va_get (D := G) (ci := 1) (v := .int (ii (σ 9 0))) (C := RX2) (T := TX2) (N := 13) hx hb hts in_X2 hown hK hP 1 (aD_1 _ _ _ _ _ _ _) rfl 6 (by decide) (hts _ q790) (fun _ h9 => h9) rfl dX1_isAlone_15 ?_
                  refine li_icmp_ge (tgt := 66) hx hb ⟨by decide, by decide⟩ (rgi h9a h9b) dX1_isAlone_18 (by decide) (fun c18 => ?_) (fun c18 => ?_)
                  · refine li_iconst hx hb dX1_isAlone_66 ?_
                    exact eMz hQ hx hb hr hlk hP hD hS (Nat.le_of_ble_eq_true rfl) (Nat.le_of_ble_eq_true rfl) dX1_isAlone_67 (.inr rfl) (⟨1, (dcw c1 (ς 11)), (dcq c1 (ς 12)), κ, rfl, rfl, hT2, .inl ⟨rfl, by unfold alone; omega⟩⟩)
                  · refine lv_aload_n hx hb dX1_isAlone_21 rfl (lv_at hl 1 rfl) ?_
                    refine va_get (D := G) (ci := 0) (v := .ref (ad 48)) (C := RX1) (T := TX1) (N := 21) hx hb hts in_X1 hown hK hP 0 (aD_0 _ _ _ _ _ _ _) rfl 15 (by decide) (hts _ q992) (fun _ h9 => h9) rfl dX1_isAlone_22 ?_
                    refine va_get (D := G) (ci := 2) (v := .ref (ad 49)) (C := RX3) (T := TX3) (N := 2) hx hb hts in_X3 hown hK hP 48 (aD_48 _ _ _ _ _ _ _) rfl 0 (by decide) (hts _ q657) (fun _ h9 => h9) rfl dX1_isAlone_25 ?_
                    refine lv_iload_n hx hb dX1_isAlone_28 rfl (lv_at hl 0 rfl) ?_
                    refine li_iald (g := (dcw c1 (ς 11))) hx hb hK hP 49 0 (aD_49 _ _ _ _ _ _ _) rfl (by decide) (by decide) (by decide) dX1_isAlone_29 ?_
                    refine lv_aload_n hx hb dX1_isAlone_30 rfl (lv_at hl 1 rfl) ?_
                    refine va_get (D := G) (ci := 0) (v := .ref (ad 1)) (C := RX1) (T := TX1) (N := 21) hx hb hts in_X1 hown hK hP 0 (aD_0 _ _ _ _ _ _ _) rfl 0 (by decide) (hts _ q977) (fun _ h9 => h9) rfl dX1_isAlone_31 ?_
                    refine kR (va_runV (As := []) (rest := [.int (ii ((dcw c1 (ς 11)) 2))]) ⟨hx, hb, hml, hown, hts⟩ (m_ground l G ty (wD ad ty hv σ (up (up ς 11 (dcw c1 (ς 11))) 12 (dcq c1 (ς 12))) κ ++ cs) (fun k => 1 + k) (fun k => ad (1 + k)) σ  ⟨rfl, rfl, rfl, rfl, rfl, rfl, rfl⟩ (hW)) (cwV 0 hts (lw_V q329 q330 q331 q77 q332) rfl rfl rfl (by decide +kernel) ⟨Nat.le_of_ble_eq_true rfl, Nat.le_of_ble_eq_true rfl⟩) (pvR (r := (RX2, TX2, 13)) hK hP hD hX 1 (aD_1 _ _ _ _ _ _ _) rfl) rfl rfl hl.1 rfl (lv_room (Nat.le_of_ble_eq_true rfl)) dX1_isAlone_34 ⟨Nat.le_of_ble_eq_true rfl, Nat.le_of_ble_eq_true rfl⟩) (fun v hv => ?_)
                    obtain ⟨z34_2, rfl, h34_2⟩ := hv
                    refine li_icmp_ne (tgt := 44) hx hb ⟨by omega, by omega⟩ ⟨by omega, by omega⟩ dX1_isAlone_37 (by decide) (fun c37 => ?_) (fun c37 => ?_)
                    · refine li_iconst hx hb dX1_isAlone_44 ?_
                      refine lv_iload_n hx hb dX1_isAlone_45 rfl (lv_at hl 0 rfl) ?_
                      refine lv_iload_n hx hb dX1_isAlone_46 rfl (lv_at hl 3 rfl) ?_
                      refine li_icmp_ne (tgt := 54) hx hb ⟨by decide, by decide⟩ ⟨by omega, by omega⟩ dX1_isAlone_47 (by decide) (fun c47 => ?_) (fun c47 => ?_)
                      · refine li_iconst hx hb dX1_isAlone_54 ?_
                        refine li_icmp_ne (tgt := 60) hx hb ⟨by decide, by decide⟩ ⟨by decide, by decide⟩ dX1_isAlone_55 (by decide) (fun c55 => ?_) (fun c55 => ?_)
                        · exact absurd c55 (by decide)
                        · refine li_iconst hx hb dX1_isAlone_58 ?_
                          exact eMz hQ hx hb hr hlk hP hD hS (Nat.le_of_ble_eq_true rfl) (Nat.le_of_ble_eq_true rfl) dX1_isAlone_59 (.inl rfl) (⟨0, (dcw c1 (ς 11)), (dcq c1 (ς 12)), κ, rfl, rfl, hT2, .inr ⟨rfl, by unfold alone; omega⟩⟩)
                      · refine li_iconst hx hb dX1_isAlone_50 ?_
                        refine lv_goto (tgt := 55) hx hb dX1_isAlone_51 (by decide) ?_
                        refine li_icmp_ne (tgt := 60) hx hb ⟨by decide, by decide⟩ ⟨by decide, by decide⟩ dX1_isAlone_55 (by decide) (fun c55 => ?_) (fun c55 => ?_)
                        · refine li_iinc (a := 2) (lv' := [(3, .int (ii 3)), (0, .ref (ad 0)), (1, .int (ii c1)), (2, .int (ii a1))]) hx hb dX1_isAlone_60 hl (k := 0) rfl (by decide) rfl (fun ls hl => ?_)
                          refine lv_goto (tgt := 10) hx hb dX1_isAlone_63 (by decide) ?_
                          refine lv_iload_n hx hb dX1_isAlone_10 rfl (lv_at hl 0 rfl) ?_
                          refine lv_aload_n hx hb dX1_isAlone_11 rfl (lv_at hl 1 rfl) ?_
                          refine va_get (D := G) (ci := 0) (v := .ref (ad 1)) (C := RX1) (T := TX1) (N := 21) hx hb hts in_X1 hown hK hP 0 (aD_0 _ _ _ _ _ _ _) rfl 0 (by decide) (hts _ q977) (fun _ h9 => h9) rfl dX1_isAlone_12 ?_
                          refine va_get (D := G) (ci := 1) (v := .int (ii (σ 9 0))) (C := RX2) (T := TX2) (N := 13) hx hb hts in_X2 hown hK hP 1 (aD_1 _ _ _ _ _ _ _) rfl 6 (by decide) (hts _ q790) (fun _ h9 => h9) rfl dX1_isAlone_15 ?_
                          refine li_icmp_ge (tgt := 66) hx hb ⟨by decide, by decide⟩ (rgi h9a h9b) dX1_isAlone_18 (by decide) (fun c18 => ?_) (fun c18 => ?_)
                          · refine li_iconst hx hb dX1_isAlone_66 ?_
                            exact eMz hQ hx hb hr hlk hP hD hS (Nat.le_of_ble_eq_true rfl) (Nat.le_of_ble_eq_true rfl) dX1_isAlone_67 (.inr rfl) (⟨1, (dcw c1 (ς 11)), (dcq c1 (ς 12)), κ, rfl, rfl, hT2, .inl ⟨rfl, by unfold alone; omega⟩⟩)
                          · exfalso
                            omega
                        · exact absurd c55 (by decide)
                    · refine li_iconst hx hb dX1_isAlone_40 ?_
                      refine lv_goto (tgt := 45) hx hb dX1_isAlone_41 (by decide) ?_
                      refine lv_iload_n hx hb dX1_isAlone_45 rfl (lv_at hl 0 rfl) ?_
                      refine lv_iload_n hx hb dX1_isAlone_46 rfl (lv_at hl 3 rfl) ?_
                      refine li_icmp_ne (tgt := 54) hx hb ⟨by decide, by decide⟩ ⟨by omega, by omega⟩ dX1_isAlone_47 (by decide) (fun c47 => ?_) (fun c47 => ?_)
                      · refine li_iconst hx hb dX1_isAlone_54 ?_
                        refine li_icmp_ne (tgt := 60) hx hb ⟨by decide, by decide⟩ ⟨by decide, by decide⟩ dX1_isAlone_55 (by decide) (fun c55 => ?_) (fun c55 => ?_)
                        · refine li_iinc (a := 2) (lv' := [(3, .int (ii 3)), (0, .ref (ad 0)), (1, .int (ii c1)), (2, .int (ii a1))]) hx hb dX1_isAlone_60 hl (k := 0) rfl (by decide) rfl (fun ls hl => ?_)
                          refine lv_goto (tgt := 10) hx hb dX1_isAlone_63 (by decide) ?_
                          refine lv_iload_n hx hb dX1_isAlone_10 rfl (lv_at hl 0 rfl) ?_
                          refine lv_aload_n hx hb dX1_isAlone_11 rfl (lv_at hl 1 rfl) ?_
                          refine va_get (D := G) (ci := 0) (v := .ref (ad 1)) (C := RX1) (T := TX1) (N := 21) hx hb hts in_X1 hown hK hP 0 (aD_0 _ _ _ _ _ _ _) rfl 0 (by decide) (hts _ q977) (fun _ h9 => h9) rfl dX1_isAlone_12 ?_
                          refine va_get (D := G) (ci := 1) (v := .int (ii (σ 9 0))) (C := RX2) (T := TX2) (N := 13) hx hb hts in_X2 hown hK hP 1 (aD_1 _ _ _ _ _ _ _) rfl 6 (by decide) (hts _ q790) (fun _ h9 => h9) rfl dX1_isAlone_15 ?_
                          refine li_icmp_ge (tgt := 66) hx hb ⟨by decide, by decide⟩ (rgi h9a h9b) dX1_isAlone_18 (by decide) (fun c18 => ?_) (fun c18 => ?_)
                          · refine li_iconst hx hb dX1_isAlone_66 ?_
                            exact eMz hQ hx hb hr hlk hP hD hS (Nat.le_of_ble_eq_true rfl) (Nat.le_of_ble_eq_true rfl) dX1_isAlone_67 (.inr rfl) (⟨1, (dcw c1 (ς 11)), (dcq c1 (ς 12)), κ, rfl, rfl, hT2, .inl ⟨rfl, by unfold alone; omega⟩⟩)
                          · exfalso
                            omega
                        · exact absurd c55 (by decide)
                      · refine li_iconst hx hb dX1_isAlone_50 ?_
                        refine lv_goto (tgt := 55) hx hb dX1_isAlone_51 (by decide) ?_
                        refine li_icmp_ne (tgt := 60) hx hb ⟨by decide, by decide⟩ ⟨by decide, by decide⟩ dX1_isAlone_55 (by decide) (fun c55 => ?_) (fun c55 => ?_)
                        · exact absurd c55 (by decide)
                        · refine li_iconst hx hb dX1_isAlone_58 ?_
                          exact eMz hQ hx hb hr hlk hP hD hS (Nat.le_of_ble_eq_true rfl) (Nat.le_of_ble_eq_true rfl) dX1_isAlone_59 (.inl rfl) (⟨0, (dcw c1 (ς 11)), (dcq c1 (ς 12)), κ, rfl, rfl, hT2, .inr ⟨rfl, by unfold alone; omega⟩⟩)
                · exact absurd c55 (by decide)
              · refine li_iconst hx hb dX1_isAlone_50 ?_
                refine lv_goto (tgt := 55) hx hb dX1_isAlone_51 (by decide) ?_
                refine li_icmp_ne (tgt := 60) hx hb ⟨by decide, by decide⟩ ⟨by decide, by decide⟩ dX1_isAlone_55 (by decide) (fun c55 => ?_) (fun c55 => ?_)
                · exact absurd c55 (by decide)
                · refine li_iconst hx hb dX1_isAlone_58 ?_
                  exact eMz hQ hx hb hr hlk hP hD hS (Nat.le_of_ble_eq_true rfl) (Nat.le_of_ble_eq_true rfl) dX1_isAlone_59 (.inl rfl) (⟨0, (dcw c1 (ς 11)), (dcq c1 (ς 12)), κ, rfl, rfl, hT2, .inr ⟨rfl, by unfold alone; omega⟩⟩)
        · exact absurd c55 (by decide)
      · refine li_iconst hx hb dX1_isAlone_50 ?_
        refine lv_goto (tgt := 55) hx hb dX1_isAlone_51 (by decide) ?_
        refine li_icmp_ne (tgt := 60) hx hb ⟨by decide, by decide⟩ ⟨by decide, by decide⟩ dX1_isAlone_55 (by decide) (fun c55 => ?_) (fun c55 => ?_)
        · exact absurd c55 (by decide)
        · refine li_iconst hx hb dX1_isAlone_58 ?_
          exact eMz hQ hx hb hr hlk hP hD hS (Nat.le_of_ble_eq_true rfl) (Nat.le_of_ble_eq_true rfl) dX1_isAlone_59 (.inl rfl) (⟨0, (dcw c1 (ς 11)), (dcq c1 (ς 12)), κ, rfl, rfl, hT2, .inr ⟨rfl, by unfold alone; omega⟩⟩)
set_option maxHeartbeats 4000000 in
theorem m_leadsOn (l : Launch) (G : va_G) (ad : Nat → Nat) (ty : Nat → ClassId) (hv : Nat → Option Nat) (σ ς κ : mem) (cs : va_W) (c1 : Int) (a1 : Int) (s1 : Int) (hF : okF σ) (hT : wfS (ς 11) (ς 12)) (hc : inSt c1) (hok : okC σ c1) (ha : -1 ≤ a1 ∧ a1 ≤ 2) (hgb : ∀ c, inSt c → (ς 6) c ≠ FARc → (ς 16) c = 0 ∨ (ς 16) c = 1) (hSo : Sought (EF σ) s1 (ς 6) (ς 7) (ς 8 0)) (hmf : (ς 6) c1 ≠ FARc) : cM l yX1_leadsOn (ws_ yX1_leadsOn cX1_leadsOn 5 (some .boolean)) (rm4 5 0 0 120) G ty (wD ad ty hv σ ς κ ++ cs) [.ref (ad 0), .int (ii c1), .int (ii a1)] 0 0 (fun r W' => ∃ (z : Int) (ga : Int → Int) (gb : Int → Int) (na : Int) (wT : Int → Int) (qT : Int → Int) (κ' : mem), r = some (.int (ii z)) ∧ W' = wD ad ty hv σ (up (up (up (up (up ς 0 ga) 1 gb) 2 (sc (na))) 11 wT) 12 qT) κ' ++ cs ∧ (wfS wT qT) ∧ ((z = 1 ∧ (∃ d, stepA σ a1 c1 d ∧ (ς 16) d = 1)) ∨ (z = 0 ∧ (¬ ∃ d, stepA σ a1 c1 d ∧ (ς 16) d = 1)))) := by
  refine cM.of (by decide) (Nat.le_of_ble_eq_true rfl) ?_
  intro p e s m args below meth c A Q H locs hQ hx hb hr hml hown hlk hname hts hK hP hD hS hA hX ls hl
  have hl : lv_has ls 5 [(0, .ref (ad 0)), (1, .int (ii c1)), (2, .int (ii a1))] := hl
  obtain ⟨hW, hWS, hlg⟩ := id hF
  obtain ⟨hw0, hw1, hw2, hw3, hw4, hw5, h8a, h8b, h9a, h9b, h10a, h10b⟩ := id hW
  obtain ⟨hs0, hs1⟩ := id hWS
  obtain ⟨ha0, ha1⟩ := id ha
  have hT2 : wfS (dcw c1 (ς 11)) (dcq c1 (ς 12)) := ⟨dcw_b hT.1, dcq_b hT.2⟩
  refine lv_aload_n hx hb dX1_leadsOn_0 rfl (lv_at hl 0 rfl) ?_
  refine va_get (D := G) (ci := 0) (v := .ref (ad 48)) (C := RX1) (T := TX1) (N := 21) hx hb hts in_X1 hown hK hP 0 (aD_0 _ _ _ _ _ _ _) rfl 15 (by decide) (hts _ q992) (fun _ h9 => h9) rfl dX1_leadsOn_1 ?_
  refine lv_iload_n hx hb dX1_leadsOn_4 rfl (lv_at hl 1 rfl) ?_
  refine kM (va_runV (As := [.int (ii c1)]) (rest := []) ⟨hx, hb, hml, hown, hts⟩ (m_decodes l G ty (wD ad ty hv σ ς κ ++ cs) (fun k => 48 + k) (fun k => ad (48 + k)) (ς 11) (ς 12) c1 ⟨rfl, rfl, rfl⟩ hc (by decide) (by decide) (by decide) (by decide) H.size) (cwV 1 hts (lw_V q626 q627 q628 q78 q629) rfl rfl rfl (by decide +kernel) ⟨Nat.le_of_ble_eq_true rfl, Nat.le_of_ble_eq_true rfl⟩) (pvM (r := (RX3, TX3, 2)) hK hP hD hX 48 (aD_48 _ _ _ _ _ _ _) rfl) rfl rfl hl.1 rfl (lv_room (Nat.le_of_ble_eq_true rfl)) dX1_leadsOn_5 ⟨Nat.le_of_ble_eq_true rfl, Nat.le_of_ble_eq_true rfl⟩) hD hS hA (fun v ws1 H locs hv hP hD hS => ?_)
  obtain ⟨rfl, rfl⟩ := hv
  have hP : va_P G gcl (wD ad ty hv σ (up (up ς 11 (dcw c1 (ς 11))) 12 (dcq c1 (ς 12))) κ ++ cs) H := hP
  have hD : va_D A (wD ad ty hv σ (up (up ς 11 (dcw c1 (ς 11))) 12 (dcq c1 (ς 12))) κ ++ cs) := hD
  refine lv_aload_n hx hb dX1_leadsOn_8 rfl (lv_at hl 0 rfl) ?_
  refine lv_aload_n hx hb dX1_leadsOn_9 rfl (lv_at hl 0 rfl) ?_
  refine va_get (D := G) (ci := 0) (v := .ref (ad 48)) (C := RX1) (T := TX1) (N := 21) hx hb hts in_X1 hown hK hP 0 (aD_0 _ _ _ _ _ _ _) rfl 15 (by decide) (hts _ q992) (fun _ h9 => h9) rfl dX1_leadsOn_10 ?_
  refine kM (va_runV (As := [.ref (ad 48)]) (rest := []) ⟨hx, hb, hml, hown, hts⟩ (m_listsT l G ad ty hv σ (up (up ς 11 (dcw c1 (ς 11))) 12 (dcq c1 (ς 12))) κ cs hW (show wfS (dcw c1 (ς 11)) (dcq c1 (ς 12)) from ⟨dcw_b hT.1, dcq_b hT.2⟩) (show (0 < σ 9 0 → 0 ≤ dcw c1 (ς 11) 0 ∧ dcw c1 (ς 11) 0 < σ 8 0) ∧ (1 < σ 9 0 → 0 ≤ dcw c1 (ς 11) 1 ∧ dcw c1 (ς 11) 1 < σ 8 0) ∧ (2 < σ 9 0 → 0 ≤ dcw c1 (ς 11) 2 ∧ dcw c1 (ς 11) 2 < σ 8 0) from okC_dc hok) H.size) (cwV 1 hts (lw_V q545 q547 qs19 q76 q548) rfl rfl rfl (by decide +kernel) ⟨Nat.le_of_ble_eq_true rfl, Nat.le_of_ble_eq_true rfl⟩) (pvM (r := (RX1, TX1, 21)) hK hP hD hX 0 (aD_0 _ _ _ _ _ _ _) rfl) rfl rfl hl.1 rfl (lv_room (Nat.le_of_ble_eq_true rfl)) dX1_leadsOn_13 ⟨Nat.le_of_ble_eq_true rfl, Nat.le_of_ble_eq_true rfl⟩) hD hS hA (fun v ws1 H locs hv hP hD hS => ?_)
  obtain ⟨gl13, gm13, nl13, κ13, rfl, rfl, hLI13, hn013, hn113⟩ := hv
  have hP : va_P G gcl (wD ad ty hv σ (up (up (up (up (up ς 11 (dcw c1 (ς 11))) 12 (dcq c1 (ς 12))) 0 gl13) 1 gm13) 2 (sc (nl13))) κ13 ++ cs) H := hP
  have hD : va_D A (wD ad ty hv σ (up (up (up (up (up ς 11 (dcw c1 (ς 11))) 12 (dcq c1 (ς 12))) 0 gl13) 1 gm13) 2 (sc (nl13))) κ13 ++ cs) := hD
  have hLI13 : LI (leg σ c1) (mvV σ) gl13 gm13 nl13 70000 := LI_dc hLI13
  refine li_iconst hx hb dX1_leadsOn_16 ?_
  refine lv_istore_n (lv' := [(3, .int (ii 0)), (0, .ref (ad 0)), (1, .int (ii c1)), (2, .int (ii a1))]) hx hb dX1_leadsOn_17 rfl hl (by decide) rfl (fun ls hl => ?_)
  have L18 : ∀ (n : Nat) (k1 : Int) (κa : mem) (_ : 0 ≤ k1) (_ : k1 ≤ nl13) (_ : seenI (leg σ c1) (fun m => ¬ (setOk a1 m ∧ ς 16 (nx c1 m) = 1)) k1) (_ : (nl13 - k1).toNat < n) (H : Heap) (locs : List Loc) (_ : va_P G gcl (wD ad ty hv σ (up (up (up (up (up ς 11 (dcw c1 (ς 11))) 12 (dcq c1 (ς 12))) 0 gl13) 1 gm13) 2 (sc (nl13))) κa ++ cs) H) (_ : va_D A (wD ad ty hv σ (up (up (up (up (up ς 11 (dcw c1 (ς 11))) 12 (dcq c1 (ς 12))) 0 gl13) 1 gm13) 2 (sc (nl13))) κa ++ cs)) (_ : va_S A s.heap H locs) (ls : Array Slot), lv_has ls 5 [(3, .int (ii k1)), (0, .ref (ad 0)), (1, .int (ii c1)), (2, .int (ii a1))] → W p l e (rm4 5 0 0 120) s m args below meth c H locs 0 0 Q (F0 m 18 ls []) := by
    intro n
    induction n with
    | zero =>
      intro k1 κa hk0 hk1 hse hm
      exact absurd hm (Nat.not_lt_zero _)
    | succ n ih =>
      intro k1 κa hk0 hk1 hse hm H locs hP hD hS ls hl
      refine lv_iload_n hx hb dX1_leadsOn_18 rfl (lv_at hl 0 rfl) ?_
      refine lv_aload_n hx hb dX1_leadsOn_19 rfl (lv_at hl 1 rfl) ?_
      refine va_get (D := G) (ci := 0) (v := .int (ii nl13)) (C := RX1) (T := TX1) (N := 21) hx hb hts in_X1 hown hK hP 0 (aD_0 _ _ _ _ _ _ _) rfl 7 (by decide) (hts _ q984) (fun _ h9 => h9) rfl dX1_leadsOn_20 ?_
      refine li_icmp_ge (tgt := 92) hx hb ⟨by omega, by omega⟩ ⟨by omega, by omega⟩ dX1_leadsOn_23 (by decide) (fun c23 => ?_) (fun c23 => ?_)
      · refine li_iconst hx hb dX1_leadsOn_92 ?_
        exact eMz hQ hx hb hr hlk hP hD hS (Nat.le_of_ble_eq_true rfl) (Nat.le_of_ble_eq_true rfl) dX1_leadsOn_93 (.inl rfl) (⟨0, gl13, gm13, nl13, (dcw c1 (ς 11)), (dcq c1 (ς 12)), κa, rfl, rfl, hT2, .inr ⟨rfl, fun ⟨d, ⟨m, h1, h2, h3⟩, h4⟩ => seenI_all hse hLI13 leg_b (by omega) m h1 ⟨h2, by rw [← h3]; exact h4⟩⟩⟩)
      · obtain ⟨hb0, hb1, hleg, hval, hcn⟩ := LI_at hLI13 (by decide) hk0 c23
        have hdg := isT_m hleg.1
        have hm0 := hleg.1.1
        have hm1 := hleg.1.2.1
        refine lv_aload_n hx hb dX1_leadsOn_26 rfl (lv_at hl 1 rfl) ?_
        refine va_get (D := G) (ci := 0) (v := .ref (ad 39)) (C := RX1) (T := TX1) (N := 21) hx hb hts in_X1 hown hK hP 0 (aD_0 _ _ _ _ _ _ _) rfl 5 (by decide) (hts _ q982) (fun _ h9 => h9) rfl dX1_leadsOn_27 ?_
        refine lv_iload_n hx hb dX1_leadsOn_30 rfl (lv_at hl 0 rfl) ?_
        refine li_iald (g := gl13) hx hb hK hP 39 0 (aD_39 _ _ _ _ _ _ _) rfl (by omega) (by omega) (by decide) dX1_leadsOn_31 ?_
        refine li_sipush hx hb dX1_leadsOn_32 (by decide) ?_
        refine li_div hx hb (by omega) (by omega) (by omega) (by omega) dX1_leadsOn_35 ?_
        refine li_bipush hx hb dX1_leadsOn_36 (by decide) ?_
        refine li_rem hx hb (by omega) (by omega) (by omega) (by omega) dX1_leadsOn_38 ?_
        refine lv_istore (lv' := [(4, .int (ii (((gl13 k1) / 1000) % 10))), (3, .int (ii k1)), (0, .ref (ad 0)), (1, .int (ii c1)), (2, .int (ii a1))]) hx hb dX1_leadsOn_39 hl (by decide) rfl (fun ls hl => ?_)
        refine lv_iload_n hx hb dX1_leadsOn_41 rfl (lv_at hl 4 rfl) ?_
        refine li_iconst hx hb dX1_leadsOn_42 ?_
        refine li_icmp_eq (tgt := 62) hx hb (rgi2 ha0 ha1) ⟨by decide, by decide⟩ dX1_leadsOn_43 (by decide) (fun c43 => ?_) (fun c43 => ?_)
        · refine lv_aload_n hx hb dX1_leadsOn_62 rfl (lv_at hl 2 rfl) ?_
          refine va_get (D := G) (ci := 0) (v := .ref (ad 54)) (C := RX1) (T := TX1) (N := 21) hx hb hts in_X1 hown hK hP 0 (aD_0 _ _ _ _ _ _ _) rfl 18 (by decide) (hts _ q995) (fun _ h9 => h9) rfl dX1_leadsOn_63 ?_
          refine lv_aload_n hx hb dX1_leadsOn_66 rfl (lv_at hl 2 rfl) ?_
          refine lv_aload_n hx hb dX1_leadsOn_67 rfl (lv_at hl 2 rfl) ?_
          refine va_get (D := G) (ci := 0) (v := .ref (ad 48)) (C := RX1) (T := TX1) (N := 21) hx hb hts in_X1 hown hK hP 0 (aD_0 _ _ _ _ _ _ _) rfl 15 (by decide) (hts _ q992) (fun _ h9 => h9) rfl dX1_leadsOn_68 ?_
          refine lv_aload_n hx hb dX1_leadsOn_71 rfl (lv_at hl 2 rfl) ?_
          refine va_get (D := G) (ci := 0) (v := .ref (ad 39)) (C := RX1) (T := TX1) (N := 21) hx hb hts in_X1 hown hK hP 0 (aD_0 _ _ _ _ _ _ _) rfl 5 (by decide) (hts _ q982) (fun _ h9 => h9) rfl dX1_leadsOn_72 ?_
          refine lv_iload_n hx hb dX1_leadsOn_75 rfl (lv_at hl 1 rfl) ?_
          refine li_iald (g := gl13) hx hb hK hP 39 0 (aD_39 _ _ _ _ _ _ _) rfl (by omega) (by omega) (by decide) dX1_leadsOn_76 ?_
          refine kM (va_runV (As := [.ref (ad 48), .int (ii (gl13 k1))]) (rest := [.ref (ad 54)]) ⟨hx, hb, hml, hown, hts⟩ ((m_behind l G ad ty hv σ (up (up (up (up (up ς 11 (dcw c1 (ς 11))) 12 (dcq c1 (ς 12))) 0 gl13) 1 gm13) 2 (sc (nl13))) κa cs (gl13 k1) (hleg.1)) H.size) (cwV 2 hts (lw_V q630 q632 qs25 q76 q633) rfl rfl rfl (by decide +kernel) ⟨Nat.le_of_ble_eq_true rfl, Nat.le_of_ble_eq_true rfl⟩) (pvM (r := (RX1, TX1, 21)) hK hP hD hX 0 (aD_0 _ _ _ _ _ _ _) rfl) rfl rfl hl.1 rfl (lv_room (Nat.le_of_ble_eq_true rfl)) dX1_leadsOn_77 ⟨Nat.le_of_ble_eq_true rfl, Nat.le_of_ble_eq_true rfl⟩) hD hS hA (fun v ws1 H locs hv hP hD hS => ?_)
          obtain ⟨κ77, rfl, rfl⟩ := hv
          have hP : va_P G gcl (wD ad ty hv σ (up (up (up (up (up ς 11 (dcw c1 (ς 11))) 12 (dcq c1 (ς 12))) 0 gl13) 1 gm13) 2 (sc (nl13))) κ77 ++ cs) H := hP
          have hD : va_D A (wD ad ty hv σ (up (up (up (up (up ς 11 (dcw c1 (ς 11))) 12 (dcq c1 (ς 12))) 0 gl13) 1 gm13) 2 (sc (nl13))) κ77 ++ cs) := hD
          refine li_topx (z := nx c1 (gl13 k1)) (congrArg ii (nxS_dc _ _ _ _)) ?_
          obtain ⟨hnx, hnl⟩ := hSo.next hW hc hmf hleg
          have hq01 := hgb _ hnx hnl
          obtain ⟨hnx0, hnx1⟩ := id hnx
          refine li_zald (g := (ς 16)) hx hb hK hP 54 1 (aD_54 _ _ _ _ _ _ _) rfl (by omega) (by omega) (by decide) dX1_leadsOn_80 ?_
          refine li_if_eq (tgt := 86) hx hb ⟨by omega, by omega⟩ dX1_leadsOn_81 (by decide) (fun c81 => ?_) (fun c81 => ?_)
          · refine li_iinc (a := k1) (lv' := [(3, .int (ii (k1 + 1))), (4, .int (ii (((gl13 k1) / 1000) % 10))), (0, .ref (ad 0)), (1, .int (ii c1)), (2, .int (ii a1))]) hx hb dX1_leadsOn_86 hl (k := 1) rfl (by decide) rfl (fun ls hl => ?_)
            refine lv_goto (tgt := 18) hx hb dX1_leadsOn_89 (by decide) ?_
            exact ih (k1 + 1) κ77 (by omega) (by omega) (seenI_s hse leg_n hleg hcn (fun q => by have := q.2; omega)) (by omega) H locs hP hD hS ls (lv_sub hl [0, 2, 3, 4] rfl)
          · refine li_iconst hx hb dX1_leadsOn_84 ?_
            exact eMz hQ hx hb hr hlk hP hD hS (Nat.le_of_ble_eq_true rfl) (Nat.le_of_ble_eq_true rfl) dX1_leadsOn_85 (.inr rfl) (⟨1, gl13, gm13, nl13, (dcw c1 (ς 11)), (dcq c1 (ς 12)), κ77, rfl, rfl, hT2, .inl ⟨rfl, nx c1 (gl13 k1), ⟨_, hleg, by unfold setOk; omega, rfl⟩, by omega⟩⟩)
        · refine lv_iload hx hb dX1_leadsOn_46 (lv_at hl 0 rfl) ?_
          refine li_if_eq (tgt := 62) hx hb ⟨by omega, by omega⟩ dX1_leadsOn_48 (by decide) (fun c48 => ?_) (fun c48 => ?_)
          · refine lv_aload_n hx hb dX1_leadsOn_62 rfl (lv_at hl 2 rfl) ?_
            refine va_get (D := G) (ci := 0) (v := .ref (ad 54)) (C := RX1) (T := TX1) (N := 21) hx hb hts in_X1 hown hK hP 0 (aD_0 _ _ _ _ _ _ _) rfl 18 (by decide) (hts _ q995) (fun _ h9 => h9) rfl dX1_leadsOn_63 ?_
            refine lv_aload_n hx hb dX1_leadsOn_66 rfl (lv_at hl 2 rfl) ?_
            refine lv_aload_n hx hb dX1_leadsOn_67 rfl (lv_at hl 2 rfl) ?_
            refine va_get (D := G) (ci := 0) (v := .ref (ad 48)) (C := RX1) (T := TX1) (N := 21) hx hb hts in_X1 hown hK hP 0 (aD_0 _ _ _ _ _ _ _) rfl 15 (by decide) (hts _ q992) (fun _ h9 => h9) rfl dX1_leadsOn_68 ?_
            refine lv_aload_n hx hb dX1_leadsOn_71 rfl (lv_at hl 2 rfl) ?_
            refine va_get (D := G) (ci := 0) (v := .ref (ad 39)) (C := RX1) (T := TX1) (N := 21) hx hb hts in_X1 hown hK hP 0 (aD_0 _ _ _ _ _ _ _) rfl 5 (by decide) (hts _ q982) (fun _ h9 => h9) rfl dX1_leadsOn_72 ?_
            refine lv_iload_n hx hb dX1_leadsOn_75 rfl (lv_at hl 1 rfl) ?_
            refine li_iald (g := gl13) hx hb hK hP 39 0 (aD_39 _ _ _ _ _ _ _) rfl (by omega) (by omega) (by decide) dX1_leadsOn_76 ?_
            refine kM (va_runV (As := [.ref (ad 48), .int (ii (gl13 k1))]) (rest := [.ref (ad 54)]) ⟨hx, hb, hml, hown, hts⟩ ((m_behind l G ad ty hv σ (up (up (up (up (up ς 11 (dcw c1 (ς 11))) 12 (dcq c1 (ς 12))) 0 gl13) 1 gm13) 2 (sc (nl13))) κa cs (gl13 k1) (hleg.1)) H.size) (cwV 2 hts (lw_V q630 q632 qs25 q76 q633) rfl rfl rfl (by decide +kernel) ⟨Nat.le_of_ble_eq_true rfl, Nat.le_of_ble_eq_true rfl⟩) (pvM (r := (RX1, TX1, 21)) hK hP hD hX 0 (aD_0 _ _ _ _ _ _ _) rfl) rfl rfl hl.1 rfl (lv_room (Nat.le_of_ble_eq_true rfl)) dX1_leadsOn_77 ⟨Nat.le_of_ble_eq_true rfl, Nat.le_of_ble_eq_true rfl⟩) hD hS hA (fun v ws1 H locs hv hP hD hS => ?_)
            obtain ⟨κ77, rfl, rfl⟩ := hv
            have hP : va_P G gcl (wD ad ty hv σ (up (up (up (up (up ς 11 (dcw c1 (ς 11))) 12 (dcq c1 (ς 12))) 0 gl13) 1 gm13) 2 (sc (nl13))) κ77 ++ cs) H := hP
            have hD : va_D A (wD ad ty hv σ (up (up (up (up (up ς 11 (dcw c1 (ς 11))) 12 (dcq c1 (ς 12))) 0 gl13) 1 gm13) 2 (sc (nl13))) κ77 ++ cs) := hD
            refine li_topx (z := nx c1 (gl13 k1)) (congrArg ii (nxS_dc _ _ _ _)) ?_
            obtain ⟨hnx, hnl⟩ := hSo.next hW hc hmf hleg
            have hq01 := hgb _ hnx hnl
            obtain ⟨hnx0, hnx1⟩ := id hnx
            refine li_zald (g := (ς 16)) hx hb hK hP 54 1 (aD_54 _ _ _ _ _ _ _) rfl (by omega) (by omega) (by decide) dX1_leadsOn_80 ?_
            refine li_if_eq (tgt := 86) hx hb ⟨by omega, by omega⟩ dX1_leadsOn_81 (by decide) (fun c81 => ?_) (fun c81 => ?_)
            · refine li_iinc (a := k1) (lv' := [(3, .int (ii (k1 + 1))), (4, .int (ii (((gl13 k1) / 1000) % 10))), (0, .ref (ad 0)), (1, .int (ii c1)), (2, .int (ii a1))]) hx hb dX1_leadsOn_86 hl (k := 1) rfl (by decide) rfl (fun ls hl => ?_)
              refine lv_goto (tgt := 18) hx hb dX1_leadsOn_89 (by decide) ?_
              exact ih (k1 + 1) κ77 (by omega) (by omega) (seenI_s hse leg_n hleg hcn (fun q => by have := q.2; omega)) (by omega) H locs hP hD hS ls (lv_sub hl [0, 2, 3, 4] rfl)
            · refine li_iconst hx hb dX1_leadsOn_84 ?_
              exact eMz hQ hx hb hr hlk hP hD hS (Nat.le_of_ble_eq_true rfl) (Nat.le_of_ble_eq_true rfl) dX1_leadsOn_85 (.inr rfl) (⟨1, gl13, gm13, nl13, (dcw c1 (ς 11)), (dcq c1 (ς 12)), κ77, rfl, rfl, hT2, .inl ⟨rfl, nx c1 (gl13 k1), ⟨_, hleg, by unfold setOk; omega, rfl⟩, by omega⟩⟩)
          · refine lv_iload hx hb dX1_leadsOn_51 (lv_at hl 0 rfl) ?_
            refine li_iconst hx hb dX1_leadsOn_53 ?_
            refine lv_iload_n hx hb dX1_leadsOn_54 rfl (lv_at hl 4 rfl) ?_
            refine lv_ishl hx hb dX1_leadsOn_55 ?_
            refine li_topx (z := p2 a1) (ii_shl1 (by omega) (by omega)) ?_
            refine li_icmp_eq (tgt := 62) hx hb ⟨by omega, by omega⟩ (p2_rg (by omega) (by omega)) dX1_leadsOn_56 (by decide) (fun c56 => ?_) (fun c56 => ?_)
            · refine lv_aload_n hx hb dX1_leadsOn_62 rfl (lv_at hl 2 rfl) ?_
              refine va_get (D := G) (ci := 0) (v := .ref (ad 54)) (C := RX1) (T := TX1) (N := 21) hx hb hts in_X1 hown hK hP 0 (aD_0 _ _ _ _ _ _ _) rfl 18 (by decide) (hts _ q995) (fun _ h9 => h9) rfl dX1_leadsOn_63 ?_
              refine lv_aload_n hx hb dX1_leadsOn_66 rfl (lv_at hl 2 rfl) ?_
              refine lv_aload_n hx hb dX1_leadsOn_67 rfl (lv_at hl 2 rfl) ?_
              refine va_get (D := G) (ci := 0) (v := .ref (ad 48)) (C := RX1) (T := TX1) (N := 21) hx hb hts in_X1 hown hK hP 0 (aD_0 _ _ _ _ _ _ _) rfl 15 (by decide) (hts _ q992) (fun _ h9 => h9) rfl dX1_leadsOn_68 ?_
              refine lv_aload_n hx hb dX1_leadsOn_71 rfl (lv_at hl 2 rfl) ?_
              refine va_get (D := G) (ci := 0) (v := .ref (ad 39)) (C := RX1) (T := TX1) (N := 21) hx hb hts in_X1 hown hK hP 0 (aD_0 _ _ _ _ _ _ _) rfl 5 (by decide) (hts _ q982) (fun _ h9 => h9) rfl dX1_leadsOn_72 ?_
              refine lv_iload_n hx hb dX1_leadsOn_75 rfl (lv_at hl 1 rfl) ?_
              refine li_iald (g := gl13) hx hb hK hP 39 0 (aD_39 _ _ _ _ _ _ _) rfl (by omega) (by omega) (by decide) dX1_leadsOn_76 ?_
              refine kM (va_runV (As := [.ref (ad 48), .int (ii (gl13 k1))]) (rest := [.ref (ad 54)]) ⟨hx, hb, hml, hown, hts⟩ ((m_behind l G ad ty hv σ (up (up (up (up (up ς 11 (dcw c1 (ς 11))) 12 (dcq c1 (ς 12))) 0 gl13) 1 gm13) 2 (sc (nl13))) κa cs (gl13 k1) (hleg.1)) H.size) (cwV 2 hts (lw_V q630 q632 qs25 q76 q633) rfl rfl rfl (by decide +kernel) ⟨Nat.le_of_ble_eq_true rfl, Nat.le_of_ble_eq_true rfl⟩) (pvM (r := (RX1, TX1, 21)) hK hP hD hX 0 (aD_0 _ _ _ _ _ _ _) rfl) rfl rfl hl.1 rfl (lv_room (Nat.le_of_ble_eq_true rfl)) dX1_leadsOn_77 ⟨Nat.le_of_ble_eq_true rfl, Nat.le_of_ble_eq_true rfl⟩) hD hS hA (fun v ws1 H locs hv hP hD hS => ?_)
              obtain ⟨κ77, rfl, rfl⟩ := hv
              have hP : va_P G gcl (wD ad ty hv σ (up (up (up (up (up ς 11 (dcw c1 (ς 11))) 12 (dcq c1 (ς 12))) 0 gl13) 1 gm13) 2 (sc (nl13))) κ77 ++ cs) H := hP
              have hD : va_D A (wD ad ty hv σ (up (up (up (up (up ς 11 (dcw c1 (ς 11))) 12 (dcq c1 (ς 12))) 0 gl13) 1 gm13) 2 (sc (nl13))) κ77 ++ cs) := hD
              refine li_topx (z := nx c1 (gl13 k1)) (congrArg ii (nxS_dc _ _ _ _)) ?_
              obtain ⟨hnx, hnl⟩ := hSo.next hW hc hmf hleg
              have hq01 := hgb _ hnx hnl
              obtain ⟨hnx0, hnx1⟩ := id hnx
              refine li_zald (g := (ς 16)) hx hb hK hP 54 1 (aD_54 _ _ _ _ _ _ _) rfl (by omega) (by omega) (by decide) dX1_leadsOn_80 ?_
              refine li_if_eq (tgt := 86) hx hb ⟨by omega, by omega⟩ dX1_leadsOn_81 (by decide) (fun c81 => ?_) (fun c81 => ?_)
              · refine li_iinc (a := k1) (lv' := [(3, .int (ii (k1 + 1))), (4, .int (ii (((gl13 k1) / 1000) % 10))), (0, .ref (ad 0)), (1, .int (ii c1)), (2, .int (ii a1))]) hx hb dX1_leadsOn_86 hl (k := 1) rfl (by decide) rfl (fun ls hl => ?_)
                refine lv_goto (tgt := 18) hx hb dX1_leadsOn_89 (by decide) ?_
                exact ih (k1 + 1) κ77 (by omega) (by omega) (seenI_s hse leg_n hleg hcn (fun q => by have := q.2; omega)) (by omega) H locs hP hD hS ls (lv_sub hl [0, 2, 3, 4] rfl)
              · refine li_iconst hx hb dX1_leadsOn_84 ?_
                exact eMz hQ hx hb hr hlk hP hD hS (Nat.le_of_ble_eq_true rfl) (Nat.le_of_ble_eq_true rfl) dX1_leadsOn_85 (.inr rfl) (⟨1, gl13, gm13, nl13, (dcw c1 (ς 11)), (dcq c1 (ς 12)), κ77, rfl, rfl, hT2, .inl ⟨rfl, nx c1 (gl13 k1), ⟨_, hleg, by unfold setOk; omega, rfl⟩, by omega⟩⟩)
            · refine lv_goto (tgt := 86) hx hb dX1_leadsOn_59 (by decide) ?_
              refine li_iinc (a := k1) (lv' := [(3, .int (ii (k1 + 1))), (4, .int (ii (((gl13 k1) / 1000) % 10))), (0, .ref (ad 0)), (1, .int (ii c1)), (2, .int (ii a1))]) hx hb dX1_leadsOn_86 hl (k := 1) rfl (by decide) rfl (fun ls hl => ?_)
              refine lv_goto (tgt := 18) hx hb dX1_leadsOn_89 (by decide) ?_
              exact ih (k1 + 1) κa (by omega) (by omega) (seenI_s hse leg_n hleg hcn (fun q => by have := p2_b3 (n := a1) (by omega) (by omega); have := q.1; unfold setOk at this; omega)) (by omega) H locs hP hD hS ls (lv_sub hl [0, 2, 3, 4] rfl)
  exact L18 _ 0 κ13 (by omega) (by omega) (seenI_0 _ leg_n) (Nat.lt_succ_self _) H locs hP hD hS ls (lv_sub hl [0, 1, 2, 3] rfl)
set_option maxHeartbeats 4000000 in
theorem m_findGood (l : Launch) (G : va_G) (ad : Nat → Nat) (ty : Nat → ClassId) (hv : Nat → Option Nat) (σ ς κ : mem) (cs : va_W) (a1 : Int)  (hF : okF σ) (hT : wfS (ς 11) (ς 12)) (hSo : Sought (EF σ) (cdv (σ 6) (σ 7)) (ς 6) (ς 7) (ς 8 0)) (ha : -1 ≤ a1 ∧ a1 ≤ 2) : cM l yX1_findGood (ws_ yX1_findGood cX1_findGood 5 none) (rm4 6 0 0 144) G ty (wD ad ty hv σ ς κ ++ cs) [.ref (ad 0), .int (ii a1)] 0 0 (fun r W' => ∃ (ga : Int → Int) (gb : Int → Int) (na : Int) (gd : Int → Int) (wT : Int → Int) (qT : Int → Int) (κ' : mem), r = none ∧ W' = wD ad ty hv σ (up (up (up (up (up (up ς 0 ga) 1 gb) 2 (sc (na))) 16 gd) 11 wT) 12 qT) κ' ++ cs ∧ (wfS wT qT) ∧ (∀ c, inSt c → (ς 6) c ≠ FARc → gd c = 0 ∨ gd c = 1) ∧ (∀ c, inSt c → (ς 6) c ≠ FARc → (gd c = 1 ↔ LeadA σ a1 c))) := by
  refine cM.of (by decide) (Nat.le_of_ble_eq_true rfl) ?_
  intro p e s m args below meth c A Q H locs hQ hx hb hr hml hown hlk hname hts hK hP hD hS hA hX ls hl
  have hl : lv_has ls 5 [(0, .ref (ad 0)), (1, .int (ii a1))] := hl
  obtain ⟨hW, hWS, hlg⟩ := id hF
  obtain ⟨hw0, hw1, hw2, hw3, hw4, hw5, h8a, h8b, h9a, h9b, h10a, h10b⟩ := id hW
  obtain ⟨hs0, hs1⟩ := id hWS
  obtain ⟨ha0, ha1⟩ := id ha
  have hn1 := hSo.n1
  have hn2 := hSo.toMet.n2
  have hst := (cdv_dig hWS.1 hWS.2).1
  have hokS : okC σ (cdv (σ 6) (σ 7)) := okC_cdv hWS hlg
  refine li_iconst hx hb dX1_findGood_0 ?_
  refine lv_istore_n (lv' := [(2, .int (ii 0)), (0, .ref (ad 0)), (1, .int (ii a1))]) hx hb dX1_findGood_1 rfl hl (by decide) rfl (fun ls hl => ?_)
  have X2 : ∀ (i1 : Int) (g0 : Int → Int) (H : Heap) (locs : List Loc) (_ : va_P G gcl (wD ad ty hv σ (up ς 16 g0) κ ++ cs) H) (_ : va_D A (wD ad ty hv σ (up ς 16 g0) κ ++ cs)) (_ : va_S A s.heap H locs) (ls : Array Slot), lv_has ls 5 [(0, .ref (ad 0)), (1, .int (ii a1))] → W p l e (rm4 6 0 0 144) s m args below meth c H locs 0 0 Q (F0 m 22 ls []) := by
    intro i1 g0 H locs hP hD hS ls hl
    refine li_iconst hx hb dX1_findGood_22 ?_
    refine lv_istore_n (lv' := [(2, .int (ii 0)), (0, .ref (ad 0)), (1, .int (ii a1))]) hx hb dX1_findGood_23 rfl hl (by decide) rfl (fun ls hl => ?_)
    have X24 : ∀ (k2 : Int) (κa : mem) (g1 : Int → Int) (wT : Int → Int) (qT : Int → Int) (_ : wfS wT qT) (_ : ∀ c, inSt c → ς 6 c ≠ FARc → g1 c = 0 ∨ g1 c = 1) (_ : fgP σ a1 (ς 6) g1) (H : Heap) (locs : List Loc) (_ : va_P G gcl (wD ad ty hv σ (up (up (up ς 16 g1) 11 wT) 12 qT) κa ++ cs) H) (_ : va_D A (wD ad ty hv σ (up (up (up ς 16 g1) 11 wT) 12 qT) κa ++ cs)) (_ : va_S A s.heap H locs) (ls : Array Slot), lv_has ls 5 [(0, .ref (ad 0)), (1, .int (ii a1))] → W p l e (rm4 6 0 0 144) s m args below meth c H locs 0 0 Q (F0 m 59 ls []) := by
      intro k2 κa g1 wT qT hT hgc hgS H locs hP hD hS ls hl
      refine li_iconst hx hb dX1_findGood_59 ?_
      refine lv_istore_n (lv' := [(2, .int (ii 1)), (0, .ref (ad 0)), (1, .int (ii a1))]) hx hb dX1_findGood_60 rfl hl (by decide) rfl (fun ls hl => ?_)
      have L61 : ∀ (n : Nat) (mo : Int) (κb : mem) (ga : Int → Int) (gb : Int → Int) (na : Int) (gc0 : Int → Int) (wT : Int → Int) (qT : Int → Int) (_ : wfS wT qT) (_ : mo = 0 ∨ mo = 1) (_ : ∀ c, inSt c → ς 6 c ≠ FARc → gc0 c = 0 ∨ gc0 c = 1) (_ : fgP σ a1 (ς 6) gc0) (_ : mo = 0 → stab σ a1 (ς 7) gc0 (-1) (ς 8 0)) (_ : (2 * (4500 - smN (msk (ς 6) gc0) 4500) + mo).toNat < n) (H : Heap) (locs : List Loc) (_ : va_P G gcl (wD ad ty hv σ (up (up (up (up (up (up ς 0 ga) 1 gb) 2 (sc (na))) 16 gc0) 11 wT) 12 qT) κb ++ cs) H) (_ : va_D A (wD ad ty hv σ (up (up (up (up (up (up ς 0 ga) 1 gb) 2 (sc (na))) 16 gc0) 11 wT) 12 qT) κb ++ cs)) (_ : va_S A s.heap H locs) (ls : Array Slot), lv_has ls 5 [(2, .int (ii mo)), (0, .ref (ad 0)), (1, .int (ii a1))] → W p l e (rm4 6 0 0 144) s m args below meth c H locs 0 0 Q (F0 m 61 ls []) := by
        intro n
        induction n with
        | zero =>
          intro mo κb ga gb na gc0 wT qT hT hmo hgc hgS hst hm
          exact absurd hm (Nat.not_lt_zero _)
        | succ n ih =>
          intro mo κb ga gb na gc0 wT qT hT hmo hgc hgS hst hm H locs hP hD hS ls hl
          have hsm := sm_le (msk_01 hgc)
          refine lv_iload_n hx hb dX1_findGood_61 rfl (lv_at hl 0 rfl) ?_
          refine li_if_eq (tgt := 143) hx hb ⟨by omega, by omega⟩ dX1_findGood_62 (by decide) (fun c62 => ?_) (fun c62 => ?_)
          · exact eMv hQ hx hb hr hlk hP hD hS (Nat.le_of_ble_eq_true rfl) (Nat.le_of_ble_eq_true rfl) dX1_findGood_143 (⟨ga, gb, na, gc0, wT, qT, κb, rfl, rfl, hT, hgc, fun c hc hl => fgP_e hSo hW hgS (hst c62) hc hl⟩)
          · refine li_iconst hx hb dX1_findGood_65 ?_
            refine lv_istore_n (lv' := [(2, .int (ii 0)), (0, .ref (ad 0)), (1, .int (ii a1))]) hx hb dX1_findGood_66 rfl hl (by decide) rfl (fun ls hl => ?_)
            refine lv_aload_n hx hb dX1_findGood_67 rfl (lv_at hl 1 rfl) ?_
            refine va_get (D := G) (ci := 0) (v := .int (ii (ς 8 0))) (C := RX1) (T := TX1) (N := 21) hx hb hts in_X1 hown hK hP 0 (aD_0 _ _ _ _ _ _ _) rfl 12 (by decide) (hts _ q989) (fun _ h9 => h9) rfl dX1_findGood_68 ?_
            refine li_iconst hx hb dX1_findGood_71 ?_
            refine li_sub hx hb dX1_findGood_72 ?_
            refine lv_istore_n (lv' := [(3, .int (ii (ς 8 0 - 1))), (2, .int (ii 0)), (0, .ref (ad 0)), (1, .int (ii a1))]) hx hb dX1_findGood_73 rfl hl (by decide) rfl (fun ls hl => ?_)
            have X74 : ∀ (k3 : Int) (mp : Int) (κc : mem) (ga2 : Int → Int) (gb2 : Int → Int) (na2 : Int) (gc : Int → Int) (wU : Int → Int) (qU : Int → Int) (_ : wfS wU qU) (_ : mp = 0 ∨ mp = 1) (_ : (mp = 0 ∧ smN (msk (ς 6) gc) 4500 = smN (msk (ς 6) gc0) 4500) ∨ (mp = 1 ∧ smN (msk (ς 6) gc0) 4500 < smN (msk (ς 6) gc) 4500)) (_ : ∀ c, inSt c → ς 6 c ≠ FARc → gc c = 0 ∨ gc c = 1) (_ : fgP σ a1 (ς 6) gc) (_ : mp = 0 → stab σ a1 (ς 7) gc (-1) (ς 8 0)) (H : Heap) (locs : List Loc) (_ : va_P G gcl (wD ad ty hv σ (up (up (up (up (up (up ς 0 ga2) 1 gb2) 2 (sc (na2))) 16 gc) 11 wU) 12 qU) κc ++ cs) H) (_ : va_D A (wD ad ty hv σ (up (up (up (up (up (up ς 0 ga2) 1 gb2) 2 (sc (na2))) 16 gc) 11 wU) 12 qU) κc ++ cs)) (_ : va_S A s.heap H locs) (ls : Array Slot), lv_has ls 5 [(2, .int (ii mp)), (0, .ref (ad 0)), (1, .int (ii a1))] → W p l e (rm4 6 0 0 144) s m args below meth c H locs 0 0 Q (F0 m 140 ls []) := by
              intro k3 mp κc ga2 gb2 na2 gc wU qU hT hmo2 hdec hgc hgS hst H locs hP hD hS ls hl
              have hsm2 := sm_le (msk_01 hgc)
              refine lv_goto (tgt := 61) hx hb dX1_findGood_140 (by decide) ?_
              exact ih mp κc ga2 gb2 na2 gc wU qU (hT) (by omega) (hgc) (hgS) (hst) (by omega) H locs hP hD hS ls (lv_sub hl [0, 1, 2] rfl)
            have L74 : ∀ (n : Nat) (k3 : Int) (mp : Int) (κc : mem) (ga2 : Int → Int) (gb2 : Int → Int) (na2 : Int) (gc : Int → Int) (wU : Int → Int) (qU : Int → Int) (_ : wfS wU qU) (_ : -1 ≤ k3) (_ : k3 < ς 8 0) (_ : (mp = 0 ∧ smN (msk (ς 6) gc) 4500 = smN (msk (ς 6) gc0) 4500) ∨ (mp = 1 ∧ smN (msk (ς 6) gc0) 4500 < smN (msk (ς 6) gc) 4500)) (_ : ∀ c, inSt c → ς 6 c ≠ FARc → gc c = 0 ∨ gc c = 1) (_ : fgP σ a1 (ς 6) gc) (_ : mp = 0 → stab σ a1 (ς 7) gc k3 (ς 8 0)) (_ : (k3 + 1).toNat < n) (H : Heap) (locs : List Loc) (_ : va_P G gcl (wD ad ty hv σ (up (up (up (up (up (up ς 0 ga2) 1 gb2) 2 (sc (na2))) 16 gc) 11 wU) 12 qU) κc ++ cs) H) (_ : va_D A (wD ad ty hv σ (up (up (up (up (up (up ς 0 ga2) 1 gb2) 2 (sc (na2))) 16 gc) 11 wU) 12 qU) κc ++ cs)) (_ : va_S A s.heap H locs) (ls : Array Slot), lv_has ls 5 [(3, .int (ii k3)), (2, .int (ii mp)), (0, .ref (ad 0)), (1, .int (ii a1))] → W p l e (rm4 6 0 0 144) s m args below meth c H locs 0 0 Q (F0 m 74 ls []) := by
              intro n
              induction n with
              | zero =>
                intro k3 mp κc ga2 gb2 na2 gc wU qU hT hk3 hk4 hmp hgc hgS hst hm
                exact absurd hm (Nat.not_lt_zero _)
              | succ n ih =>
                intro k3 mp κc ga2 gb2 na2 gc wU qU hT hk3 hk4 hmp hgc hgS hst hm H locs hP hD hS ls hl
                refine lv_iload_n hx hb dX1_findGood_74 rfl (lv_at hl 0 rfl) ?_
                refine li_if_lt (tgt := 140) hx hb ⟨by omega, by omega⟩ dX1_findGood_75 (by decide) (fun c75 => ?_) (fun c75 => ?_)
                · exact X74 k3 mp κc ga2 gb2 na2 gc wU qU (hT) (by omega) (hmp) (hgc) (hgS) (fun q => by have := hst q; rw [show k3 = -1 by omega] at this; exact this) H locs hP hD hS ls (lv_sub hl [1, 2, 3] rfl)
                · have hmk := (hSo.mt k3 c75 (by omega)).1
                  have hmf := (hSo.mt k3 c75 (by omega)).2
                  obtain ⟨hmk0, hmk1⟩ := id hmk
                  have hg01 := hgc _ hmk hmf
                  refine lv_aload_n hx hb dX1_findGood_78 rfl (lv_at hl 2 rfl) ?_
                  refine va_get (D := G) (ci := 0) (v := .ref (ad 45)) (C := RX1) (T := TX1) (N := 21) hx hb hts in_X1 hown hK hP 0 (aD_0 _ _ _ _ _ _ _) rfl 11 (by decide) (hts _ q988) (fun _ h9 => h9) rfl dX1_findGood_79 ?_
                  refine lv_iload_n hx hb dX1_findGood_82 rfl (lv_at hl 0 rfl) ?_
                  refine li_iald (g := (ς 7)) hx hb hK hP 45 0 (aD_45 _ _ _ _ _ _ _) rfl (by omega) (by omega) (by decide) dX1_findGood_83 ?_
                  refine lv_istore (lv' := [(4, .int (ii (ς 7 k3))), (3, .int (ii k3)), (2, .int (ii mp)), (0, .ref (ad 0)), (1, .int (ii a1))]) hx hb dX1_findGood_84 hl (by decide) rfl (fun ls hl => ?_)
                  refine lv_aload_n hx hb dX1_findGood_86 rfl (lv_at hl 3 rfl) ?_
                  refine va_get (D := G) (ci := 0) (v := .ref (ad 54)) (C := RX1) (T := TX1) (N := 21) hx hb hts in_X1 hown hK hP 0 (aD_0 _ _ _ _ _ _ _) rfl 18 (by decide) (hts _ q995) (fun _ h9 => h9) rfl dX1_findGood_87 ?_
                  refine lv_iload hx hb dX1_findGood_90 (lv_at hl 0 rfl) ?_
                  refine li_zald (g := gc) hx hb hK hP 54 1 (aD_54 _ _ _ _ _ _ _) rfl (by omega) (by omega) (by decide) dX1_findGood_92 ?_
                  refine li_if_ne (tgt := 134) hx hb ⟨by omega, by omega⟩ dX1_findGood_93 (by decide) (fun c93 => ?_) (fun c93 => ?_)
                  · refine li_iinc (a := k3) (lv' := [(3, .int (ii (k3 + (-1)))), (4, .int (ii (ς 7 k3))), (2, .int (ii mp)), (0, .ref (ad 0)), (1, .int (ii a1))]) hx hb dX1_findGood_134 hl (k := 1) rfl (by decide) rfl (fun ls hl => ?_)
                    refine lv_goto (tgt := 74) hx hb dX1_findGood_137 (by decide) ?_
                    exact ih (k3 + (-1)) mp κc ga2 gb2 na2 gc wU qU (hT) (by omega) (by omega) (hmp) (hgc) (hgS) (fun q => stab_s (hst q) (.inl (by omega))) (by omega) H locs hP hD hS ls (lv_sub hl [0, 2, 3, 4] rfl)
                  · refine lv_iload_n hx hb dX1_findGood_96 rfl (lv_at hl 4 rfl) ?_
                    refine li_iconst hx hb dX1_findGood_97 ?_
                    refine li_icmp_eq (tgt := 111) hx hb (rgi2 ha0 ha1) ⟨by decide, by decide⟩ dX1_findGood_98 (by decide) (fun c98 => ?_) (fun c98 => ?_)
                    · refine lv_aload_n hx hb dX1_findGood_111 rfl (lv_at hl 3 rfl) ?_
                      refine lv_iload hx hb dX1_findGood_112 (lv_at hl 0 rfl) ?_
                      refine lv_iload_n hx hb dX1_findGood_114 rfl (lv_at hl 4 rfl) ?_
                      refine kM (va_runV (As := [.int (ii (ς 7 k3)), .int (ii a1)]) (rest := []) ⟨hx, hb, hml, hown, hts⟩ ((m_leadsOn l G ad ty hv σ (up (up (up (up (up (up ς 0 ga2) 1 gb2) 2 (sc (na2))) 16 gc) 11 wU) 12 qU) κc cs (ς 7 k3) a1 _ (show okF σ from hF) (show wfS wU qU from hT) (show inSt (ς 7 k3) from hmk) (show okC σ (ς 7 k3) from hSo.toMet.okc hokS hmk hmf) (show -1 ≤ a1 ∧ a1 ≤ 2 from ha) (show ∀ c, inSt c → (ς 6) c ≠ FARc → gc c = 0 ∨ gc c = 1 from hgc) hSo (show (ς 6) (ς 7 k3) ≠ FARc from hmf)) H.size) (cwV 2 hts (lw_V q698 q700 qs32 q76 q701) rfl rfl rfl (by decide +kernel) ⟨Nat.le_of_ble_eq_true rfl, Nat.le_of_ble_eq_true rfl⟩) (pvM (r := (RX1, TX1, 21)) hK hP hD hX 0 (aD_0 _ _ _ _ _ _ _) rfl) rfl rfl hl.1 rfl (lv_room (Nat.le_of_ble_eq_true rfl)) dX1_findGood_115 ⟨Nat.le_of_ble_eq_true rfl, Nat.le_of_ble_eq_true rfl⟩) hD hS hA (fun v ws1 H locs hv hP hD hS => ?_)
                      obtain ⟨z115, ga115, gb115, na115, wT115, qT115, κ115, rfl, rfl, hT115, ⟨rfl, hb115⟩ | ⟨rfl, hb115⟩⟩ := hv
                      · have hP : va_P G gcl (wD ad ty hv σ (up (up (up (up (up (up ς 16 gc) 0 ga115) 1 gb115) 2 (sc (na115))) 11 wT115) 12 qT115) κ115 ++ cs) H := hP
                        have hD : va_D A (wD ad ty hv σ (up (up (up (up (up (up ς 16 gc) 0 ga115) 1 gb115) 2 (sc (na115))) 11 wT115) 12 qT115) κ115 ++ cs) := hD
                        have hT115 : wfS wT115 qT115 := hT115
                        have hb115 : ∃ d, stepA σ a1 (ς 7 k3) d ∧ gc d = 1 := hb115
                        refine li_if_ne (tgt := 124) hx hb ⟨by decide, by decide⟩ dX1_findGood_118 (by decide) (fun c118 => ?_) (fun c118 => ?_)
                        · refine lv_aload_n hx hb dX1_findGood_124 rfl (lv_at hl 3 rfl) ?_
                          refine va_get (D := G) (ci := 0) (v := .ref (ad 54)) (C := RX1) (T := TX1) (N := 21) hx hb hts in_X1 hown hK hP 0 (aD_0 _ _ _ _ _ _ _) rfl 18 (by decide) (hts _ q995) (fun _ h9 => h9) rfl dX1_findGood_125 ?_
                          refine lv_iload hx hb dX1_findGood_128 (lv_at hl 0 rfl) ?_
                          refine li_iconst hx hb dX1_findGood_130 ?_
                          refine li_zast (g := gc) (W2 := wD ad ty hv σ (up (up (up (up (up (up ς 0 ga115) 1 gb115) 2 (sc (na115))) 11 wT115) 12 qT115) 16 (ug gc (ς 7 k3) 1)) κ115 ++ cs) hx hb hK hP hD hS 54 1 (aD_54 _ _ _ _ _ _ _) rfl (by omega) (by omega) (by decide) (by omega) rfl dX1_findGood_131 (fun H locs hP hD hS => ?_)
                          refine li_iconst hx hb dX1_findGood_132 ?_
                          refine lv_istore_n (lv' := [(2, .int (ii 1)), (4, .int (ii (ς 7 k3))), (3, .int (ii k3)), (0, .ref (ad 0)), (1, .int (ii a1))]) hx hb dX1_findGood_133 rfl hl (by decide) rfl (fun ls hl => ?_)
                          refine li_iinc (a := k3) (lv' := [(3, .int (ii (k3 + (-1)))), (2, .int (ii 1)), (4, .int (ii (ς 7 k3))), (0, .ref (ad 0)), (1, .int (ii a1))]) hx hb dX1_findGood_134 hl (k := 2) rfl (by decide) rfl (fun ls hl => ?_)
                          refine lv_goto (tgt := 74) hx hb dX1_findGood_137 (by decide) ?_
                          exact ih (k3 + (-1)) 1 κ115 ga115 gb115 na115 (ug gc (ς 7 k3) 1) wT115 qT115 (hT115) (by omega) (by omega) (by have := msk_more (g := gc) hmk hmf (by omega); omega) (ug_m1 hgc) (fgP_s hgS hSo hW hmk hmf (Or.inl c98) hb115) (fun q => by omega) (by omega) H locs hP hD hS ls (lv_sub hl [0, 1, 3, 4] rfl)
                        · exact absurd c118 (by decide)
                      · have hP : va_P G gcl (wD ad ty hv σ (up (up (up (up (up (up ς 16 gc) 0 ga115) 1 gb115) 2 (sc (na115))) 11 wT115) 12 qT115) κ115 ++ cs) H := hP
                        have hD : va_D A (wD ad ty hv σ (up (up (up (up (up (up ς 16 gc) 0 ga115) 1 gb115) 2 (sc (na115))) 11 wT115) 12 qT115) κ115 ++ cs) := hD
                        have hT115 : wfS wT115 qT115 := hT115
                        have hb115 : ¬ ∃ d, stepA σ a1 (ς 7 k3) d ∧ gc d = 1 := hb115
                        refine li_if_ne (tgt := 124) hx hb ⟨by decide, by decide⟩ dX1_findGood_118 (by decide) (fun c118 => ?_) (fun c118 => ?_)
                        · exact absurd c118 (by decide)
                        · refine lv_goto (tgt := 134) hx hb dX1_findGood_121 (by decide) ?_
                          refine li_iinc (a := k3) (lv' := [(3, .int (ii (k3 + (-1)))), (4, .int (ii (ς 7 k3))), (2, .int (ii mp)), (0, .ref (ad 0)), (1, .int (ii a1))]) hx hb dX1_findGood_134 hl (k := 1) rfl (by decide) rfl (fun ls hl => ?_)
                          refine lv_goto (tgt := 74) hx hb dX1_findGood_137 (by decide) ?_
                          exact ih (k3 + (-1)) mp κ115 ga115 gb115 na115 gc wT115 qT115 (hT115) (by omega) (by omega) (hmp) (hgc) (hgS) (fun q => stab_s (hst q) (.inr (.inr hb115))) (by omega) H locs hP hD hS ls (lv_sub hl [0, 2, 3, 4] rfl)
                    · refine lv_aload_n hx hb dX1_findGood_101 rfl (lv_at hl 3 rfl) ?_
                      refine lv_iload hx hb dX1_findGood_102 (lv_at hl 0 rfl) ?_
                      refine lv_iload_n hx hb dX1_findGood_104 rfl (lv_at hl 4 rfl) ?_
                      refine kM (va_runV (As := [.int (ii (ς 7 k3)), .int (ii a1)]) (rest := []) ⟨hx, hb, hml, hown, hts⟩ ((m_isAlone l G ad ty hv σ (up (up (up (up (up (up ς 0 ga2) 1 gb2) 2 (sc (na2))) 16 gc) 11 wU) 12 qU) κc cs (ς 7 k3) a1 (show okF σ from hF) (show wfS wU qU from hT) (show inSt (ς 7 k3) from hmk) (show 0 ≤ a1 ∧ a1 ≤ 2 from ⟨by omega, ha1⟩)) H.size) (cwV 2 hts (lw_V q694 q696 qs31 q76 q697) rfl rfl rfl (by decide +kernel) ⟨Nat.le_of_ble_eq_true rfl, Nat.le_of_ble_eq_true rfl⟩) (pvM (r := (RX1, TX1, 21)) hK hP hD hX 0 (aD_0 _ _ _ _ _ _ _) rfl) rfl rfl hl.1 rfl (lv_room (Nat.le_of_ble_eq_true rfl)) dX1_findGood_105 ⟨Nat.le_of_ble_eq_true rfl, Nat.le_of_ble_eq_true rfl⟩) hD hS hA (fun v ws1 H locs hv hP hD hS => ?_)
                      obtain ⟨z105, wT105, qT105, κ105, rfl, rfl, hT105, ⟨rfl, hb105⟩ | ⟨rfl, hb105⟩⟩ := hv
                      · have hP : va_P G gcl (wD ad ty hv σ (up (up (up (up (up (up ς 0 ga2) 1 gb2) 2 (sc (na2))) 16 gc) 11 wT105) 12 qT105) κ105 ++ cs) H := hP
                        have hD : va_D A (wD ad ty hv σ (up (up (up (up (up (up ς 0 ga2) 1 gb2) 2 (sc (na2))) 16 gc) 11 wT105) 12 qT105) κ105 ++ cs) := hD
                        have hT105 : wfS wT105 qT105 := hT105
                        have hb105 : alone σ a1 (ς 7 k3) := hb105
                        refine li_if_eq (tgt := 134) hx hb ⟨by decide, by decide⟩ dX1_findGood_108 (by decide) (fun c108 => ?_) (fun c108 => ?_)
                        · exact absurd c108 (by decide)
                        · refine lv_aload_n hx hb dX1_findGood_111 rfl (lv_at hl 3 rfl) ?_
                          refine lv_iload hx hb dX1_findGood_112 (lv_at hl 0 rfl) ?_
                          refine lv_iload_n hx hb dX1_findGood_114 rfl (lv_at hl 4 rfl) ?_
                          refine kM (va_runV (As := [.int (ii (ς 7 k3)), .int (ii a1)]) (rest := []) ⟨hx, hb, hml, hown, hts⟩ ((m_leadsOn l G ad ty hv σ (up (up (up (up (up (up ς 0 ga2) 1 gb2) 2 (sc (na2))) 16 gc) 11 wT105) 12 qT105) κ105 cs (ς 7 k3) a1 _ (show okF σ from hF) (show wfS wT105 qT105 from hT105) (show inSt (ς 7 k3) from hmk) (show okC σ (ς 7 k3) from hSo.toMet.okc hokS hmk hmf) (show -1 ≤ a1 ∧ a1 ≤ 2 from ha) (show ∀ c, inSt c → (ς 6) c ≠ FARc → gc c = 0 ∨ gc c = 1 from hgc) hSo (show (ς 6) (ς 7 k3) ≠ FARc from hmf)) H.size) (cwV 2 hts (lw_V q698 q700 qs32 q76 q701) rfl rfl rfl (by decide +kernel) ⟨Nat.le_of_ble_eq_true rfl, Nat.le_of_ble_eq_true rfl⟩) (pvM (r := (RX1, TX1, 21)) hK hP hD hX 0 (aD_0 _ _ _ _ _ _ _) rfl) rfl rfl hl.1 rfl (lv_room (Nat.le_of_ble_eq_true rfl)) dX1_findGood_115 ⟨Nat.le_of_ble_eq_true rfl, Nat.le_of_ble_eq_true rfl⟩) hD hS hA (fun v ws1 H locs hv hP hD hS => ?_)
                          obtain ⟨z115, ga115, gb115, na115, wT115, qT115, κ115, rfl, rfl, hT115, ⟨rfl, hb115⟩ | ⟨rfl, hb115⟩⟩ := hv
                          · have hP : va_P G gcl (wD ad ty hv σ (up (up (up (up (up (up ς 16 gc) 0 ga115) 1 gb115) 2 (sc (na115))) 11 wT115) 12 qT115) κ115 ++ cs) H := hP
                            have hD : va_D A (wD ad ty hv σ (up (up (up (up (up (up ς 16 gc) 0 ga115) 1 gb115) 2 (sc (na115))) 11 wT115) 12 qT115) κ115 ++ cs) := hD
                            have hT115 : wfS wT115 qT115 := hT115
                            have hb115 : ∃ d, stepA σ a1 (ς 7 k3) d ∧ gc d = 1 := hb115
                            refine li_if_ne (tgt := 124) hx hb ⟨by decide, by decide⟩ dX1_findGood_118 (by decide) (fun c118 => ?_) (fun c118 => ?_)
                            · refine lv_aload_n hx hb dX1_findGood_124 rfl (lv_at hl 3 rfl) ?_
                              refine va_get (D := G) (ci := 0) (v := .ref (ad 54)) (C := RX1) (T := TX1) (N := 21) hx hb hts in_X1 hown hK hP 0 (aD_0 _ _ _ _ _ _ _) rfl 18 (by decide) (hts _ q995) (fun _ h9 => h9) rfl dX1_findGood_125 ?_
                              refine lv_iload hx hb dX1_findGood_128 (lv_at hl 0 rfl) ?_
                              refine li_iconst hx hb dX1_findGood_130 ?_
                              refine li_zast (g := gc) (W2 := wD ad ty hv σ (up (up (up (up (up (up ς 0 ga115) 1 gb115) 2 (sc (na115))) 11 wT115) 12 qT115) 16 (ug gc (ς 7 k3) 1)) κ115 ++ cs) hx hb hK hP hD hS 54 1 (aD_54 _ _ _ _ _ _ _) rfl (by omega) (by omega) (by decide) (by omega) rfl dX1_findGood_131 (fun H locs hP hD hS => ?_)
                              refine li_iconst hx hb dX1_findGood_132 ?_
                              refine lv_istore_n (lv' := [(2, .int (ii 1)), (4, .int (ii (ς 7 k3))), (3, .int (ii k3)), (0, .ref (ad 0)), (1, .int (ii a1))]) hx hb dX1_findGood_133 rfl hl (by decide) rfl (fun ls hl => ?_)
                              refine li_iinc (a := k3) (lv' := [(3, .int (ii (k3 + (-1)))), (2, .int (ii 1)), (4, .int (ii (ς 7 k3))), (0, .ref (ad 0)), (1, .int (ii a1))]) hx hb dX1_findGood_134 hl (k := 2) rfl (by decide) rfl (fun ls hl => ?_)
                              refine lv_goto (tgt := 74) hx hb dX1_findGood_137 (by decide) ?_
                              exact ih (k3 + (-1)) 1 κ115 ga115 gb115 na115 (ug gc (ς 7 k3) 1) wT115 qT115 (hT115) (by omega) (by omega) (by have := msk_more (g := gc) hmk hmf (by omega); omega) (ug_m1 hgc) (fgP_s hgS hSo hW hmk hmf (Or.inr hb105) hb115) (fun q => by omega) (by omega) H locs hP hD hS ls (lv_sub hl [0, 1, 3, 4] rfl)
                            · exact absurd c118 (by decide)
                          · have hP : va_P G gcl (wD ad ty hv σ (up (up (up (up (up (up ς 16 gc) 0 ga115) 1 gb115) 2 (sc (na115))) 11 wT115) 12 qT115) κ115 ++ cs) H := hP
                            have hD : va_D A (wD ad ty hv σ (up (up (up (up (up (up ς 16 gc) 0 ga115) 1 gb115) 2 (sc (na115))) 11 wT115) 12 qT115) κ115 ++ cs) := hD
                            have hT115 : wfS wT115 qT115 := hT115
                            have hb115 : ¬ ∃ d, stepA σ a1 (ς 7 k3) d ∧ gc d = 1 := hb115
                            refine li_if_ne (tgt := 124) hx hb ⟨by decide, by decide⟩ dX1_findGood_118 (by decide) (fun c118 => ?_) (fun c118 => ?_)
                            · exact absurd c118 (by decide)
                            · refine lv_goto (tgt := 134) hx hb dX1_findGood_121 (by decide) ?_
                              refine li_iinc (a := k3) (lv' := [(3, .int (ii (k3 + (-1)))), (4, .int (ii (ς 7 k3))), (2, .int (ii mp)), (0, .ref (ad 0)), (1, .int (ii a1))]) hx hb dX1_findGood_134 hl (k := 1) rfl (by decide) rfl (fun ls hl => ?_)
                              refine lv_goto (tgt := 74) hx hb dX1_findGood_137 (by decide) ?_
                              exact ih (k3 + (-1)) mp κ115 ga115 gb115 na115 gc wT115 qT115 (hT115) (by omega) (by omega) (hmp) (hgc) (hgS) (fun q => stab_s (hst q) (.inr (.inr hb115))) (by omega) H locs hP hD hS ls (lv_sub hl [0, 2, 3, 4] rfl)
                      · have hP : va_P G gcl (wD ad ty hv σ (up (up (up (up (up (up ς 0 ga2) 1 gb2) 2 (sc (na2))) 16 gc) 11 wT105) 12 qT105) κ105 ++ cs) H := hP
                        have hD : va_D A (wD ad ty hv σ (up (up (up (up (up (up ς 0 ga2) 1 gb2) 2 (sc (na2))) 16 gc) 11 wT105) 12 qT105) κ105 ++ cs) := hD
                        have hT105 : wfS wT105 qT105 := hT105
                        have hb105 : ¬ alone σ a1 (ς 7 k3) := hb105
                        refine li_if_eq (tgt := 134) hx hb ⟨by decide, by decide⟩ dX1_findGood_108 (by decide) (fun c108 => ?_) (fun c108 => ?_)
                        · refine li_iinc (a := k3) (lv' := [(3, .int (ii (k3 + (-1)))), (4, .int (ii (ς 7 k3))), (2, .int (ii mp)), (0, .ref (ad 0)), (1, .int (ii a1))]) hx hb dX1_findGood_134 hl (k := 1) rfl (by decide) rfl (fun ls hl => ?_)
                          refine lv_goto (tgt := 74) hx hb dX1_findGood_137 (by decide) ?_
                          exact ih (k3 + (-1)) mp κ105 ga2 gb2 na2 gc wT105 qT105 (hT105) (by omega) (by omega) (hmp) (hgc) (hgS) (fun q => stab_s (hst q) (.inr (.inl (fun z => by rcases z with z | z; omega; exact hb105 z)))) (by omega) H locs hP hD hS ls (lv_sub hl [0, 2, 3, 4] rfl)
                        · exact absurd c108 (by decide)
            exact L74 _ (ς 8 0 - 1) 0 κb ga gb na gc0 wT qT (hT) (by omega) (by omega) (.inl ⟨rfl, rfl⟩) (hgc) (hgS) (fun _ => stab_0 _ _ _ _ _) (Nat.lt_succ_self _) H locs hP hD hS ls (lv_sub hl [0, 1, 2, 3] rfl)
      exact L61 _ 1 κa (ς 0) (ς 1) (ς 2 0) g1 wT qT (hT) (.inr rfl) (hgc) (hgS) (fun q => by omega) (Nat.lt_succ_self _) H locs hP hD hS ls (lv_sub hl [0, 1, 2] rfl)
    have L24 : ∀ (n : Nat) (k2 : Int) (κa : mem) (g1 : Int → Int) (wT : Int → Int) (qT : Int → Int) (_ : wfS wT qT) (_ : 0 ≤ k2) (_ : k2 ≤ ς 8 0) (_ : fgI (dn σ) (ς 7) k2 g1) (_ : (ς 8 0 - k2).toNat < n) (H : Heap) (locs : List Loc) (_ : va_P G gcl (wD ad ty hv σ (up (up (up ς 16 g1) 11 wT) 12 qT) κa ++ cs) H) (_ : va_D A (wD ad ty hv σ (up (up (up ς 16 g1) 11 wT) 12 qT) κa ++ cs)) (_ : va_S A s.heap H locs) (ls : Array Slot), lv_has ls 5 [(2, .int (ii k2)), (0, .ref (ad 0)), (1, .int (ii a1))] → W p l e (rm4 6 0 0 144) s m args below meth c H locs 0 0 Q (F0 m 24 ls []) := by
      intro n
      induction n with
      | zero =>
        intro k2 κa g1 wT qT hT hk0 hk1 hgi hm
        exact absurd hm (Nat.not_lt_zero _)
      | succ n ih =>
        intro k2 κa g1 wT qT hT hk0 hk1 hgi hm H locs hP hD hS ls hl
        refine lv_iload_n hx hb dX1_findGood_24 rfl (lv_at hl 0 rfl) ?_
        refine lv_aload_n hx hb dX1_findGood_25 rfl (lv_at hl 1 rfl) ?_
        refine va_get (D := G) (ci := 0) (v := .int (ii (ς 8 0))) (C := RX1) (T := TX1) (N := 21) hx hb hts in_X1 hown hK hP 0 (aD_0 _ _ _ _ _ _ _) rfl 12 (by decide) (hts _ q989) (fun _ h9 => h9) rfl dX1_findGood_26 ?_
        refine li_icmp_ge (tgt := 59) hx hb ⟨by omega, by omega⟩ ⟨by omega, by omega⟩ dX1_findGood_29 (by decide) (fun c29 => ?_) (fun c29 => ?_)
        · exact X24 k2 κa g1 wT qT (hT) ((fgI_e (a := a1) hSo hgi (by omega)).1) ((fgI_e hSo hgi (by omega)).2) H locs hP hD hS ls (lv_sub hl [1, 2] rfl)
        · have hmk := (hSo.mt k2 hk0 c29).1
          have hmf := (hSo.mt k2 hk0 c29).2
          obtain ⟨hmk0, hmk1⟩ := id hmk
          refine lv_aload_n hx hb dX1_findGood_32 rfl (lv_at hl 1 rfl) ?_
          refine va_get (D := G) (ci := 0) (v := .ref (ad 54)) (C := RX1) (T := TX1) (N := 21) hx hb hts in_X1 hown hK hP 0 (aD_0 _ _ _ _ _ _ _) rfl 18 (by decide) (hts _ q995) (fun _ h9 => h9) rfl dX1_findGood_33 ?_
          refine lv_aload_n hx hb dX1_findGood_36 rfl (lv_at hl 1 rfl) ?_
          refine va_get (D := G) (ci := 0) (v := .ref (ad 45)) (C := RX1) (T := TX1) (N := 21) hx hb hts in_X1 hown hK hP 0 (aD_0 _ _ _ _ _ _ _) rfl 11 (by decide) (hts _ q988) (fun _ h9 => h9) rfl dX1_findGood_37 ?_
          refine lv_iload_n hx hb dX1_findGood_40 rfl (lv_at hl 0 rfl) ?_
          refine li_iald (g := (ς 7)) hx hb hK hP 45 0 (aD_45 _ _ _ _ _ _ _) rfl (by omega) (by omega) (by decide) dX1_findGood_41 ?_
          refine lv_aload_n hx hb dX1_findGood_42 rfl (lv_at hl 1 rfl) ?_
          refine lv_aload_n hx hb dX1_findGood_43 rfl (lv_at hl 1 rfl) ?_
          refine va_get (D := G) (ci := 0) (v := .ref (ad 45)) (C := RX1) (T := TX1) (N := 21) hx hb hts in_X1 hown hK hP 0 (aD_0 _ _ _ _ _ _ _) rfl 11 (by decide) (hts _ q988) (fun _ h9 => h9) rfl dX1_findGood_44 ?_
          refine lv_iload_n hx hb dX1_findGood_47 rfl (lv_at hl 0 rfl) ?_
          refine li_iald (g := (ς 7)) hx hb hK hP 45 0 (aD_45 _ _ _ _ _ _ _) rfl (by omega) (by omega) (by decide) dX1_findGood_48 ?_
          refine kM (va_runV (As := [.int (ii (ς 7 k2))]) (rest := [.int (ii (ς 7 k2)), .ref (ad 54)]) ⟨hx, hb, hml, hown, hts⟩ ((m_isDown l G ad ty hv σ (up (up (up ς 16 g1) 11 wT) 12 qT) κa cs (ς 7 k2) (show okF σ from hF) (show wfS wT qT from hT) (show inSt (ς 7 k2) from hmk)) H.size) (cwV 1 hts (lw_V q638 q640 qs27 q76 q641) rfl rfl rfl (by decide +kernel) ⟨Nat.le_of_ble_eq_true rfl, Nat.le_of_ble_eq_true rfl⟩) (pvM (r := (RX1, TX1, 21)) hK hP hD hX 0 (aD_0 _ _ _ _ _ _ _) rfl) rfl rfl hl.1 rfl (lv_room (Nat.le_of_ble_eq_true rfl)) dX1_findGood_49 ⟨Nat.le_of_ble_eq_true rfl, Nat.le_of_ble_eq_true rfl⟩) hD hS hA (fun v ws1 H locs hv hP hD hS => ?_)
          obtain ⟨z49, wT49, qT49, κ49, rfl, rfl, hT49, ⟨rfl, hb49⟩ | ⟨rfl, hb49⟩⟩ := hv
          · have hP : va_P G gcl (wD ad ty hv σ (up (up (up ς 16 g1) 11 wT49) 12 qT49) κ49 ++ cs) H := hP
            have hD : va_D A (wD ad ty hv σ (up (up (up ς 16 g1) 11 wT49) 12 qT49) κ49 ++ cs) := hD
            have hT49 : wfS wT49 qT49 := hT49
            have hb49 : dn σ (ς 7 k2) := hb49
            refine li_zast (g := g1) (W2 := wD ad ty hv σ (up (up (up ς 11 wT49) 12 qT49) 16 (ug g1 (ς 7 k2) 1)) κ49 ++ cs) hx hb hK hP hD hS 54 1 (aD_54 _ _ _ _ _ _ _) rfl (by omega) (by omega) (by decide) (by omega) rfl dX1_findGood_52 (fun H locs hP hD hS => ?_)
            refine li_iinc (a := k2) (lv' := [(2, .int (ii (k2 + 1))), (0, .ref (ad 0)), (1, .int (ii a1))]) hx hb dX1_findGood_53 hl (k := 0) rfl (by decide) rfl (fun ls hl => ?_)
            refine lv_goto (tgt := 24) hx hb dX1_findGood_56 (by decide) ?_
            exact ih (k2 + 1) κ49 (ug g1 (ς 7 k2) 1) wT49 qT49 (hT49) (by omega) (by omega) (fgI_s hgi hb49) (by omega) H locs hP hD hS ls (lv_sub hl [0, 1, 2] rfl)
          · have hP : va_P G gcl (wD ad ty hv σ (up (up (up ς 16 g1) 11 wT49) 12 qT49) κ49 ++ cs) H := hP
            have hD : va_D A (wD ad ty hv σ (up (up (up ς 16 g1) 11 wT49) 12 qT49) κ49 ++ cs) := hD
            have hT49 : wfS wT49 qT49 := hT49
            have hb49 : ¬ dn σ (ς 7 k2) := hb49
            refine li_zast (g := g1) (W2 := wD ad ty hv σ (up (up (up ς 11 wT49) 12 qT49) 16 (ug g1 (ς 7 k2) 0)) κ49 ++ cs) hx hb hK hP hD hS 54 1 (aD_54 _ _ _ _ _ _ _) rfl (by omega) (by omega) (by decide) (by omega) rfl dX1_findGood_52 (fun H locs hP hD hS => ?_)
            refine li_iinc (a := k2) (lv' := [(2, .int (ii (k2 + 1))), (0, .ref (ad 0)), (1, .int (ii a1))]) hx hb dX1_findGood_53 hl (k := 0) rfl (by decide) rfl (fun ls hl => ?_)
            refine lv_goto (tgt := 24) hx hb dX1_findGood_56 (by decide) ?_
            exact ih (k2 + 1) κ49 (ug g1 (ς 7 k2) 0) wT49 qT49 (hT49) (by omega) (by omega) (fgI_n hgi hb49) (by omega) H locs hP hD hS ls (lv_sub hl [0, 1, 2] rfl)
    exact L24 _ 0 κ g0 (ς 11) (ς 12) (hT) (by omega) (by omega) (fgI_0 _ _ _) (Nat.lt_succ_self _) H locs hP hD hS ls (lv_sub hl [0, 1, 2] rfl)
  have L2 : ∀ (n : Nat) (i1 : Int) (g0 : Int → Int) (_ : 0 ≤ i1) (_ : i1 ≤ 4500) (_ : (4500 - i1).toNat < n) (H : Heap) (locs : List Loc) (_ : va_P G gcl (wD ad ty hv σ (up ς 16 g0) κ ++ cs) H) (_ : va_D A (wD ad ty hv σ (up ς 16 g0) κ ++ cs)) (_ : va_S A s.heap H locs) (ls : Array Slot), lv_has ls 5 [(2, .int (ii i1)), (0, .ref (ad 0)), (1, .int (ii a1))] → W p l e (rm4 6 0 0 144) s m args below meth c H locs 0 0 Q (F0 m 2 ls []) := by
    intro n
    induction n with
    | zero =>
      intro i1 g0 hi0 hi1 hm
      exact absurd hm (Nat.not_lt_zero _)
    | succ n ih =>
      intro i1 g0 hi0 hi1 hm H locs hP hD hS ls hl
      refine lv_iload_n hx hb dX1_findGood_2 rfl (lv_at hl 0 rfl) ?_
      refine li_sipush hx hb dX1_findGood_3 (by decide) ?_
      refine li_icmp_ge (tgt := 22) hx hb ⟨by omega, by omega⟩ ⟨by decide, by decide⟩ dX1_findGood_6 (by decide) (fun c6 => ?_) (fun c6 => ?_)
      · exact X2 i1 g0 H locs hP hD hS ls (lv_sub hl [1, 2] rfl)
      · refine lv_aload_n hx hb dX1_findGood_9 rfl (lv_at hl 1 rfl) ?_
        refine va_get (D := G) (ci := 0) (v := .ref (ad 54)) (C := RX1) (T := TX1) (N := 21) hx hb hts in_X1 hown hK hP 0 (aD_0 _ _ _ _ _ _ _) rfl 18 (by decide) (hts _ q995) (fun _ h9 => h9) rfl dX1_findGood_10 ?_
        refine lv_iload_n hx hb dX1_findGood_13 rfl (lv_at hl 0 rfl) ?_
        refine li_iconst hx hb dX1_findGood_14 ?_
        refine li_zast (g := g0) (W2 := wD ad ty hv σ (up ς 16 (ug g0 i1 0)) κ ++ cs) hx hb hK hP hD hS 54 1 (aD_54 _ _ _ _ _ _ _) rfl (by omega) (by omega) (by decide) (by omega) rfl dX1_findGood_15 (fun H locs hP hD hS => ?_)
        refine li_iinc (a := i1) (lv' := [(2, .int (ii (i1 + 1))), (0, .ref (ad 0)), (1, .int (ii a1))]) hx hb dX1_findGood_16 hl (k := 0) rfl (by decide) rfl (fun ls hl => ?_)
        refine lv_goto (tgt := 2) hx hb dX1_findGood_19 (by decide) ?_
        exact ih (i1 + 1) (ug g0 i1 0) (by omega) (by omega) (by omega) H locs hP hD hS ls (lv_sub hl [0, 1, 2] rfl)
  exact L2 _ 0 (ς 16) (by omega) (by omega) (Nat.lt_succ_self _) H locs hP hD hS ls (lv_sub hl [0, 1, 2] rfl)
