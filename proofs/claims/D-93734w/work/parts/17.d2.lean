/-! DownRope: tries, ledgeOf (written by gen/d2.py) -/
set_option maxRecDepth 100000
set_option maxHeartbeats 4000000 in
theorem m_tries_1T (l : Launch) (G : va_G) (ad : Nat → Nat) (ty : Nat → ClassId) (hv : Nat → Option Nat) (σ ς κ : mem) (cs : va_W)  (hW : wfF σ) (hWT : wfS (ς 11) (ς 12)) (hlgT : (0 < σ 9 0 → 0 ≤ ς 11 0 ∧ ς 11 0 < σ 8 0) ∧ (1 < σ 9 0 → 0 ≤ ς 11 1 ∧ ς 11 1 < σ 8 0) ∧ (2 < σ 9 0 → 0 ≤ ς 11 2 ∧ ς 11 2 < σ 8 0)) (hm : 0 ≤ κ 24 0 ∧ κ 24 0 ≤ 7 ∧ 0 ≤ κ 25 0 ∧ κ 25 0 ≤ 1 ∧ 0 ≤ κ 26 0 ∧ κ 26 0 ≤ 4 ∧ 0 ≤ κ 27 0 ∧ κ 27 0 ≤ 4) (hn : 0 ≤ ς 2 0 ∧ ς 2 0 < 400) : cM l yX1_tries (ws_ yX1_tries cX1_tries 4 none) (rm4 3 0 0 70) G ty (wD ad ty hv σ ς κ ++ cs) [.ref (ad 0), .ref (ad 33), .ref (ad 48)] 0 0 (fun r W' => ∃ (g0 g1 : Int → Int) (n' : Int), r = none ∧ W' = wD ad ty hv σ (up (up (up ς 0 g0) 1 g1) 2 (sc n')) κ ++ cs ∧ ((mnOk σ (ς 11) (ς 12) 1 (κ 24 0) (κ 25 0) (κ 26 0) (κ 27 0) ∧ g0 = ug (ς 0) (ς 2 0) (10000 + 1000 * (κ 24 0) + 100 * (κ 25 0) + 10 * (κ 26 0) + (κ 27 0)) ∧ g1 = ug (ς 1) (ς 2 0) (mnV σ 1 (κ 24 0) (κ 26 0) (κ 27 0)) ∧ n' = ς 2 0 + 1) ∨ (¬ mnOk σ (ς 11) (ς 12) 1 (κ 24 0) (κ 25 0) (κ 26 0) (κ 27 0) ∧ g0 = ς 0 ∧ g1 = ς 1 ∧ n' = ς 2 0))) := by
  refine cM.of (by decide) (Nat.le_of_ble_eq_true rfl) ?_
  intro p e s m args below meth c A Q H locs hQ hx hb hr hml hown hlk hname hts hK hP hD hS hA hX ls hl
  have hl : lv_has ls 4 [(0, .ref (ad 0)), (1, .ref (ad 33)), (2, .ref (ad 48))] := hl
  obtain ⟨hn1, hn2⟩ := id hn
  have hV := mnV_b (k := 1) (st := κ 24 0) (fr := κ 26 0) (to := κ 27 0) hW (by omega) (by omega) (by omega) (by omega) (by omega) (by omega)
  refine lv_aload_n hx hb dX1_tries_0 rfl (lv_at hl 1 rfl) ?_
  refine lv_aload_n hx hb dX1_tries_1 rfl (lv_at hl 0 rfl) ?_
  refine va_get (D := G) (ci := 0) (v := .ref (ad 1)) (C := RX1) (T := TX1) (N := 21) hx hb hts in_X1 hown hK hP 0 (aD_0 _ _ _ _ _ _ _) rfl 0 (by decide) (hts _ q977) (fun _ h9 => h9) rfl dX1_tries_2 ?_
  refine lv_aload_n hx hb dX1_tries_5 rfl (lv_at hl 2 rfl) ?_
  refine kR (va_runU (x := yX5_minutes) (As := [.ref (ad 1), .ref (ad 48)]) (rest := []) ⟨hx, hb, hml, hown, hts⟩ (m_minutes_6 l G ty (wD ad ty hv σ ς κ ++ cs) (fun k => 1 + k) (fun k => ad (1 + k)) σ (fun k => 48 + k) (fun k => ad (48 + k)) (ς 11) (ς 12) 33 (ad 33) (κ 24 0) (κ 25 0) (κ 26 0) (κ 27 0)  ⟨rfl, rfl, rfl, rfl, rfl, rfl, rfl⟩ (hW) ⟨rfl, rfl, rfl⟩ (hWT) rfl (hm)) (va_cwO (own := "DownRope") (index := 206) (C := "DownRope$Doubled") (owner := "DownRope$Move") (x := yX5_minutes) (y := yX6_minutes) 2 hts (lw_app (lw_in _ [393, 396, 394, 422, 423, 81] (by decide +kernel) (by decide +kernel)) (lw_meth q424)) rfl rfl rfl q499 (by decide +kernel) ⟨Nat.le_of_ble_eq_true rfl, Nat.le_of_ble_eq_true rfl⟩) (pvR (r := (RX6, TX6, 4)) hK hP hD hX 33 (aD_33 _ _ _ _ _ _ _) rfl) rfl rfl hl.1 rfl (lv_room (Nat.le_of_ble_eq_true rfl)) dX1_tries_6 ⟨Nat.le_of_ble_eq_true rfl, Nat.le_of_ble_eq_true rfl⟩) (fun v hv => ?_)
  obtain ⟨z6, rfl, ⟨h6, rfl⟩ | ⟨h6, rfl⟩⟩ := hv
  · refine lv_istore_n (lv' := [(3, .int (ii (mnV σ 1 (κ 24 0) (κ 26 0) (κ 27 0)))), (0, .ref (ad 0)), (1, .ref (ad 33)), (2, .ref (ad 48))]) hx hb dX1_tries_9 rfl hl (by decide) rfl (fun ls hl => ?_)
    refine lv_iload_n hx hb dX1_tries_10 rfl (lv_at hl 0 rfl) ?_
    refine li_bipush hx hb dX1_tries_11 (by decide) ?_
    refine li_icmp_ne (tgt := 17) hx hb ⟨by omega, by omega⟩ ⟨by decide, by decide⟩ dX1_tries_13 (by decide) (fun c13 => ?_) (fun c13 => ?_)
    · refine lv_aload_n hx hb dX1_tries_17 rfl (lv_at hl 1 rfl) ?_
      refine va_get (D := G) (ci := 0) (v := .ref (ad 39)) (C := RX1) (T := TX1) (N := 21) hx hb hts in_X1 hown hK hP 0 (aD_0 _ _ _ _ _ _ _) rfl 5 (by decide) (hts _ q982) (fun _ h9 => h9) rfl dX1_tries_18 ?_
      refine lv_aload_n hx hb dX1_tries_21 rfl (lv_at hl 1 rfl) ?_
      refine va_get (D := G) (ci := 0) (v := .int (ii (ς 2 0))) (C := RX1) (T := TX1) (N := 21) hx hb hts in_X1 hown hK hP 0 (aD_0 _ _ _ _ _ _ _) rfl 7 (by decide) (hts _ q984) (fun _ h9 => h9) rfl dX1_tries_22 ?_
      refine lv_aload_n hx hb dX1_tries_25 rfl (lv_at hl 2 rfl) ?_
      refine kR (va_runU (x := yX5_told) (As := []) (rest := [.int (ii (ς 2 0)), .ref (ad 39)]) ⟨hx, hb, hml, hown, hts⟩ (m_told_6 l G ty (wD ad ty hv σ ς κ ++ cs) 33 (ad 33) (κ 24 0) (κ 25 0) (κ 26 0) (κ 27 0)  rfl (hm)) (va_cwU (own := "DownRope") (index := 219) (C := "DownRope$Doubled") (owner := "DownRope$Move") (x := yX5_told) (y := yX5_told) 0 hts (lw_app (lw_in _ [557, 560, 562, 558, 80] (by decide +kernel) (by decide +kernel)) (lw_meth q567)) rfl rfl rfl rfl (by decide +kernel) ⟨Nat.le_of_ble_eq_true rfl, Nat.le_of_ble_eq_true rfl⟩) (pvR (r := (RX6, TX6, 4)) hK hP hD hX 33 (aD_33 _ _ _ _ _ _ _) rfl) rfl rfl hl.1 rfl (lv_room (Nat.le_of_ble_eq_true rfl)) dX1_tries_26 ⟨Nat.le_of_ble_eq_true rfl, Nat.le_of_ble_eq_true rfl⟩) (fun v hv => ?_)
      obtain ⟨z26, rfl, h26⟩ := hv
      refine li_iast (g := (ς 0)) (W2 := wD ad ty hv σ (up ς 0 (ug (ς 0) (ς 2 0) z26)) κ ++ cs) hx hb hK hP hD hS 39 0 (aD_39 _ _ _ _ _ _ _) rfl (by omega) (by omega) (by decide) rfl dX1_tries_29 (fun H locs hP hD hS => ?_)
      refine lv_aload_n hx hb dX1_tries_30 rfl (lv_at hl 1 rfl) ?_
      refine va_get (D := G) (ci := 0) (v := .ref (ad 40)) (C := RX1) (T := TX1) (N := 21) hx hb hts in_X1 hown hK hP 0 (aD_0 _ _ _ _ _ _ _) rfl 6 (by decide) (hts _ q983) (fun _ h9 => h9) rfl dX1_tries_31 ?_
      refine lv_aload_n hx hb dX1_tries_34 rfl (lv_at hl 1 rfl) ?_
      refine va_get (D := G) (ci := 0) (v := .int (ii (ς 2 0))) (C := RX1) (T := TX1) (N := 21) hx hb hts in_X1 hown hK hP 0 (aD_0 _ _ _ _ _ _ _) rfl 7 (by decide) (hts _ q984) (fun _ h9 => h9) rfl dX1_tries_35 ?_
      refine lv_iload_n hx hb dX1_tries_38 rfl (lv_at hl 0 rfl) ?_
      refine li_iast (g := (ς 1)) (W2 := wD ad ty hv σ (up (up ς 0 (ug (ς 0) (ς 2 0) z26)) 1 (ug (ς 1) (ς 2 0) (mnV σ 1 (κ 24 0) (κ 26 0) (κ 27 0)))) κ ++ cs) hx hb hK hP hD hS 40 0 (aD_40 _ _ _ _ _ _ _) rfl (by omega) (by omega) (by decide) rfl dX1_tries_39 (fun H locs hP hD hS => ?_)
      refine lv_aload_n hx hb dX1_tries_40 rfl (lv_at hl 1 rfl) ?_
      refine lv_dup hx hb dX1_tries_41 rfl ?_
      refine va_get (D := G) (ci := 0) (v := .int (ii (ς 2 0))) (C := RX1) (T := TX1) (N := 21) hx hb hts in_X1 hown hK hP 0 (aD_0 _ _ _ _ _ _ _) rfl 7 (by decide) (hts _ q984) (fun _ h9 => h9) rfl dX1_tries_42 ?_
      refine li_iconst hx hb dX1_tries_45 ?_
      refine li_add hx hb dX1_tries_46 ?_
      refine va_put (D := G) (ci := 0) (v := .int (ii (ς 2 0 + 1))) (ty := .int) (C := RX1) (T := TX1) (N := 21) hx hb hts in_X1 tyX1 tyX1_ok nmX1 hown hK hP hD hS 0 (aD_0 _ _ _ _ _ _ _) rfl 7 (by decide) (hts _ q984) (fun _ h9 => h9) rfl (tyX1_ok 7 (by decide)) rfl rfl (Nat.le_of_ble_eq_true rfl) dX1_tries_47 (fun H locs hP hD hS => ?_)
      have hP : va_P G gcl (wD ad ty hv σ (up (up (up ς 0 (ug (ς 0) (ς 2 0) z26)) 1 (ug (ς 1) (ς 2 0) (mnV σ 1 (κ 24 0) (κ 26 0) (κ 27 0)))) 2 (sc (ς 2 0 + 1))) κ ++ cs) H := hP
      have hD : va_D A (wD ad ty hv σ (up (up (up ς 0 (ug (ς 0) (ς 2 0) z26)) 1 (ug (ς 1) (ς 2 0) (mnV σ 1 (κ 24 0) (κ 26 0) (κ 27 0)))) 2 (sc (ς 2 0 + 1))) κ ++ cs) := hD
      exact eMv hQ hx hb hr hlk hP hD hS (Nat.le_of_ble_eq_true rfl) (Nat.le_of_ble_eq_true rfl) dX1_tries_50 (⟨_, _, _, rfl, rfl, .inl ⟨h6, by rw [h26], rfl, rfl⟩⟩)
    · exfalso
      omega
  · refine lv_istore_n (lv' := [(3, .int (ii (-3))), (0, .ref (ad 0)), (1, .ref (ad 33)), (2, .ref (ad 48))]) hx hb dX1_tries_9 rfl hl (by decide) rfl (fun ls hl => ?_)
    refine lv_iload_n hx hb dX1_tries_10 rfl (lv_at hl 0 rfl) ?_
    refine li_bipush hx hb dX1_tries_11 (by decide) ?_
    refine li_icmp_ne (tgt := 17) hx hb ⟨by decide, by decide⟩ ⟨by decide, by decide⟩ dX1_tries_13 (by decide) (fun c13 => ?_) (fun c13 => ?_)
    · exact absurd c13 (by decide)
    · exact eMv hQ hx hb hr hlk hP hD hS (Nat.le_of_ble_eq_true rfl) (Nat.le_of_ble_eq_true rfl) dX1_tries_16 (⟨ς 0, ς 1, ς 2 0, rfl, rfl, .inr ⟨h6, rfl, rfl, rfl⟩⟩)
set_option maxHeartbeats 4000000 in
theorem m_tries_2T (l : Launch) (G : va_G) (ad : Nat → Nat) (ty : Nat → ClassId) (hv : Nat → Option Nat) (σ ς κ : mem) (cs : va_W)  (hW : wfF σ) (hWT : wfS (ς 11) (ς 12)) (hlgT : (0 < σ 9 0 → 0 ≤ ς 11 0 ∧ ς 11 0 < σ 8 0) ∧ (1 < σ 9 0 → 0 ≤ ς 11 1 ∧ ς 11 1 < σ 8 0) ∧ (2 < σ 9 0 → 0 ≤ ς 11 2 ∧ ς 11 2 < σ 8 0)) (hm : 0 ≤ κ 28 0 ∧ κ 28 0 ≤ 7 ∧ 0 ≤ κ 29 0 ∧ κ 29 0 ≤ 1 ∧ 0 ≤ κ 30 0 ∧ κ 30 0 ≤ 4 ∧ 0 ≤ κ 31 0 ∧ κ 31 0 ≤ 4) (hn : 0 ≤ ς 2 0 ∧ ς 2 0 < 400) : cM l yX1_tries (ws_ yX1_tries cX1_tries 4 none) (rm4 3 0 0 70) G ty (wD ad ty hv σ ς κ ++ cs) [.ref (ad 0), .ref (ad 34), .ref (ad 48)] 0 0 (fun r W' => ∃ (g0 g1 : Int → Int) (n' : Int), r = none ∧ W' = wD ad ty hv σ (up (up (up ς 0 g0) 1 g1) 2 (sc n')) κ ++ cs ∧ ((mnOk σ (ς 11) (ς 12) 2 (κ 28 0) (κ 29 0) (κ 30 0) (κ 31 0) ∧ g0 = ug (ς 0) (ς 2 0) (20000 + 1000 * (κ 28 0) + 100 * (κ 29 0) + 10 * (κ 30 0) + (κ 31 0)) ∧ g1 = ug (ς 1) (ς 2 0) (mnV σ 2 (κ 28 0) (κ 30 0) (κ 31 0)) ∧ n' = ς 2 0 + 1) ∨ (¬ mnOk σ (ς 11) (ς 12) 2 (κ 28 0) (κ 29 0) (κ 30 0) (κ 31 0) ∧ g0 = ς 0 ∧ g1 = ς 1 ∧ n' = ς 2 0))) := by
  refine cM.of (by decide) (Nat.le_of_ble_eq_true rfl) ?_
  intro p e s m args below meth c A Q H locs hQ hx hb hr hml hown hlk hname hts hK hP hD hS hA hX ls hl
  have hl : lv_has ls 4 [(0, .ref (ad 0)), (1, .ref (ad 34)), (2, .ref (ad 48))] := hl
  obtain ⟨hn1, hn2⟩ := id hn
  have hV := mnV_b (k := 2) (st := κ 28 0) (fr := κ 30 0) (to := κ 31 0) hW (by omega) (by omega) (by omega) (by omega) (by omega) (by omega)
  refine lv_aload_n hx hb dX1_tries_0 rfl (lv_at hl 1 rfl) ?_
  refine lv_aload_n hx hb dX1_tries_1 rfl (lv_at hl 0 rfl) ?_
  refine va_get (D := G) (ci := 0) (v := .ref (ad 1)) (C := RX1) (T := TX1) (N := 21) hx hb hts in_X1 hown hK hP 0 (aD_0 _ _ _ _ _ _ _) rfl 0 (by decide) (hts _ q977) (fun _ h9 => h9) rfl dX1_tries_2 ?_
  refine lv_aload_n hx hb dX1_tries_5 rfl (lv_at hl 2 rfl) ?_
  refine kR (va_runU (x := yX5_minutes) (As := [.ref (ad 1), .ref (ad 48)]) (rest := []) ⟨hx, hb, hml, hown, hts⟩ (m_minutes_7 l G ty (wD ad ty hv σ ς κ ++ cs) (fun k => 1 + k) (fun k => ad (1 + k)) σ (fun k => 48 + k) (fun k => ad (48 + k)) (ς 11) (ς 12) 34 (ad 34) (κ 28 0) (κ 29 0) (κ 30 0) (κ 31 0)  ⟨rfl, rfl, rfl, rfl, rfl, rfl, rfl⟩ (hW) ⟨rfl, rfl, rfl⟩ (hWT) rfl (hm)) (va_cwO (own := "DownRope") (index := 206) (C := "DownRope$Single") (owner := "DownRope$Move") (x := yX5_minutes) (y := yX7_minutes) 2 hts (lw_app (lw_in _ [393, 396, 394, 478, 479, 82] (by decide +kernel) (by decide +kernel)) (lw_meth q480)) rfl rfl rfl q499 (by decide +kernel) ⟨Nat.le_of_ble_eq_true rfl, Nat.le_of_ble_eq_true rfl⟩) (pvR (r := (RX7, TX7, 4)) hK hP hD hX 34 (aD_34 _ _ _ _ _ _ _) rfl) rfl rfl hl.1 rfl (lv_room (Nat.le_of_ble_eq_true rfl)) dX1_tries_6 ⟨Nat.le_of_ble_eq_true rfl, Nat.le_of_ble_eq_true rfl⟩) (fun v hv => ?_)
  obtain ⟨z6, rfl, ⟨h6, rfl⟩ | ⟨h6, rfl⟩⟩ := hv
  · refine lv_istore_n (lv' := [(3, .int (ii (mnV σ 2 (κ 28 0) (κ 30 0) (κ 31 0)))), (0, .ref (ad 0)), (1, .ref (ad 34)), (2, .ref (ad 48))]) hx hb dX1_tries_9 rfl hl (by decide) rfl (fun ls hl => ?_)
    refine lv_iload_n hx hb dX1_tries_10 rfl (lv_at hl 0 rfl) ?_
    refine li_bipush hx hb dX1_tries_11 (by decide) ?_
    refine li_icmp_ne (tgt := 17) hx hb ⟨by omega, by omega⟩ ⟨by decide, by decide⟩ dX1_tries_13 (by decide) (fun c13 => ?_) (fun c13 => ?_)
    · refine lv_aload_n hx hb dX1_tries_17 rfl (lv_at hl 1 rfl) ?_
      refine va_get (D := G) (ci := 0) (v := .ref (ad 39)) (C := RX1) (T := TX1) (N := 21) hx hb hts in_X1 hown hK hP 0 (aD_0 _ _ _ _ _ _ _) rfl 5 (by decide) (hts _ q982) (fun _ h9 => h9) rfl dX1_tries_18 ?_
      refine lv_aload_n hx hb dX1_tries_21 rfl (lv_at hl 1 rfl) ?_
      refine va_get (D := G) (ci := 0) (v := .int (ii (ς 2 0))) (C := RX1) (T := TX1) (N := 21) hx hb hts in_X1 hown hK hP 0 (aD_0 _ _ _ _ _ _ _) rfl 7 (by decide) (hts _ q984) (fun _ h9 => h9) rfl dX1_tries_22 ?_
      refine lv_aload_n hx hb dX1_tries_25 rfl (lv_at hl 2 rfl) ?_
      refine kR (va_runU (x := yX5_told) (As := []) (rest := [.int (ii (ς 2 0)), .ref (ad 39)]) ⟨hx, hb, hml, hown, hts⟩ (m_told_7 l G ty (wD ad ty hv σ ς κ ++ cs) 34 (ad 34) (κ 28 0) (κ 29 0) (κ 30 0) (κ 31 0)  rfl (hm)) (va_cwU (own := "DownRope") (index := 219) (C := "DownRope$Single") (owner := "DownRope$Move") (x := yX5_told) (y := yX5_told) 0 hts (lw_app (lw_in _ [557, 560, 565, 558, 80] (by decide +kernel) (by decide +kernel)) (lw_meth q567)) rfl rfl rfl rfl (by decide +kernel) ⟨Nat.le_of_ble_eq_true rfl, Nat.le_of_ble_eq_true rfl⟩) (pvR (r := (RX7, TX7, 4)) hK hP hD hX 34 (aD_34 _ _ _ _ _ _ _) rfl) rfl rfl hl.1 rfl (lv_room (Nat.le_of_ble_eq_true rfl)) dX1_tries_26 ⟨Nat.le_of_ble_eq_true rfl, Nat.le_of_ble_eq_true rfl⟩) (fun v hv => ?_)
      obtain ⟨z26, rfl, h26⟩ := hv
      refine li_iast (g := (ς 0)) (W2 := wD ad ty hv σ (up ς 0 (ug (ς 0) (ς 2 0) z26)) κ ++ cs) hx hb hK hP hD hS 39 0 (aD_39 _ _ _ _ _ _ _) rfl (by omega) (by omega) (by decide) rfl dX1_tries_29 (fun H locs hP hD hS => ?_)
      refine lv_aload_n hx hb dX1_tries_30 rfl (lv_at hl 1 rfl) ?_
      refine va_get (D := G) (ci := 0) (v := .ref (ad 40)) (C := RX1) (T := TX1) (N := 21) hx hb hts in_X1 hown hK hP 0 (aD_0 _ _ _ _ _ _ _) rfl 6 (by decide) (hts _ q983) (fun _ h9 => h9) rfl dX1_tries_31 ?_
      refine lv_aload_n hx hb dX1_tries_34 rfl (lv_at hl 1 rfl) ?_
      refine va_get (D := G) (ci := 0) (v := .int (ii (ς 2 0))) (C := RX1) (T := TX1) (N := 21) hx hb hts in_X1 hown hK hP 0 (aD_0 _ _ _ _ _ _ _) rfl 7 (by decide) (hts _ q984) (fun _ h9 => h9) rfl dX1_tries_35 ?_
      refine lv_iload_n hx hb dX1_tries_38 rfl (lv_at hl 0 rfl) ?_
      refine li_iast (g := (ς 1)) (W2 := wD ad ty hv σ (up (up ς 0 (ug (ς 0) (ς 2 0) z26)) 1 (ug (ς 1) (ς 2 0) (mnV σ 2 (κ 28 0) (κ 30 0) (κ 31 0)))) κ ++ cs) hx hb hK hP hD hS 40 0 (aD_40 _ _ _ _ _ _ _) rfl (by omega) (by omega) (by decide) rfl dX1_tries_39 (fun H locs hP hD hS => ?_)
      refine lv_aload_n hx hb dX1_tries_40 rfl (lv_at hl 1 rfl) ?_
      refine lv_dup hx hb dX1_tries_41 rfl ?_
      refine va_get (D := G) (ci := 0) (v := .int (ii (ς 2 0))) (C := RX1) (T := TX1) (N := 21) hx hb hts in_X1 hown hK hP 0 (aD_0 _ _ _ _ _ _ _) rfl 7 (by decide) (hts _ q984) (fun _ h9 => h9) rfl dX1_tries_42 ?_
      refine li_iconst hx hb dX1_tries_45 ?_
      refine li_add hx hb dX1_tries_46 ?_
      refine va_put (D := G) (ci := 0) (v := .int (ii (ς 2 0 + 1))) (ty := .int) (C := RX1) (T := TX1) (N := 21) hx hb hts in_X1 tyX1 tyX1_ok nmX1 hown hK hP hD hS 0 (aD_0 _ _ _ _ _ _ _) rfl 7 (by decide) (hts _ q984) (fun _ h9 => h9) rfl (tyX1_ok 7 (by decide)) rfl rfl (Nat.le_of_ble_eq_true rfl) dX1_tries_47 (fun H locs hP hD hS => ?_)
      have hP : va_P G gcl (wD ad ty hv σ (up (up (up ς 0 (ug (ς 0) (ς 2 0) z26)) 1 (ug (ς 1) (ς 2 0) (mnV σ 2 (κ 28 0) (κ 30 0) (κ 31 0)))) 2 (sc (ς 2 0 + 1))) κ ++ cs) H := hP
      have hD : va_D A (wD ad ty hv σ (up (up (up ς 0 (ug (ς 0) (ς 2 0) z26)) 1 (ug (ς 1) (ς 2 0) (mnV σ 2 (κ 28 0) (κ 30 0) (κ 31 0)))) 2 (sc (ς 2 0 + 1))) κ ++ cs) := hD
      exact eMv hQ hx hb hr hlk hP hD hS (Nat.le_of_ble_eq_true rfl) (Nat.le_of_ble_eq_true rfl) dX1_tries_50 (⟨_, _, _, rfl, rfl, .inl ⟨h6, by rw [h26], rfl, rfl⟩⟩)
    · exfalso
      omega
  · refine lv_istore_n (lv' := [(3, .int (ii (-3))), (0, .ref (ad 0)), (1, .ref (ad 34)), (2, .ref (ad 48))]) hx hb dX1_tries_9 rfl hl (by decide) rfl (fun ls hl => ?_)
    refine lv_iload_n hx hb dX1_tries_10 rfl (lv_at hl 0 rfl) ?_
    refine li_bipush hx hb dX1_tries_11 (by decide) ?_
    refine li_icmp_ne (tgt := 17) hx hb ⟨by decide, by decide⟩ ⟨by decide, by decide⟩ dX1_tries_13 (by decide) (fun c13 => ?_) (fun c13 => ?_)
    · exact absurd c13 (by decide)
    · exact eMv hQ hx hb hr hlk hP hD hS (Nat.le_of_ble_eq_true rfl) (Nat.le_of_ble_eq_true rfl) dX1_tries_16 (⟨ς 0, ς 1, ς 2 0, rfl, rfl, .inr ⟨h6, rfl, rfl, rfl⟩⟩)
set_option maxHeartbeats 4000000 in
theorem m_tries_3T (l : Launch) (G : va_G) (ad : Nat → Nat) (ty : Nat → ClassId) (hv : Nat → Option Nat) (σ ς κ : mem) (cs : va_W)  (hW : wfF σ) (hWT : wfS (ς 11) (ς 12)) (hlgT : (0 < σ 9 0 → 0 ≤ ς 11 0 ∧ ς 11 0 < σ 8 0) ∧ (1 < σ 9 0 → 0 ≤ ς 11 1 ∧ ς 11 1 < σ 8 0) ∧ (2 < σ 9 0 → 0 ≤ ς 11 2 ∧ ς 11 2 < σ 8 0)) (hm : 0 ≤ κ 32 0 ∧ κ 32 0 ≤ 7 ∧ 0 ≤ κ 33 0 ∧ κ 33 0 ≤ 1 ∧ 0 ≤ κ 34 0 ∧ κ 34 0 ≤ 4 ∧ 0 ≤ κ 35 0 ∧ κ 35 0 ≤ 4) (hn : 0 ≤ ς 2 0 ∧ ς 2 0 < 400) : cM l yX1_tries (ws_ yX1_tries cX1_tries 4 none) (rm4 3 0 0 70) G ty (wD ad ty hv σ ς κ ++ cs) [.ref (ad 0), .ref (ad 35), .ref (ad 48)] 0 0 (fun r W' => ∃ (g0 g1 : Int → Int) (n' : Int), r = none ∧ W' = wD ad ty hv σ (up (up (up ς 0 g0) 1 g1) 2 (sc n')) κ ++ cs ∧ ((mnOk σ (ς 11) (ς 12) 3 (κ 32 0) (κ 33 0) (κ 34 0) (κ 35 0) ∧ g0 = ug (ς 0) (ς 2 0) (30000 + 1000 * (κ 32 0) + 100 * (κ 33 0) + 10 * (κ 34 0) + (κ 35 0)) ∧ g1 = ug (ς 1) (ς 2 0) (mnV σ 3 (κ 32 0) (κ 34 0) (κ 35 0)) ∧ n' = ς 2 0 + 1) ∨ (¬ mnOk σ (ς 11) (ς 12) 3 (κ 32 0) (κ 33 0) (κ 34 0) (κ 35 0) ∧ g0 = ς 0 ∧ g1 = ς 1 ∧ n' = ς 2 0))) := by
  refine cM.of (by decide) (Nat.le_of_ble_eq_true rfl) ?_
  intro p e s m args below meth c A Q H locs hQ hx hb hr hml hown hlk hname hts hK hP hD hS hA hX ls hl
  have hl : lv_has ls 4 [(0, .ref (ad 0)), (1, .ref (ad 35)), (2, .ref (ad 48))] := hl
  obtain ⟨hn1, hn2⟩ := id hn
  have hV := mnV_b (k := 3) (st := κ 32 0) (fr := κ 34 0) (to := κ 35 0) hW (by omega) (by omega) (by omega) (by omega) (by omega) (by omega)
  refine lv_aload_n hx hb dX1_tries_0 rfl (lv_at hl 1 rfl) ?_
  refine lv_aload_n hx hb dX1_tries_1 rfl (lv_at hl 0 rfl) ?_
  refine va_get (D := G) (ci := 0) (v := .ref (ad 1)) (C := RX1) (T := TX1) (N := 21) hx hb hts in_X1 hown hK hP 0 (aD_0 _ _ _ _ _ _ _) rfl 0 (by decide) (hts _ q977) (fun _ h9 => h9) rfl dX1_tries_2 ?_
  refine lv_aload_n hx hb dX1_tries_5 rfl (lv_at hl 2 rfl) ?_
  refine kR (va_runU (x := yX5_minutes) (As := [.ref (ad 1), .ref (ad 48)]) (rest := []) ⟨hx, hb, hml, hown, hts⟩ (m_minutes_8 l G ty (wD ad ty hv σ ς κ ++ cs) (fun k => 1 + k) (fun k => ad (1 + k)) σ (fun k => 48 + k) (fun k => ad (48 + k)) (ς 11) (ς 12) 35 (ad 35) (κ 32 0) (κ 33 0) (κ 34 0) (κ 35 0)  ⟨rfl, rfl, rfl, rfl, rfl, rfl, rfl⟩ (hW) ⟨rfl, rfl, rfl⟩ (hWT) rfl (hm)) (va_cwO (own := "DownRope") (index := 206) (C := "DownRope$Joined") (owner := "DownRope$Move") (x := yX5_minutes) (y := yX6_minutes) 2 hts (lw_app (lw_in _ [393, 396, 394, 460, 423, 81] (by decide +kernel) (by decide +kernel)) (lw_meth q424)) rfl rfl rfl q499 (by decide +kernel) ⟨Nat.le_of_ble_eq_true rfl, Nat.le_of_ble_eq_true rfl⟩) (pvR (r := (RX8, TX8, 4)) hK hP hD hX 35 (aD_35 _ _ _ _ _ _ _) rfl) rfl rfl hl.1 rfl (lv_room (Nat.le_of_ble_eq_true rfl)) dX1_tries_6 ⟨Nat.le_of_ble_eq_true rfl, Nat.le_of_ble_eq_true rfl⟩) (fun v hv => ?_)
  obtain ⟨z6, rfl, ⟨h6, rfl⟩ | ⟨h6, rfl⟩⟩ := hv
  · refine lv_istore_n (lv' := [(3, .int (ii (mnV σ 3 (κ 32 0) (κ 34 0) (κ 35 0)))), (0, .ref (ad 0)), (1, .ref (ad 35)), (2, .ref (ad 48))]) hx hb dX1_tries_9 rfl hl (by decide) rfl (fun ls hl => ?_)
    refine lv_iload_n hx hb dX1_tries_10 rfl (lv_at hl 0 rfl) ?_
    refine li_bipush hx hb dX1_tries_11 (by decide) ?_
    refine li_icmp_ne (tgt := 17) hx hb ⟨by omega, by omega⟩ ⟨by decide, by decide⟩ dX1_tries_13 (by decide) (fun c13 => ?_) (fun c13 => ?_)
    · refine lv_aload_n hx hb dX1_tries_17 rfl (lv_at hl 1 rfl) ?_
      refine va_get (D := G) (ci := 0) (v := .ref (ad 39)) (C := RX1) (T := TX1) (N := 21) hx hb hts in_X1 hown hK hP 0 (aD_0 _ _ _ _ _ _ _) rfl 5 (by decide) (hts _ q982) (fun _ h9 => h9) rfl dX1_tries_18 ?_
      refine lv_aload_n hx hb dX1_tries_21 rfl (lv_at hl 1 rfl) ?_
      refine va_get (D := G) (ci := 0) (v := .int (ii (ς 2 0))) (C := RX1) (T := TX1) (N := 21) hx hb hts in_X1 hown hK hP 0 (aD_0 _ _ _ _ _ _ _) rfl 7 (by decide) (hts _ q984) (fun _ h9 => h9) rfl dX1_tries_22 ?_
      refine lv_aload_n hx hb dX1_tries_25 rfl (lv_at hl 2 rfl) ?_
      refine kR (va_runU (x := yX5_told) (As := []) (rest := [.int (ii (ς 2 0)), .ref (ad 39)]) ⟨hx, hb, hml, hown, hts⟩ (m_told_8 l G ty (wD ad ty hv σ ς κ ++ cs) 35 (ad 35) (κ 32 0) (κ 33 0) (κ 34 0) (κ 35 0)  rfl (hm)) (va_cwU (own := "DownRope") (index := 219) (C := "DownRope$Joined") (owner := "DownRope$Move") (x := yX5_told) (y := yX5_told) 0 hts (lw_app (lw_in _ [557, 560, 563, 558, 80] (by decide +kernel) (by decide +kernel)) (lw_meth q567)) rfl rfl rfl rfl (by decide +kernel) ⟨Nat.le_of_ble_eq_true rfl, Nat.le_of_ble_eq_true rfl⟩) (pvR (r := (RX8, TX8, 4)) hK hP hD hX 35 (aD_35 _ _ _ _ _ _ _) rfl) rfl rfl hl.1 rfl (lv_room (Nat.le_of_ble_eq_true rfl)) dX1_tries_26 ⟨Nat.le_of_ble_eq_true rfl, Nat.le_of_ble_eq_true rfl⟩) (fun v hv => ?_)
      obtain ⟨z26, rfl, h26⟩ := hv
      refine li_iast (g := (ς 0)) (W2 := wD ad ty hv σ (up ς 0 (ug (ς 0) (ς 2 0) z26)) κ ++ cs) hx hb hK hP hD hS 39 0 (aD_39 _ _ _ _ _ _ _) rfl (by omega) (by omega) (by decide) rfl dX1_tries_29 (fun H locs hP hD hS => ?_)
      refine lv_aload_n hx hb dX1_tries_30 rfl (lv_at hl 1 rfl) ?_
      refine va_get (D := G) (ci := 0) (v := .ref (ad 40)) (C := RX1) (T := TX1) (N := 21) hx hb hts in_X1 hown hK hP 0 (aD_0 _ _ _ _ _ _ _) rfl 6 (by decide) (hts _ q983) (fun _ h9 => h9) rfl dX1_tries_31 ?_
      refine lv_aload_n hx hb dX1_tries_34 rfl (lv_at hl 1 rfl) ?_
      refine va_get (D := G) (ci := 0) (v := .int (ii (ς 2 0))) (C := RX1) (T := TX1) (N := 21) hx hb hts in_X1 hown hK hP 0 (aD_0 _ _ _ _ _ _ _) rfl 7 (by decide) (hts _ q984) (fun _ h9 => h9) rfl dX1_tries_35 ?_
      refine lv_iload_n hx hb dX1_tries_38 rfl (lv_at hl 0 rfl) ?_
      refine li_iast (g := (ς 1)) (W2 := wD ad ty hv σ (up (up ς 0 (ug (ς 0) (ς 2 0) z26)) 1 (ug (ς 1) (ς 2 0) (mnV σ 3 (κ 32 0) (κ 34 0) (κ 35 0)))) κ ++ cs) hx hb hK hP hD hS 40 0 (aD_40 _ _ _ _ _ _ _) rfl (by omega) (by omega) (by decide) rfl dX1_tries_39 (fun H locs hP hD hS => ?_)
      refine lv_aload_n hx hb dX1_tries_40 rfl (lv_at hl 1 rfl) ?_
      refine lv_dup hx hb dX1_tries_41 rfl ?_
      refine va_get (D := G) (ci := 0) (v := .int (ii (ς 2 0))) (C := RX1) (T := TX1) (N := 21) hx hb hts in_X1 hown hK hP 0 (aD_0 _ _ _ _ _ _ _) rfl 7 (by decide) (hts _ q984) (fun _ h9 => h9) rfl dX1_tries_42 ?_
      refine li_iconst hx hb dX1_tries_45 ?_
      refine li_add hx hb dX1_tries_46 ?_
      refine va_put (D := G) (ci := 0) (v := .int (ii (ς 2 0 + 1))) (ty := .int) (C := RX1) (T := TX1) (N := 21) hx hb hts in_X1 tyX1 tyX1_ok nmX1 hown hK hP hD hS 0 (aD_0 _ _ _ _ _ _ _) rfl 7 (by decide) (hts _ q984) (fun _ h9 => h9) rfl (tyX1_ok 7 (by decide)) rfl rfl (Nat.le_of_ble_eq_true rfl) dX1_tries_47 (fun H locs hP hD hS => ?_)
      have hP : va_P G gcl (wD ad ty hv σ (up (up (up ς 0 (ug (ς 0) (ς 2 0) z26)) 1 (ug (ς 1) (ς 2 0) (mnV σ 3 (κ 32 0) (κ 34 0) (κ 35 0)))) 2 (sc (ς 2 0 + 1))) κ ++ cs) H := hP
      have hD : va_D A (wD ad ty hv σ (up (up (up ς 0 (ug (ς 0) (ς 2 0) z26)) 1 (ug (ς 1) (ς 2 0) (mnV σ 3 (κ 32 0) (κ 34 0) (κ 35 0)))) 2 (sc (ς 2 0 + 1))) κ ++ cs) := hD
      exact eMv hQ hx hb hr hlk hP hD hS (Nat.le_of_ble_eq_true rfl) (Nat.le_of_ble_eq_true rfl) dX1_tries_50 (⟨_, _, _, rfl, rfl, .inl ⟨h6, by rw [h26], rfl, rfl⟩⟩)
    · exfalso
      omega
  · refine lv_istore_n (lv' := [(3, .int (ii (-3))), (0, .ref (ad 0)), (1, .ref (ad 35)), (2, .ref (ad 48))]) hx hb dX1_tries_9 rfl hl (by decide) rfl (fun ls hl => ?_)
    refine lv_iload_n hx hb dX1_tries_10 rfl (lv_at hl 0 rfl) ?_
    refine li_bipush hx hb dX1_tries_11 (by decide) ?_
    refine li_icmp_ne (tgt := 17) hx hb ⟨by decide, by decide⟩ ⟨by decide, by decide⟩ dX1_tries_13 (by decide) (fun c13 => ?_) (fun c13 => ?_)
    · exact absurd c13 (by decide)
    · exact eMv hQ hx hb hr hlk hP hD hS (Nat.le_of_ble_eq_true rfl) (Nat.le_of_ble_eq_true rfl) dX1_tries_16 (⟨ς 0, ς 1, ς 2 0, rfl, rfl, .inr ⟨h6, rfl, rfl, rfl⟩⟩)
set_option maxHeartbeats 4000000 in
theorem m_tries_4T (l : Launch) (G : va_G) (ad : Nat → Nat) (ty : Nat → ClassId) (hv : Nat → Option Nat) (σ ς κ : mem) (cs : va_W)  (hW : wfF σ) (hWT : wfS (ς 11) (ς 12)) (hlgT : (0 < σ 9 0 → 0 ≤ ς 11 0 ∧ ς 11 0 < σ 8 0) ∧ (1 < σ 9 0 → 0 ≤ ς 11 1 ∧ ς 11 1 < σ 8 0) ∧ (2 < σ 9 0 → 0 ≤ ς 11 2 ∧ ς 11 2 < σ 8 0)) (hm : 0 ≤ κ 36 0 ∧ κ 36 0 ≤ 7 ∧ 0 ≤ κ 37 0 ∧ κ 37 0 ≤ 1 ∧ 0 ≤ κ 38 0 ∧ κ 38 0 ≤ 4 ∧ 0 ≤ κ 39 0 ∧ κ 39 0 ≤ 4) (hn : 0 ≤ ς 2 0 ∧ ς 2 0 < 400) : cM l yX1_tries (ws_ yX1_tries cX1_tries 4 none) (rm4 3 0 0 70) G ty (wD ad ty hv σ ς κ ++ cs) [.ref (ad 0), .ref (ad 36), .ref (ad 48)] 0 0 (fun r W' => ∃ (g0 g1 : Int → Int) (n' : Int), r = none ∧ W' = wD ad ty hv σ (up (up (up ς 0 g0) 1 g1) 2 (sc n')) κ ++ cs ∧ ((mnOk σ (ς 11) (ς 12) 4 (κ 36 0) (κ 37 0) (κ 38 0) (κ 39 0) ∧ g0 = ug (ς 0) (ς 2 0) (40000 + 1000 * (κ 36 0) + 100 * (κ 37 0) + 10 * (κ 38 0) + (κ 39 0)) ∧ g1 = ug (ς 1) (ς 2 0) (mnV σ 4 (κ 36 0) (κ 38 0) (κ 39 0)) ∧ n' = ς 2 0 + 1) ∨ (¬ mnOk σ (ς 11) (ς 12) 4 (κ 36 0) (κ 37 0) (κ 38 0) (κ 39 0) ∧ g0 = ς 0 ∧ g1 = ς 1 ∧ n' = ς 2 0))) := by
  refine cM.of (by decide) (Nat.le_of_ble_eq_true rfl) ?_
  intro p e s m args below meth c A Q H locs hQ hx hb hr hml hown hlk hname hts hK hP hD hS hA hX ls hl
  have hl : lv_has ls 4 [(0, .ref (ad 0)), (1, .ref (ad 36)), (2, .ref (ad 48))] := hl
  obtain ⟨hn1, hn2⟩ := id hn
  have hV := mnV_b (k := 4) (st := κ 36 0) (fr := κ 38 0) (to := κ 39 0) hW (by omega) (by omega) (by omega) (by omega) (by omega) (by omega)
  refine lv_aload_n hx hb dX1_tries_0 rfl (lv_at hl 1 rfl) ?_
  refine lv_aload_n hx hb dX1_tries_1 rfl (lv_at hl 0 rfl) ?_
  refine va_get (D := G) (ci := 0) (v := .ref (ad 1)) (C := RX1) (T := TX1) (N := 21) hx hb hts in_X1 hown hK hP 0 (aD_0 _ _ _ _ _ _ _) rfl 0 (by decide) (hts _ q977) (fun _ h9 => h9) rfl dX1_tries_2 ?_
  refine lv_aload_n hx hb dX1_tries_5 rfl (lv_at hl 2 rfl) ?_
  refine kR (va_runU (x := yX5_minutes) (As := [.ref (ad 1), .ref (ad 48)]) (rest := []) ⟨hx, hb, hml, hown, hts⟩ (m_minutes_9 l G ty (wD ad ty hv σ ς κ ++ cs) (fun k => 1 + k) (fun k => ad (1 + k)) σ (fun k => 48 + k) (fun k => ad (48 + k)) (ς 11) (ς 12) 36 (ad 36) (κ 36 0) (κ 37 0) (κ 38 0) (κ 39 0)  ⟨rfl, rfl, rfl, rfl, rfl, rfl, rfl⟩ (hW) ⟨rfl, rfl, rfl⟩ (hWT) rfl (hm)) (va_cwO (own := "DownRope") (index := 206) (C := "DownRope$Let") (owner := "DownRope$Move") (x := yX5_minutes) (y := yX9_minutes) 2 hts (lw_app (lw_in _ [393, 396, 394, 461, 462, 84] (by decide +kernel) (by decide +kernel)) (lw_meth q463)) rfl rfl rfl q499 (by decide +kernel) ⟨Nat.le_of_ble_eq_true rfl, Nat.le_of_ble_eq_true rfl⟩) (pvR (r := (RX9, TX9, 4)) hK hP hD hX 36 (aD_36 _ _ _ _ _ _ _) rfl) rfl rfl hl.1 rfl (lv_room (Nat.le_of_ble_eq_true rfl)) dX1_tries_6 ⟨Nat.le_of_ble_eq_true rfl, Nat.le_of_ble_eq_true rfl⟩) (fun v hv => ?_)
  obtain ⟨z6, rfl, ⟨h6, rfl⟩ | ⟨h6, rfl⟩⟩ := hv
  · refine lv_istore_n (lv' := [(3, .int (ii (mnV σ 4 (κ 36 0) (κ 38 0) (κ 39 0)))), (0, .ref (ad 0)), (1, .ref (ad 36)), (2, .ref (ad 48))]) hx hb dX1_tries_9 rfl hl (by decide) rfl (fun ls hl => ?_)
    refine lv_iload_n hx hb dX1_tries_10 rfl (lv_at hl 0 rfl) ?_
    refine li_bipush hx hb dX1_tries_11 (by decide) ?_
    refine li_icmp_ne (tgt := 17) hx hb ⟨by omega, by omega⟩ ⟨by decide, by decide⟩ dX1_tries_13 (by decide) (fun c13 => ?_) (fun c13 => ?_)
    · refine lv_aload_n hx hb dX1_tries_17 rfl (lv_at hl 1 rfl) ?_
      refine va_get (D := G) (ci := 0) (v := .ref (ad 39)) (C := RX1) (T := TX1) (N := 21) hx hb hts in_X1 hown hK hP 0 (aD_0 _ _ _ _ _ _ _) rfl 5 (by decide) (hts _ q982) (fun _ h9 => h9) rfl dX1_tries_18 ?_
      refine lv_aload_n hx hb dX1_tries_21 rfl (lv_at hl 1 rfl) ?_
      refine va_get (D := G) (ci := 0) (v := .int (ii (ς 2 0))) (C := RX1) (T := TX1) (N := 21) hx hb hts in_X1 hown hK hP 0 (aD_0 _ _ _ _ _ _ _) rfl 7 (by decide) (hts _ q984) (fun _ h9 => h9) rfl dX1_tries_22 ?_
      refine lv_aload_n hx hb dX1_tries_25 rfl (lv_at hl 2 rfl) ?_
      refine kR (va_runU (x := yX5_told) (As := []) (rest := [.int (ii (ς 2 0)), .ref (ad 39)]) ⟨hx, hb, hml, hown, hts⟩ (m_told_9 l G ty (wD ad ty hv σ ς κ ++ cs) 36 (ad 36) (κ 36 0) (κ 37 0) (κ 38 0) (κ 39 0)  rfl (hm)) (va_cwU (own := "DownRope") (index := 219) (C := "DownRope$Let") (owner := "DownRope$Move") (x := yX5_told) (y := yX5_told) 0 hts (lw_app (lw_in _ [557, 560, 564, 558, 80] (by decide +kernel) (by decide +kernel)) (lw_meth q567)) rfl rfl rfl rfl (by decide +kernel) ⟨Nat.le_of_ble_eq_true rfl, Nat.le_of_ble_eq_true rfl⟩) (pvR (r := (RX9, TX9, 4)) hK hP hD hX 36 (aD_36 _ _ _ _ _ _ _) rfl) rfl rfl hl.1 rfl (lv_room (Nat.le_of_ble_eq_true rfl)) dX1_tries_26 ⟨Nat.le_of_ble_eq_true rfl, Nat.le_of_ble_eq_true rfl⟩) (fun v hv => ?_)
      obtain ⟨z26, rfl, h26⟩ := hv
      refine li_iast (g := (ς 0)) (W2 := wD ad ty hv σ (up ς 0 (ug (ς 0) (ς 2 0) z26)) κ ++ cs) hx hb hK hP hD hS 39 0 (aD_39 _ _ _ _ _ _ _) rfl (by omega) (by omega) (by decide) rfl dX1_tries_29 (fun H locs hP hD hS => ?_)
      refine lv_aload_n hx hb dX1_tries_30 rfl (lv_at hl 1 rfl) ?_
      refine va_get (D := G) (ci := 0) (v := .ref (ad 40)) (C := RX1) (T := TX1) (N := 21) hx hb hts in_X1 hown hK hP 0 (aD_0 _ _ _ _ _ _ _) rfl 6 (by decide) (hts _ q983) (fun _ h9 => h9) rfl dX1_tries_31 ?_
      refine lv_aload_n hx hb dX1_tries_34 rfl (lv_at hl 1 rfl) ?_
      refine va_get (D := G) (ci := 0) (v := .int (ii (ς 2 0))) (C := RX1) (T := TX1) (N := 21) hx hb hts in_X1 hown hK hP 0 (aD_0 _ _ _ _ _ _ _) rfl 7 (by decide) (hts _ q984) (fun _ h9 => h9) rfl dX1_tries_35 ?_
      refine lv_iload_n hx hb dX1_tries_38 rfl (lv_at hl 0 rfl) ?_
      refine li_iast (g := (ς 1)) (W2 := wD ad ty hv σ (up (up ς 0 (ug (ς 0) (ς 2 0) z26)) 1 (ug (ς 1) (ς 2 0) (mnV σ 4 (κ 36 0) (κ 38 0) (κ 39 0)))) κ ++ cs) hx hb hK hP hD hS 40 0 (aD_40 _ _ _ _ _ _ _) rfl (by omega) (by omega) (by decide) rfl dX1_tries_39 (fun H locs hP hD hS => ?_)
      refine lv_aload_n hx hb dX1_tries_40 rfl (lv_at hl 1 rfl) ?_
      refine lv_dup hx hb dX1_tries_41 rfl ?_
      refine va_get (D := G) (ci := 0) (v := .int (ii (ς 2 0))) (C := RX1) (T := TX1) (N := 21) hx hb hts in_X1 hown hK hP 0 (aD_0 _ _ _ _ _ _ _) rfl 7 (by decide) (hts _ q984) (fun _ h9 => h9) rfl dX1_tries_42 ?_
      refine li_iconst hx hb dX1_tries_45 ?_
      refine li_add hx hb dX1_tries_46 ?_
      refine va_put (D := G) (ci := 0) (v := .int (ii (ς 2 0 + 1))) (ty := .int) (C := RX1) (T := TX1) (N := 21) hx hb hts in_X1 tyX1 tyX1_ok nmX1 hown hK hP hD hS 0 (aD_0 _ _ _ _ _ _ _) rfl 7 (by decide) (hts _ q984) (fun _ h9 => h9) rfl (tyX1_ok 7 (by decide)) rfl rfl (Nat.le_of_ble_eq_true rfl) dX1_tries_47 (fun H locs hP hD hS => ?_)
      have hP : va_P G gcl (wD ad ty hv σ (up (up (up ς 0 (ug (ς 0) (ς 2 0) z26)) 1 (ug (ς 1) (ς 2 0) (mnV σ 4 (κ 36 0) (κ 38 0) (κ 39 0)))) 2 (sc (ς 2 0 + 1))) κ ++ cs) H := hP
      have hD : va_D A (wD ad ty hv σ (up (up (up ς 0 (ug (ς 0) (ς 2 0) z26)) 1 (ug (ς 1) (ς 2 0) (mnV σ 4 (κ 36 0) (κ 38 0) (κ 39 0)))) 2 (sc (ς 2 0 + 1))) κ ++ cs) := hD
      exact eMv hQ hx hb hr hlk hP hD hS (Nat.le_of_ble_eq_true rfl) (Nat.le_of_ble_eq_true rfl) dX1_tries_50 (⟨_, _, _, rfl, rfl, .inl ⟨h6, by rw [h26], rfl, rfl⟩⟩)
    · exfalso
      omega
  · refine lv_istore_n (lv' := [(3, .int (ii (-3))), (0, .ref (ad 0)), (1, .ref (ad 36)), (2, .ref (ad 48))]) hx hb dX1_tries_9 rfl hl (by decide) rfl (fun ls hl => ?_)
    refine lv_iload_n hx hb dX1_tries_10 rfl (lv_at hl 0 rfl) ?_
    refine li_bipush hx hb dX1_tries_11 (by decide) ?_
    refine li_icmp_ne (tgt := 17) hx hb ⟨by decide, by decide⟩ ⟨by decide, by decide⟩ dX1_tries_13 (by decide) (fun c13 => ?_) (fun c13 => ?_)
    · exact absurd c13 (by decide)
    · exact eMv hQ hx hb hr hlk hP hD hS (Nat.le_of_ble_eq_true rfl) (Nat.le_of_ble_eq_true rfl) dX1_tries_16 (⟨ς 0, ς 1, ς 2 0, rfl, rfl, .inr ⟨h6, rfl, rfl, rfl⟩⟩)
set_option maxHeartbeats 4000000 in
theorem m_tries_5T (l : Launch) (G : va_G) (ad : Nat → Nat) (ty : Nat → ClassId) (hv : Nat → Option Nat) (σ ς κ : mem) (cs : va_W)  (hW : wfF σ) (hWT : wfS (ς 11) (ς 12)) (hlgT : (0 < σ 9 0 → 0 ≤ ς 11 0 ∧ ς 11 0 < σ 8 0) ∧ (1 < σ 9 0 → 0 ≤ ς 11 1 ∧ ς 11 1 < σ 8 0) ∧ (2 < σ 9 0 → 0 ≤ ς 11 2 ∧ ς 11 2 < σ 8 0)) (hm : 0 ≤ κ 40 0 ∧ κ 40 0 ≤ 7 ∧ 0 ≤ κ 41 0 ∧ κ 41 0 ≤ 1 ∧ 0 ≤ κ 42 0 ∧ κ 42 0 ≤ 4 ∧ 0 ≤ κ 43 0 ∧ κ 43 0 ≤ 4) (hn : 0 ≤ ς 2 0 ∧ ς 2 0 < 400) : cM l yX1_tries (ws_ yX1_tries cX1_tries 4 none) (rm4 3 0 0 70) G ty (wD ad ty hv σ ς κ ++ cs) [.ref (ad 0), .ref (ad 37), .ref (ad 48)] 0 0 (fun r W' => ∃ (g0 g1 : Int → Int) (n' : Int), r = none ∧ W' = wD ad ty hv σ (up (up (up ς 0 g0) 1 g1) 2 (sc n')) κ ++ cs ∧ ((mnOk σ (ς 11) (ς 12) 5 (κ 40 0) (κ 41 0) (κ 42 0) (κ 43 0) ∧ g0 = ug (ς 0) (ς 2 0) (50000 + 1000 * (κ 40 0) + 100 * (κ 41 0) + 10 * (κ 42 0) + (κ 43 0)) ∧ g1 = ug (ς 1) (ς 2 0) (mnV σ 5 (κ 40 0) (κ 42 0) (κ 43 0)) ∧ n' = ς 2 0 + 1) ∨ (¬ mnOk σ (ς 11) (ς 12) 5 (κ 40 0) (κ 41 0) (κ 42 0) (κ 43 0) ∧ g0 = ς 0 ∧ g1 = ς 1 ∧ n' = ς 2 0))) := by
  refine cM.of (by decide) (Nat.le_of_ble_eq_true rfl) ?_
  intro p e s m args below meth c A Q H locs hQ hx hb hr hml hown hlk hname hts hK hP hD hS hA hX ls hl
  have hl : lv_has ls 4 [(0, .ref (ad 0)), (1, .ref (ad 37)), (2, .ref (ad 48))] := hl
  obtain ⟨hn1, hn2⟩ := id hn
  have hV := mnV_b (k := 5) (st := κ 40 0) (fr := κ 42 0) (to := κ 43 0) hW (by omega) (by omega) (by omega) (by omega) (by omega) (by omega)
  refine lv_aload_n hx hb dX1_tries_0 rfl (lv_at hl 1 rfl) ?_
  refine lv_aload_n hx hb dX1_tries_1 rfl (lv_at hl 0 rfl) ?_
  refine va_get (D := G) (ci := 0) (v := .ref (ad 1)) (C := RX1) (T := TX1) (N := 21) hx hb hts in_X1 hown hK hP 0 (aD_0 _ _ _ _ _ _ _) rfl 0 (by decide) (hts _ q977) (fun _ h9 => h9) rfl dX1_tries_2 ?_
  refine lv_aload_n hx hb dX1_tries_5 rfl (lv_at hl 2 rfl) ?_
  refine kR (va_runU (x := yX5_minutes) (As := [.ref (ad 1), .ref (ad 48)]) (rest := []) ⟨hx, hb, hml, hown, hts⟩ (m_minutes_10 l G ty (wD ad ty hv σ ς κ ++ cs) (fun k => 1 + k) (fun k => ad (1 + k)) σ (fun k => 48 + k) (fun k => ad (48 + k)) (ς 11) (ς 12) 37 (ad 37) (κ 40 0) (κ 41 0) (κ 42 0) (κ 43 0)  ⟨rfl, rfl, rfl, rfl, rfl, rfl, rfl⟩ (hW) ⟨rfl, rfl, rfl⟩ (hWT) rfl (hm) hlgT) (va_cwO (own := "DownRope") (index := 206) (C := "DownRope$Climb") (owner := "DownRope$Move") (x := yX5_minutes) (y := yX10_minutes) 2 hts (lw_app (lw_in _ [393, 396, 394, 397, 398, 85] (by decide +kernel) (by decide +kernel)) (lw_meth q399)) rfl rfl rfl q499 (by decide +kernel) ⟨Nat.le_of_ble_eq_true rfl, Nat.le_of_ble_eq_true rfl⟩) (pvR (r := (RX10, TX10, 4)) hK hP hD hX 37 (aD_37 _ _ _ _ _ _ _) rfl) rfl rfl hl.1 rfl (lv_room (Nat.le_of_ble_eq_true rfl)) dX1_tries_6 ⟨Nat.le_of_ble_eq_true rfl, Nat.le_of_ble_eq_true rfl⟩) (fun v hv => ?_)
  obtain ⟨z6, rfl, ⟨h6, rfl⟩ | ⟨h6, rfl⟩⟩ := hv
  · refine lv_istore_n (lv' := [(3, .int (ii (mnV σ 5 (κ 40 0) (κ 42 0) (κ 43 0)))), (0, .ref (ad 0)), (1, .ref (ad 37)), (2, .ref (ad 48))]) hx hb dX1_tries_9 rfl hl (by decide) rfl (fun ls hl => ?_)
    refine lv_iload_n hx hb dX1_tries_10 rfl (lv_at hl 0 rfl) ?_
    refine li_bipush hx hb dX1_tries_11 (by decide) ?_
    refine li_icmp_ne (tgt := 17) hx hb ⟨by omega, by omega⟩ ⟨by decide, by decide⟩ dX1_tries_13 (by decide) (fun c13 => ?_) (fun c13 => ?_)
    · refine lv_aload_n hx hb dX1_tries_17 rfl (lv_at hl 1 rfl) ?_
      refine va_get (D := G) (ci := 0) (v := .ref (ad 39)) (C := RX1) (T := TX1) (N := 21) hx hb hts in_X1 hown hK hP 0 (aD_0 _ _ _ _ _ _ _) rfl 5 (by decide) (hts _ q982) (fun _ h9 => h9) rfl dX1_tries_18 ?_
      refine lv_aload_n hx hb dX1_tries_21 rfl (lv_at hl 1 rfl) ?_
      refine va_get (D := G) (ci := 0) (v := .int (ii (ς 2 0))) (C := RX1) (T := TX1) (N := 21) hx hb hts in_X1 hown hK hP 0 (aD_0 _ _ _ _ _ _ _) rfl 7 (by decide) (hts _ q984) (fun _ h9 => h9) rfl dX1_tries_22 ?_
      refine lv_aload_n hx hb dX1_tries_25 rfl (lv_at hl 2 rfl) ?_
      refine kR (va_runU (x := yX5_told) (As := []) (rest := [.int (ii (ς 2 0)), .ref (ad 39)]) ⟨hx, hb, hml, hown, hts⟩ (m_told_10 l G ty (wD ad ty hv σ ς κ ++ cs) 37 (ad 37) (κ 40 0) (κ 41 0) (κ 42 0) (κ 43 0)  rfl (hm)) (va_cwU (own := "DownRope") (index := 219) (C := "DownRope$Climb") (owner := "DownRope$Move") (x := yX5_told) (y := yX5_told) 0 hts (lw_app (lw_in _ [557, 560, 561, 558, 80] (by decide +kernel) (by decide +kernel)) (lw_meth q567)) rfl rfl rfl rfl (by decide +kernel) ⟨Nat.le_of_ble_eq_true rfl, Nat.le_of_ble_eq_true rfl⟩) (pvR (r := (RX10, TX10, 4)) hK hP hD hX 37 (aD_37 _ _ _ _ _ _ _) rfl) rfl rfl hl.1 rfl (lv_room (Nat.le_of_ble_eq_true rfl)) dX1_tries_26 ⟨Nat.le_of_ble_eq_true rfl, Nat.le_of_ble_eq_true rfl⟩) (fun v hv => ?_)
      obtain ⟨z26, rfl, h26⟩ := hv
      refine li_iast (g := (ς 0)) (W2 := wD ad ty hv σ (up ς 0 (ug (ς 0) (ς 2 0) z26)) κ ++ cs) hx hb hK hP hD hS 39 0 (aD_39 _ _ _ _ _ _ _) rfl (by omega) (by omega) (by decide) rfl dX1_tries_29 (fun H locs hP hD hS => ?_)
      refine lv_aload_n hx hb dX1_tries_30 rfl (lv_at hl 1 rfl) ?_
      refine va_get (D := G) (ci := 0) (v := .ref (ad 40)) (C := RX1) (T := TX1) (N := 21) hx hb hts in_X1 hown hK hP 0 (aD_0 _ _ _ _ _ _ _) rfl 6 (by decide) (hts _ q983) (fun _ h9 => h9) rfl dX1_tries_31 ?_
      refine lv_aload_n hx hb dX1_tries_34 rfl (lv_at hl 1 rfl) ?_
      refine va_get (D := G) (ci := 0) (v := .int (ii (ς 2 0))) (C := RX1) (T := TX1) (N := 21) hx hb hts in_X1 hown hK hP 0 (aD_0 _ _ _ _ _ _ _) rfl 7 (by decide) (hts _ q984) (fun _ h9 => h9) rfl dX1_tries_35 ?_
      refine lv_iload_n hx hb dX1_tries_38 rfl (lv_at hl 0 rfl) ?_
      refine li_iast (g := (ς 1)) (W2 := wD ad ty hv σ (up (up ς 0 (ug (ς 0) (ς 2 0) z26)) 1 (ug (ς 1) (ς 2 0) (mnV σ 5 (κ 40 0) (κ 42 0) (κ 43 0)))) κ ++ cs) hx hb hK hP hD hS 40 0 (aD_40 _ _ _ _ _ _ _) rfl (by omega) (by omega) (by decide) rfl dX1_tries_39 (fun H locs hP hD hS => ?_)
      refine lv_aload_n hx hb dX1_tries_40 rfl (lv_at hl 1 rfl) ?_
      refine lv_dup hx hb dX1_tries_41 rfl ?_
      refine va_get (D := G) (ci := 0) (v := .int (ii (ς 2 0))) (C := RX1) (T := TX1) (N := 21) hx hb hts in_X1 hown hK hP 0 (aD_0 _ _ _ _ _ _ _) rfl 7 (by decide) (hts _ q984) (fun _ h9 => h9) rfl dX1_tries_42 ?_
      refine li_iconst hx hb dX1_tries_45 ?_
      refine li_add hx hb dX1_tries_46 ?_
      refine va_put (D := G) (ci := 0) (v := .int (ii (ς 2 0 + 1))) (ty := .int) (C := RX1) (T := TX1) (N := 21) hx hb hts in_X1 tyX1 tyX1_ok nmX1 hown hK hP hD hS 0 (aD_0 _ _ _ _ _ _ _) rfl 7 (by decide) (hts _ q984) (fun _ h9 => h9) rfl (tyX1_ok 7 (by decide)) rfl rfl (Nat.le_of_ble_eq_true rfl) dX1_tries_47 (fun H locs hP hD hS => ?_)
      have hP : va_P G gcl (wD ad ty hv σ (up (up (up ς 0 (ug (ς 0) (ς 2 0) z26)) 1 (ug (ς 1) (ς 2 0) (mnV σ 5 (κ 40 0) (κ 42 0) (κ 43 0)))) 2 (sc (ς 2 0 + 1))) κ ++ cs) H := hP
      have hD : va_D A (wD ad ty hv σ (up (up (up ς 0 (ug (ς 0) (ς 2 0) z26)) 1 (ug (ς 1) (ς 2 0) (mnV σ 5 (κ 40 0) (κ 42 0) (κ 43 0)))) 2 (sc (ς 2 0 + 1))) κ ++ cs) := hD
      exact eMv hQ hx hb hr hlk hP hD hS (Nat.le_of_ble_eq_true rfl) (Nat.le_of_ble_eq_true rfl) dX1_tries_50 (⟨_, _, _, rfl, rfl, .inl ⟨h6, by rw [h26], rfl, rfl⟩⟩)
    · exfalso
      omega
  · refine lv_istore_n (lv' := [(3, .int (ii (-3))), (0, .ref (ad 0)), (1, .ref (ad 37)), (2, .ref (ad 48))]) hx hb dX1_tries_9 rfl hl (by decide) rfl (fun ls hl => ?_)
    refine lv_iload_n hx hb dX1_tries_10 rfl (lv_at hl 0 rfl) ?_
    refine li_bipush hx hb dX1_tries_11 (by decide) ?_
    refine li_icmp_ne (tgt := 17) hx hb ⟨by decide, by decide⟩ ⟨by decide, by decide⟩ dX1_tries_13 (by decide) (fun c13 => ?_) (fun c13 => ?_)
    · exact absurd c13 (by decide)
    · exact eMv hQ hx hb hr hlk hP hD hS (Nat.le_of_ble_eq_true rfl) (Nat.le_of_ble_eq_true rfl) dX1_tries_16 (⟨ς 0, ς 1, ς 2 0, rfl, rfl, .inr ⟨h6, rfl, rfl, rfl⟩⟩)
set_option maxHeartbeats 4000000 in
theorem m_tries_6T (l : Launch) (G : va_G) (ad : Nat → Nat) (ty : Nat → ClassId) (hv : Nat → Option Nat) (σ ς κ : mem) (cs : va_W)  (hW : wfF σ) (hWT : wfS (ς 11) (ς 12)) (hlgT : (0 < σ 9 0 → 0 ≤ ς 11 0 ∧ ς 11 0 < σ 8 0) ∧ (1 < σ 9 0 → 0 ≤ ς 11 1 ∧ ς 11 1 < σ 8 0) ∧ (2 < σ 9 0 → 0 ≤ ς 11 2 ∧ ς 11 2 < σ 8 0)) (hm : 0 ≤ κ 44 0 ∧ κ 44 0 ≤ 7 ∧ 0 ≤ κ 45 0 ∧ κ 45 0 ≤ 1 ∧ 0 ≤ κ 46 0 ∧ κ 46 0 ≤ 4 ∧ 0 ≤ κ 47 0 ∧ κ 47 0 ≤ 4) (hn : 0 ≤ ς 2 0 ∧ ς 2 0 < 400) : cM l yX1_tries (ws_ yX1_tries cX1_tries 4 none) (rm4 3 0 0 67) G ty (wD ad ty hv σ ς κ ++ cs) [.ref (ad 0), .ref (ad 38), .ref (ad 48)] 0 0 (fun r W' => ∃ (g0 g1 : Int → Int) (n' : Int), r = none ∧ W' = wD ad ty hv σ (up (up (up ς 0 g0) 1 g1) 2 (sc n')) κ ++ cs ∧ ((mnOk σ (ς 11) (ς 12) 6 (κ 44 0) (κ 45 0) (κ 46 0) (κ 47 0) ∧ g0 = ug (ς 0) (ς 2 0) (60000 + 1000 * (κ 44 0) + 100 * (κ 45 0) + 10 * (κ 46 0) + (κ 47 0)) ∧ g1 = ug (ς 1) (ς 2 0) (mnV σ 6 (κ 44 0) (κ 46 0) (κ 47 0)) ∧ n' = ς 2 0 + 1) ∨ (¬ mnOk σ (ς 11) (ς 12) 6 (κ 44 0) (κ 45 0) (κ 46 0) (κ 47 0) ∧ g0 = ς 0 ∧ g1 = ς 1 ∧ n' = ς 2 0))) := by
  refine cM.of (by decide) (Nat.le_of_ble_eq_true rfl) ?_
  intro p e s m args below meth c A Q H locs hQ hx hb hr hml hown hlk hname hts hK hP hD hS hA hX ls hl
  have hl : lv_has ls 4 [(0, .ref (ad 0)), (1, .ref (ad 38)), (2, .ref (ad 48))] := hl
  obtain ⟨hn1, hn2⟩ := id hn
  have hV := mnV_b (k := 6) (st := κ 44 0) (fr := κ 46 0) (to := κ 47 0) hW (by omega) (by omega) (by omega) (by omega) (by omega) (by omega)
  refine lv_aload_n hx hb dX1_tries_0 rfl (lv_at hl 1 rfl) ?_
  refine lv_aload_n hx hb dX1_tries_1 rfl (lv_at hl 0 rfl) ?_
  refine va_get (D := G) (ci := 0) (v := .ref (ad 1)) (C := RX1) (T := TX1) (N := 21) hx hb hts in_X1 hown hK hP 0 (aD_0 _ _ _ _ _ _ _) rfl 0 (by decide) (hts _ q977) (fun _ h9 => h9) rfl dX1_tries_2 ?_
  refine lv_aload_n hx hb dX1_tries_5 rfl (lv_at hl 2 rfl) ?_
  refine kR (va_runU (x := yX5_minutes) (As := [.ref (ad 1), .ref (ad 48)]) (rest := []) ⟨hx, hb, hml, hown, hts⟩ (m_minutes_11 l G ty (wD ad ty hv σ ς κ ++ cs) (fun k => 1 + k) (fun k => ad (1 + k)) σ (fun k => 48 + k) (fun k => ad (48 + k)) (ς 11) (ς 12) 38 (ad 38) (κ 44 0) (κ 45 0) (κ 46 0) (κ 47 0)  ⟨rfl, rfl, rfl, rfl, rfl, rfl, rfl⟩ (hW) ⟨rfl, rfl, rfl⟩ (hWT) rfl (hm)) (va_cwO (own := "DownRope") (index := 206) (C := "DownRope$Throw") (owner := "DownRope$Move") (x := yX5_minutes) (y := yX11_minutes) 2 hts (lw_app (lw_in _ [393, 396, 394, 489, 490, 86] (by decide +kernel) (by decide +kernel)) (lw_meth q491)) rfl rfl rfl q499 (by decide +kernel) ⟨Nat.le_of_ble_eq_true rfl, Nat.le_of_ble_eq_true rfl⟩) (pvR (r := (RX11, TX11, 4)) hK hP hD hX 38 (aD_38 _ _ _ _ _ _ _) rfl) rfl rfl hl.1 rfl (lv_room (Nat.le_of_ble_eq_true rfl)) dX1_tries_6 ⟨Nat.le_of_ble_eq_true rfl, Nat.le_of_ble_eq_true rfl⟩) (fun v hv => ?_)
  obtain ⟨z6, rfl, ⟨h6, rfl⟩ | ⟨h6, rfl⟩⟩ := hv
  · refine lv_istore_n (lv' := [(3, .int (ii (mnV σ 6 (κ 44 0) (κ 46 0) (κ 47 0)))), (0, .ref (ad 0)), (1, .ref (ad 38)), (2, .ref (ad 48))]) hx hb dX1_tries_9 rfl hl (by decide) rfl (fun ls hl => ?_)
    refine lv_iload_n hx hb dX1_tries_10 rfl (lv_at hl 0 rfl) ?_
    refine li_bipush hx hb dX1_tries_11 (by decide) ?_
    refine li_icmp_ne (tgt := 17) hx hb ⟨by omega, by omega⟩ ⟨by decide, by decide⟩ dX1_tries_13 (by decide) (fun c13 => ?_) (fun c13 => ?_)
    · refine lv_aload_n hx hb dX1_tries_17 rfl (lv_at hl 1 rfl) ?_
      refine va_get (D := G) (ci := 0) (v := .ref (ad 39)) (C := RX1) (T := TX1) (N := 21) hx hb hts in_X1 hown hK hP 0 (aD_0 _ _ _ _ _ _ _) rfl 5 (by decide) (hts _ q982) (fun _ h9 => h9) rfl dX1_tries_18 ?_
      refine lv_aload_n hx hb dX1_tries_21 rfl (lv_at hl 1 rfl) ?_
      refine va_get (D := G) (ci := 0) (v := .int (ii (ς 2 0))) (C := RX1) (T := TX1) (N := 21) hx hb hts in_X1 hown hK hP 0 (aD_0 _ _ _ _ _ _ _) rfl 7 (by decide) (hts _ q984) (fun _ h9 => h9) rfl dX1_tries_22 ?_
      refine lv_aload_n hx hb dX1_tries_25 rfl (lv_at hl 2 rfl) ?_
      refine kR (va_runU (x := yX5_told) (As := []) (rest := [.int (ii (ς 2 0)), .ref (ad 39)]) ⟨hx, hb, hml, hown, hts⟩ (m_told_11 l G ty (wD ad ty hv σ ς κ ++ cs) 38 (ad 38) (κ 44 0) (κ 45 0) (κ 46 0) (κ 47 0)  rfl (hm)) (va_cwU (own := "DownRope") (index := 219) (C := "DownRope$Throw") (owner := "DownRope$Move") (x := yX5_told) (y := yX5_told) 0 hts (lw_app (lw_in _ [557, 560, 566, 558, 80] (by decide +kernel) (by decide +kernel)) (lw_meth q567)) rfl rfl rfl rfl (by decide +kernel) ⟨Nat.le_of_ble_eq_true rfl, Nat.le_of_ble_eq_true rfl⟩) (pvR (r := (RX11, TX11, 4)) hK hP hD hX 38 (aD_38 _ _ _ _ _ _ _) rfl) rfl rfl hl.1 rfl (lv_room (Nat.le_of_ble_eq_true rfl)) dX1_tries_26 ⟨Nat.le_of_ble_eq_true rfl, Nat.le_of_ble_eq_true rfl⟩) (fun v hv => ?_)
      obtain ⟨z26, rfl, h26⟩ := hv
      refine li_iast (g := (ς 0)) (W2 := wD ad ty hv σ (up ς 0 (ug (ς 0) (ς 2 0) z26)) κ ++ cs) hx hb hK hP hD hS 39 0 (aD_39 _ _ _ _ _ _ _) rfl (by omega) (by omega) (by decide) rfl dX1_tries_29 (fun H locs hP hD hS => ?_)
      refine lv_aload_n hx hb dX1_tries_30 rfl (lv_at hl 1 rfl) ?_
      refine va_get (D := G) (ci := 0) (v := .ref (ad 40)) (C := RX1) (T := TX1) (N := 21) hx hb hts in_X1 hown hK hP 0 (aD_0 _ _ _ _ _ _ _) rfl 6 (by decide) (hts _ q983) (fun _ h9 => h9) rfl dX1_tries_31 ?_
      refine lv_aload_n hx hb dX1_tries_34 rfl (lv_at hl 1 rfl) ?_
      refine va_get (D := G) (ci := 0) (v := .int (ii (ς 2 0))) (C := RX1) (T := TX1) (N := 21) hx hb hts in_X1 hown hK hP 0 (aD_0 _ _ _ _ _ _ _) rfl 7 (by decide) (hts _ q984) (fun _ h9 => h9) rfl dX1_tries_35 ?_
      refine lv_iload_n hx hb dX1_tries_38 rfl (lv_at hl 0 rfl) ?_
      refine li_iast (g := (ς 1)) (W2 := wD ad ty hv σ (up (up ς 0 (ug (ς 0) (ς 2 0) z26)) 1 (ug (ς 1) (ς 2 0) (mnV σ 6 (κ 44 0) (κ 46 0) (κ 47 0)))) κ ++ cs) hx hb hK hP hD hS 40 0 (aD_40 _ _ _ _ _ _ _) rfl (by omega) (by omega) (by decide) rfl dX1_tries_39 (fun H locs hP hD hS => ?_)
      refine lv_aload_n hx hb dX1_tries_40 rfl (lv_at hl 1 rfl) ?_
      refine lv_dup hx hb dX1_tries_41 rfl ?_
      refine va_get (D := G) (ci := 0) (v := .int (ii (ς 2 0))) (C := RX1) (T := TX1) (N := 21) hx hb hts in_X1 hown hK hP 0 (aD_0 _ _ _ _ _ _ _) rfl 7 (by decide) (hts _ q984) (fun _ h9 => h9) rfl dX1_tries_42 ?_
      refine li_iconst hx hb dX1_tries_45 ?_
      refine li_add hx hb dX1_tries_46 ?_
      refine va_put (D := G) (ci := 0) (v := .int (ii (ς 2 0 + 1))) (ty := .int) (C := RX1) (T := TX1) (N := 21) hx hb hts in_X1 tyX1 tyX1_ok nmX1 hown hK hP hD hS 0 (aD_0 _ _ _ _ _ _ _) rfl 7 (by decide) (hts _ q984) (fun _ h9 => h9) rfl (tyX1_ok 7 (by decide)) rfl rfl (Nat.le_of_ble_eq_true rfl) dX1_tries_47 (fun H locs hP hD hS => ?_)
      have hP : va_P G gcl (wD ad ty hv σ (up (up (up ς 0 (ug (ς 0) (ς 2 0) z26)) 1 (ug (ς 1) (ς 2 0) (mnV σ 6 (κ 44 0) (κ 46 0) (κ 47 0)))) 2 (sc (ς 2 0 + 1))) κ ++ cs) H := hP
      have hD : va_D A (wD ad ty hv σ (up (up (up ς 0 (ug (ς 0) (ς 2 0) z26)) 1 (ug (ς 1) (ς 2 0) (mnV σ 6 (κ 44 0) (κ 46 0) (κ 47 0)))) 2 (sc (ς 2 0 + 1))) κ ++ cs) := hD
      exact eMv hQ hx hb hr hlk hP hD hS (Nat.le_of_ble_eq_true rfl) (Nat.le_of_ble_eq_true rfl) dX1_tries_50 (⟨_, _, _, rfl, rfl, .inl ⟨h6, by rw [h26], rfl, rfl⟩⟩)
    · exfalso
      omega
  · refine lv_istore_n (lv' := [(3, .int (ii (-3))), (0, .ref (ad 0)), (1, .ref (ad 38)), (2, .ref (ad 48))]) hx hb dX1_tries_9 rfl hl (by decide) rfl (fun ls hl => ?_)
    refine lv_iload_n hx hb dX1_tries_10 rfl (lv_at hl 0 rfl) ?_
    refine li_bipush hx hb dX1_tries_11 (by decide) ?_
    refine li_icmp_ne (tgt := 17) hx hb ⟨by decide, by decide⟩ ⟨by decide, by decide⟩ dX1_tries_13 (by decide) (fun c13 => ?_) (fun c13 => ?_)
    · exact absurd c13 (by decide)
    · exact eMv hQ hx hb hr hlk hP hD hS (Nat.le_of_ble_eq_true rfl) (Nat.le_of_ble_eq_true rfl) dX1_tries_16 (⟨ς 0, ς 1, ς 2 0, rfl, rfl, .inr ⟨h6, rfl, rfl, rfl⟩⟩)
set_option maxHeartbeats 4000000 in
theorem m_tries_1N (l : Launch) (G : va_G) (ad : Nat → Nat) (ty : Nat → ClassId) (hv : Nat → Option Nat) (σ ς κ : mem) (cs : va_W)  (hW : wfF σ) (hWT : wfS (σ 6) (σ 7)) (hlgT : (0 < σ 9 0 → 0 ≤ σ 6 0 ∧ σ 6 0 < σ 8 0) ∧ (1 < σ 9 0 → 0 ≤ σ 6 1 ∧ σ 6 1 < σ 8 0) ∧ (2 < σ 9 0 → 0 ≤ σ 6 2 ∧ σ 6 2 < σ 8 0)) (hm : 0 ≤ κ 24 0 ∧ κ 24 0 ≤ 7 ∧ 0 ≤ κ 25 0 ∧ κ 25 0 ≤ 1 ∧ 0 ≤ κ 26 0 ∧ κ 26 0 ≤ 4 ∧ 0 ≤ κ 27 0 ∧ κ 27 0 ≤ 4) (hn : 0 ≤ ς 2 0 ∧ ς 2 0 < 400) : cM l yX1_tries (ws_ yX1_tries cX1_tries 4 none) (rm4 3 0 0 70) G ty (wD ad ty hv σ ς κ ++ cs) [.ref (ad 0), .ref (ad 33), .ref (ad 8)] 0 0 (fun r W' => ∃ (g0 g1 : Int → Int) (n' : Int), r = none ∧ W' = wD ad ty hv σ (up (up (up ς 0 g0) 1 g1) 2 (sc n')) κ ++ cs ∧ ((mnOk σ (σ 6) (σ 7) 1 (κ 24 0) (κ 25 0) (κ 26 0) (κ 27 0) ∧ g0 = ug (ς 0) (ς 2 0) (10000 + 1000 * (κ 24 0) + 100 * (κ 25 0) + 10 * (κ 26 0) + (κ 27 0)) ∧ g1 = ug (ς 1) (ς 2 0) (mnV σ 1 (κ 24 0) (κ 26 0) (κ 27 0)) ∧ n' = ς 2 0 + 1) ∨ (¬ mnOk σ (σ 6) (σ 7) 1 (κ 24 0) (κ 25 0) (κ 26 0) (κ 27 0) ∧ g0 = ς 0 ∧ g1 = ς 1 ∧ n' = ς 2 0))) := by
  refine cM.of (by decide) (Nat.le_of_ble_eq_true rfl) ?_
  intro p e s m args below meth c A Q H locs hQ hx hb hr hml hown hlk hname hts hK hP hD hS hA hX ls hl
  have hl : lv_has ls 4 [(0, .ref (ad 0)), (1, .ref (ad 33)), (2, .ref (ad 8))] := hl
  obtain ⟨hn1, hn2⟩ := id hn
  have hV := mnV_b (k := 1) (st := κ 24 0) (fr := κ 26 0) (to := κ 27 0) hW (by omega) (by omega) (by omega) (by omega) (by omega) (by omega)
  refine lv_aload_n hx hb dX1_tries_0 rfl (lv_at hl 1 rfl) ?_
  refine lv_aload_n hx hb dX1_tries_1 rfl (lv_at hl 0 rfl) ?_
  refine va_get (D := G) (ci := 0) (v := .ref (ad 1)) (C := RX1) (T := TX1) (N := 21) hx hb hts in_X1 hown hK hP 0 (aD_0 _ _ _ _ _ _ _) rfl 0 (by decide) (hts _ q977) (fun _ h9 => h9) rfl dX1_tries_2 ?_
  refine lv_aload_n hx hb dX1_tries_5 rfl (lv_at hl 2 rfl) ?_
  refine kR (va_runU (x := yX5_minutes) (As := [.ref (ad 1), .ref (ad 8)]) (rest := []) ⟨hx, hb, hml, hown, hts⟩ (m_minutes_6 l G ty (wD ad ty hv σ ς κ ++ cs) (fun k => 1 + k) (fun k => ad (1 + k)) σ (fun k => 8 + k) (fun k => ad (8 + k)) (σ 6) (σ 7) 33 (ad 33) (κ 24 0) (κ 25 0) (κ 26 0) (κ 27 0)  ⟨rfl, rfl, rfl, rfl, rfl, rfl, rfl⟩ (hW) ⟨rfl, rfl, rfl⟩ (hWT) rfl (hm)) (va_cwO (own := "DownRope") (index := 206) (C := "DownRope$Doubled") (owner := "DownRope$Move") (x := yX5_minutes) (y := yX6_minutes) 2 hts (lw_app (lw_in _ [393, 396, 394, 422, 423, 81] (by decide +kernel) (by decide +kernel)) (lw_meth q424)) rfl rfl rfl q499 (by decide +kernel) ⟨Nat.le_of_ble_eq_true rfl, Nat.le_of_ble_eq_true rfl⟩) (pvR (r := (RX6, TX6, 4)) hK hP hD hX 33 (aD_33 _ _ _ _ _ _ _) rfl) rfl rfl hl.1 rfl (lv_room (Nat.le_of_ble_eq_true rfl)) dX1_tries_6 ⟨Nat.le_of_ble_eq_true rfl, Nat.le_of_ble_eq_true rfl⟩) (fun v hv => ?_)
  obtain ⟨z6, rfl, ⟨h6, rfl⟩ | ⟨h6, rfl⟩⟩ := hv
  · refine lv_istore_n (lv' := [(3, .int (ii (mnV σ 1 (κ 24 0) (κ 26 0) (κ 27 0)))), (0, .ref (ad 0)), (1, .ref (ad 33)), (2, .ref (ad 8))]) hx hb dX1_tries_9 rfl hl (by decide) rfl (fun ls hl => ?_)
    refine lv_iload_n hx hb dX1_tries_10 rfl (lv_at hl 0 rfl) ?_
    refine li_bipush hx hb dX1_tries_11 (by decide) ?_
    refine li_icmp_ne (tgt := 17) hx hb ⟨by omega, by omega⟩ ⟨by decide, by decide⟩ dX1_tries_13 (by decide) (fun c13 => ?_) (fun c13 => ?_)
    · refine lv_aload_n hx hb dX1_tries_17 rfl (lv_at hl 1 rfl) ?_
      refine va_get (D := G) (ci := 0) (v := .ref (ad 39)) (C := RX1) (T := TX1) (N := 21) hx hb hts in_X1 hown hK hP 0 (aD_0 _ _ _ _ _ _ _) rfl 5 (by decide) (hts _ q982) (fun _ h9 => h9) rfl dX1_tries_18 ?_
      refine lv_aload_n hx hb dX1_tries_21 rfl (lv_at hl 1 rfl) ?_
      refine va_get (D := G) (ci := 0) (v := .int (ii (ς 2 0))) (C := RX1) (T := TX1) (N := 21) hx hb hts in_X1 hown hK hP 0 (aD_0 _ _ _ _ _ _ _) rfl 7 (by decide) (hts _ q984) (fun _ h9 => h9) rfl dX1_tries_22 ?_
      refine lv_aload_n hx hb dX1_tries_25 rfl (lv_at hl 2 rfl) ?_
      refine kR (va_runU (x := yX5_told) (As := []) (rest := [.int (ii (ς 2 0)), .ref (ad 39)]) ⟨hx, hb, hml, hown, hts⟩ (m_told_6 l G ty (wD ad ty hv σ ς κ ++ cs) 33 (ad 33) (κ 24 0) (κ 25 0) (κ 26 0) (κ 27 0)  rfl (hm)) (va_cwU (own := "DownRope") (index := 219) (C := "DownRope$Doubled") (owner := "DownRope$Move") (x := yX5_told) (y := yX5_told) 0 hts (lw_app (lw_in _ [557, 560, 562, 558, 80] (by decide +kernel) (by decide +kernel)) (lw_meth q567)) rfl rfl rfl rfl (by decide +kernel) ⟨Nat.le_of_ble_eq_true rfl, Nat.le_of_ble_eq_true rfl⟩) (pvR (r := (RX6, TX6, 4)) hK hP hD hX 33 (aD_33 _ _ _ _ _ _ _) rfl) rfl rfl hl.1 rfl (lv_room (Nat.le_of_ble_eq_true rfl)) dX1_tries_26 ⟨Nat.le_of_ble_eq_true rfl, Nat.le_of_ble_eq_true rfl⟩) (fun v hv => ?_)
      obtain ⟨z26, rfl, h26⟩ := hv
      refine li_iast (g := (ς 0)) (W2 := wD ad ty hv σ (up ς 0 (ug (ς 0) (ς 2 0) z26)) κ ++ cs) hx hb hK hP hD hS 39 0 (aD_39 _ _ _ _ _ _ _) rfl (by omega) (by omega) (by decide) rfl dX1_tries_29 (fun H locs hP hD hS => ?_)
      refine lv_aload_n hx hb dX1_tries_30 rfl (lv_at hl 1 rfl) ?_
      refine va_get (D := G) (ci := 0) (v := .ref (ad 40)) (C := RX1) (T := TX1) (N := 21) hx hb hts in_X1 hown hK hP 0 (aD_0 _ _ _ _ _ _ _) rfl 6 (by decide) (hts _ q983) (fun _ h9 => h9) rfl dX1_tries_31 ?_
      refine lv_aload_n hx hb dX1_tries_34 rfl (lv_at hl 1 rfl) ?_
      refine va_get (D := G) (ci := 0) (v := .int (ii (ς 2 0))) (C := RX1) (T := TX1) (N := 21) hx hb hts in_X1 hown hK hP 0 (aD_0 _ _ _ _ _ _ _) rfl 7 (by decide) (hts _ q984) (fun _ h9 => h9) rfl dX1_tries_35 ?_
      refine lv_iload_n hx hb dX1_tries_38 rfl (lv_at hl 0 rfl) ?_
      refine li_iast (g := (ς 1)) (W2 := wD ad ty hv σ (up (up ς 0 (ug (ς 0) (ς 2 0) z26)) 1 (ug (ς 1) (ς 2 0) (mnV σ 1 (κ 24 0) (κ 26 0) (κ 27 0)))) κ ++ cs) hx hb hK hP hD hS 40 0 (aD_40 _ _ _ _ _ _ _) rfl (by omega) (by omega) (by decide) rfl dX1_tries_39 (fun H locs hP hD hS => ?_)
      refine lv_aload_n hx hb dX1_tries_40 rfl (lv_at hl 1 rfl) ?_
      refine lv_dup hx hb dX1_tries_41 rfl ?_
      refine va_get (D := G) (ci := 0) (v := .int (ii (ς 2 0))) (C := RX1) (T := TX1) (N := 21) hx hb hts in_X1 hown hK hP 0 (aD_0 _ _ _ _ _ _ _) rfl 7 (by decide) (hts _ q984) (fun _ h9 => h9) rfl dX1_tries_42 ?_
      refine li_iconst hx hb dX1_tries_45 ?_
      refine li_add hx hb dX1_tries_46 ?_
      refine va_put (D := G) (ci := 0) (v := .int (ii (ς 2 0 + 1))) (ty := .int) (C := RX1) (T := TX1) (N := 21) hx hb hts in_X1 tyX1 tyX1_ok nmX1 hown hK hP hD hS 0 (aD_0 _ _ _ _ _ _ _) rfl 7 (by decide) (hts _ q984) (fun _ h9 => h9) rfl (tyX1_ok 7 (by decide)) rfl rfl (Nat.le_of_ble_eq_true rfl) dX1_tries_47 (fun H locs hP hD hS => ?_)
      have hP : va_P G gcl (wD ad ty hv σ (up (up (up ς 0 (ug (ς 0) (ς 2 0) z26)) 1 (ug (ς 1) (ς 2 0) (mnV σ 1 (κ 24 0) (κ 26 0) (κ 27 0)))) 2 (sc (ς 2 0 + 1))) κ ++ cs) H := hP
      have hD : va_D A (wD ad ty hv σ (up (up (up ς 0 (ug (ς 0) (ς 2 0) z26)) 1 (ug (ς 1) (ς 2 0) (mnV σ 1 (κ 24 0) (κ 26 0) (κ 27 0)))) 2 (sc (ς 2 0 + 1))) κ ++ cs) := hD
      exact eMv hQ hx hb hr hlk hP hD hS (Nat.le_of_ble_eq_true rfl) (Nat.le_of_ble_eq_true rfl) dX1_tries_50 (⟨_, _, _, rfl, rfl, .inl ⟨h6, by rw [h26], rfl, rfl⟩⟩)
    · exfalso
      omega
  · refine lv_istore_n (lv' := [(3, .int (ii (-3))), (0, .ref (ad 0)), (1, .ref (ad 33)), (2, .ref (ad 8))]) hx hb dX1_tries_9 rfl hl (by decide) rfl (fun ls hl => ?_)
    refine lv_iload_n hx hb dX1_tries_10 rfl (lv_at hl 0 rfl) ?_
    refine li_bipush hx hb dX1_tries_11 (by decide) ?_
    refine li_icmp_ne (tgt := 17) hx hb ⟨by decide, by decide⟩ ⟨by decide, by decide⟩ dX1_tries_13 (by decide) (fun c13 => ?_) (fun c13 => ?_)
    · exact absurd c13 (by decide)
    · exact eMv hQ hx hb hr hlk hP hD hS (Nat.le_of_ble_eq_true rfl) (Nat.le_of_ble_eq_true rfl) dX1_tries_16 (⟨ς 0, ς 1, ς 2 0, rfl, rfl, .inr ⟨h6, rfl, rfl, rfl⟩⟩)
set_option maxHeartbeats 4000000 in
theorem m_tries_2N (l : Launch) (G : va_G) (ad : Nat → Nat) (ty : Nat → ClassId) (hv : Nat → Option Nat) (σ ς κ : mem) (cs : va_W)  (hW : wfF σ) (hWT : wfS (σ 6) (σ 7)) (hlgT : (0 < σ 9 0 → 0 ≤ σ 6 0 ∧ σ 6 0 < σ 8 0) ∧ (1 < σ 9 0 → 0 ≤ σ 6 1 ∧ σ 6 1 < σ 8 0) ∧ (2 < σ 9 0 → 0 ≤ σ 6 2 ∧ σ 6 2 < σ 8 0)) (hm : 0 ≤ κ 28 0 ∧ κ 28 0 ≤ 7 ∧ 0 ≤ κ 29 0 ∧ κ 29 0 ≤ 1 ∧ 0 ≤ κ 30 0 ∧ κ 30 0 ≤ 4 ∧ 0 ≤ κ 31 0 ∧ κ 31 0 ≤ 4) (hn : 0 ≤ ς 2 0 ∧ ς 2 0 < 400) : cM l yX1_tries (ws_ yX1_tries cX1_tries 4 none) (rm4 3 0 0 70) G ty (wD ad ty hv σ ς κ ++ cs) [.ref (ad 0), .ref (ad 34), .ref (ad 8)] 0 0 (fun r W' => ∃ (g0 g1 : Int → Int) (n' : Int), r = none ∧ W' = wD ad ty hv σ (up (up (up ς 0 g0) 1 g1) 2 (sc n')) κ ++ cs ∧ ((mnOk σ (σ 6) (σ 7) 2 (κ 28 0) (κ 29 0) (κ 30 0) (κ 31 0) ∧ g0 = ug (ς 0) (ς 2 0) (20000 + 1000 * (κ 28 0) + 100 * (κ 29 0) + 10 * (κ 30 0) + (κ 31 0)) ∧ g1 = ug (ς 1) (ς 2 0) (mnV σ 2 (κ 28 0) (κ 30 0) (κ 31 0)) ∧ n' = ς 2 0 + 1) ∨ (¬ mnOk σ (σ 6) (σ 7) 2 (κ 28 0) (κ 29 0) (κ 30 0) (κ 31 0) ∧ g0 = ς 0 ∧ g1 = ς 1 ∧ n' = ς 2 0))) := by
  refine cM.of (by decide) (Nat.le_of_ble_eq_true rfl) ?_
  intro p e s m args below meth c A Q H locs hQ hx hb hr hml hown hlk hname hts hK hP hD hS hA hX ls hl
  have hl : lv_has ls 4 [(0, .ref (ad 0)), (1, .ref (ad 34)), (2, .ref (ad 8))] := hl
  obtain ⟨hn1, hn2⟩ := id hn
  have hV := mnV_b (k := 2) (st := κ 28 0) (fr := κ 30 0) (to := κ 31 0) hW (by omega) (by omega) (by omega) (by omega) (by omega) (by omega)
  refine lv_aload_n hx hb dX1_tries_0 rfl (lv_at hl 1 rfl) ?_
  refine lv_aload_n hx hb dX1_tries_1 rfl (lv_at hl 0 rfl) ?_
  refine va_get (D := G) (ci := 0) (v := .ref (ad 1)) (C := RX1) (T := TX1) (N := 21) hx hb hts in_X1 hown hK hP 0 (aD_0 _ _ _ _ _ _ _) rfl 0 (by decide) (hts _ q977) (fun _ h9 => h9) rfl dX1_tries_2 ?_
  refine lv_aload_n hx hb dX1_tries_5 rfl (lv_at hl 2 rfl) ?_
  refine kR (va_runU (x := yX5_minutes) (As := [.ref (ad 1), .ref (ad 8)]) (rest := []) ⟨hx, hb, hml, hown, hts⟩ (m_minutes_7 l G ty (wD ad ty hv σ ς κ ++ cs) (fun k => 1 + k) (fun k => ad (1 + k)) σ (fun k => 8 + k) (fun k => ad (8 + k)) (σ 6) (σ 7) 34 (ad 34) (κ 28 0) (κ 29 0) (κ 30 0) (κ 31 0)  ⟨rfl, rfl, rfl, rfl, rfl, rfl, rfl⟩ (hW) ⟨rfl, rfl, rfl⟩ (hWT) rfl (hm)) (va_cwO (own := "DownRope") (index := 206) (C := "DownRope$Single") (owner := "DownRope$Move") (x := yX5_minutes) (y := yX7_minutes) 2 hts (lw_app (lw_in _ [393, 396, 394, 478, 479, 82] (by decide +kernel) (by decide +kernel)) (lw_meth q480)) rfl rfl rfl q499 (by decide +kernel) ⟨Nat.le_of_ble_eq_true rfl, Nat.le_of_ble_eq_true rfl⟩) (pvR (r := (RX7, TX7, 4)) hK hP hD hX 34 (aD_34 _ _ _ _ _ _ _) rfl) rfl rfl hl.1 rfl (lv_room (Nat.le_of_ble_eq_true rfl)) dX1_tries_6 ⟨Nat.le_of_ble_eq_true rfl, Nat.le_of_ble_eq_true rfl⟩) (fun v hv => ?_)
  obtain ⟨z6, rfl, ⟨h6, rfl⟩ | ⟨h6, rfl⟩⟩ := hv
  · refine lv_istore_n (lv' := [(3, .int (ii (mnV σ 2 (κ 28 0) (κ 30 0) (κ 31 0)))), (0, .ref (ad 0)), (1, .ref (ad 34)), (2, .ref (ad 8))]) hx hb dX1_tries_9 rfl hl (by decide) rfl (fun ls hl => ?_)
    refine lv_iload_n hx hb dX1_tries_10 rfl (lv_at hl 0 rfl) ?_
    refine li_bipush hx hb dX1_tries_11 (by decide) ?_
    refine li_icmp_ne (tgt := 17) hx hb ⟨by omega, by omega⟩ ⟨by decide, by decide⟩ dX1_tries_13 (by decide) (fun c13 => ?_) (fun c13 => ?_)
    · refine lv_aload_n hx hb dX1_tries_17 rfl (lv_at hl 1 rfl) ?_
      refine va_get (D := G) (ci := 0) (v := .ref (ad 39)) (C := RX1) (T := TX1) (N := 21) hx hb hts in_X1 hown hK hP 0 (aD_0 _ _ _ _ _ _ _) rfl 5 (by decide) (hts _ q982) (fun _ h9 => h9) rfl dX1_tries_18 ?_
      refine lv_aload_n hx hb dX1_tries_21 rfl (lv_at hl 1 rfl) ?_
      refine va_get (D := G) (ci := 0) (v := .int (ii (ς 2 0))) (C := RX1) (T := TX1) (N := 21) hx hb hts in_X1 hown hK hP 0 (aD_0 _ _ _ _ _ _ _) rfl 7 (by decide) (hts _ q984) (fun _ h9 => h9) rfl dX1_tries_22 ?_
      refine lv_aload_n hx hb dX1_tries_25 rfl (lv_at hl 2 rfl) ?_
      refine kR (va_runU (x := yX5_told) (As := []) (rest := [.int (ii (ς 2 0)), .ref (ad 39)]) ⟨hx, hb, hml, hown, hts⟩ (m_told_7 l G ty (wD ad ty hv σ ς κ ++ cs) 34 (ad 34) (κ 28 0) (κ 29 0) (κ 30 0) (κ 31 0)  rfl (hm)) (va_cwU (own := "DownRope") (index := 219) (C := "DownRope$Single") (owner := "DownRope$Move") (x := yX5_told) (y := yX5_told) 0 hts (lw_app (lw_in _ [557, 560, 565, 558, 80] (by decide +kernel) (by decide +kernel)) (lw_meth q567)) rfl rfl rfl rfl (by decide +kernel) ⟨Nat.le_of_ble_eq_true rfl, Nat.le_of_ble_eq_true rfl⟩) (pvR (r := (RX7, TX7, 4)) hK hP hD hX 34 (aD_34 _ _ _ _ _ _ _) rfl) rfl rfl hl.1 rfl (lv_room (Nat.le_of_ble_eq_true rfl)) dX1_tries_26 ⟨Nat.le_of_ble_eq_true rfl, Nat.le_of_ble_eq_true rfl⟩) (fun v hv => ?_)
      obtain ⟨z26, rfl, h26⟩ := hv
      refine li_iast (g := (ς 0)) (W2 := wD ad ty hv σ (up ς 0 (ug (ς 0) (ς 2 0) z26)) κ ++ cs) hx hb hK hP hD hS 39 0 (aD_39 _ _ _ _ _ _ _) rfl (by omega) (by omega) (by decide) rfl dX1_tries_29 (fun H locs hP hD hS => ?_)
      refine lv_aload_n hx hb dX1_tries_30 rfl (lv_at hl 1 rfl) ?_
      refine va_get (D := G) (ci := 0) (v := .ref (ad 40)) (C := RX1) (T := TX1) (N := 21) hx hb hts in_X1 hown hK hP 0 (aD_0 _ _ _ _ _ _ _) rfl 6 (by decide) (hts _ q983) (fun _ h9 => h9) rfl dX1_tries_31 ?_
      refine lv_aload_n hx hb dX1_tries_34 rfl (lv_at hl 1 rfl) ?_
      refine va_get (D := G) (ci := 0) (v := .int (ii (ς 2 0))) (C := RX1) (T := TX1) (N := 21) hx hb hts in_X1 hown hK hP 0 (aD_0 _ _ _ _ _ _ _) rfl 7 (by decide) (hts _ q984) (fun _ h9 => h9) rfl dX1_tries_35 ?_
      refine lv_iload_n hx hb dX1_tries_38 rfl (lv_at hl 0 rfl) ?_
      refine li_iast (g := (ς 1)) (W2 := wD ad ty hv σ (up (up ς 0 (ug (ς 0) (ς 2 0) z26)) 1 (ug (ς 1) (ς 2 0) (mnV σ 2 (κ 28 0) (κ 30 0) (κ 31 0)))) κ ++ cs) hx hb hK hP hD hS 40 0 (aD_40 _ _ _ _ _ _ _) rfl (by omega) (by omega) (by decide) rfl dX1_tries_39 (fun H locs hP hD hS => ?_)
      refine lv_aload_n hx hb dX1_tries_40 rfl (lv_at hl 1 rfl) ?_
      refine lv_dup hx hb dX1_tries_41 rfl ?_
      refine va_get (D := G) (ci := 0) (v := .int (ii (ς 2 0))) (C := RX1) (T := TX1) (N := 21) hx hb hts in_X1 hown hK hP 0 (aD_0 _ _ _ _ _ _ _) rfl 7 (by decide) (hts _ q984) (fun _ h9 => h9) rfl dX1_tries_42 ?_
      refine li_iconst hx hb dX1_tries_45 ?_
      refine li_add hx hb dX1_tries_46 ?_
      refine va_put (D := G) (ci := 0) (v := .int (ii (ς 2 0 + 1))) (ty := .int) (C := RX1) (T := TX1) (N := 21) hx hb hts in_X1 tyX1 tyX1_ok nmX1 hown hK hP hD hS 0 (aD_0 _ _ _ _ _ _ _) rfl 7 (by decide) (hts _ q984) (fun _ h9 => h9) rfl (tyX1_ok 7 (by decide)) rfl rfl (Nat.le_of_ble_eq_true rfl) dX1_tries_47 (fun H locs hP hD hS => ?_)
      have hP : va_P G gcl (wD ad ty hv σ (up (up (up ς 0 (ug (ς 0) (ς 2 0) z26)) 1 (ug (ς 1) (ς 2 0) (mnV σ 2 (κ 28 0) (κ 30 0) (κ 31 0)))) 2 (sc (ς 2 0 + 1))) κ ++ cs) H := hP
      have hD : va_D A (wD ad ty hv σ (up (up (up ς 0 (ug (ς 0) (ς 2 0) z26)) 1 (ug (ς 1) (ς 2 0) (mnV σ 2 (κ 28 0) (κ 30 0) (κ 31 0)))) 2 (sc (ς 2 0 + 1))) κ ++ cs) := hD
      exact eMv hQ hx hb hr hlk hP hD hS (Nat.le_of_ble_eq_true rfl) (Nat.le_of_ble_eq_true rfl) dX1_tries_50 (⟨_, _, _, rfl, rfl, .inl ⟨h6, by rw [h26], rfl, rfl⟩⟩)
    · exfalso
      omega
  · refine lv_istore_n (lv' := [(3, .int (ii (-3))), (0, .ref (ad 0)), (1, .ref (ad 34)), (2, .ref (ad 8))]) hx hb dX1_tries_9 rfl hl (by decide) rfl (fun ls hl => ?_)
    refine lv_iload_n hx hb dX1_tries_10 rfl (lv_at hl 0 rfl) ?_
    refine li_bipush hx hb dX1_tries_11 (by decide) ?_
    refine li_icmp_ne (tgt := 17) hx hb ⟨by decide, by decide⟩ ⟨by decide, by decide⟩ dX1_tries_13 (by decide) (fun c13 => ?_) (fun c13 => ?_)
    · exact absurd c13 (by decide)
    · exact eMv hQ hx hb hr hlk hP hD hS (Nat.le_of_ble_eq_true rfl) (Nat.le_of_ble_eq_true rfl) dX1_tries_16 (⟨ς 0, ς 1, ς 2 0, rfl, rfl, .inr ⟨h6, rfl, rfl, rfl⟩⟩)
set_option maxHeartbeats 4000000 in
theorem m_tries_3N (l : Launch) (G : va_G) (ad : Nat → Nat) (ty : Nat → ClassId) (hv : Nat → Option Nat) (σ ς κ : mem) (cs : va_W)  (hW : wfF σ) (hWT : wfS (σ 6) (σ 7)) (hlgT : (0 < σ 9 0 → 0 ≤ σ 6 0 ∧ σ 6 0 < σ 8 0) ∧ (1 < σ 9 0 → 0 ≤ σ 6 1 ∧ σ 6 1 < σ 8 0) ∧ (2 < σ 9 0 → 0 ≤ σ 6 2 ∧ σ 6 2 < σ 8 0)) (hm : 0 ≤ κ 32 0 ∧ κ 32 0 ≤ 7 ∧ 0 ≤ κ 33 0 ∧ κ 33 0 ≤ 1 ∧ 0 ≤ κ 34 0 ∧ κ 34 0 ≤ 4 ∧ 0 ≤ κ 35 0 ∧ κ 35 0 ≤ 4) (hn : 0 ≤ ς 2 0 ∧ ς 2 0 < 400) : cM l yX1_tries (ws_ yX1_tries cX1_tries 4 none) (rm4 3 0 0 70) G ty (wD ad ty hv σ ς κ ++ cs) [.ref (ad 0), .ref (ad 35), .ref (ad 8)] 0 0 (fun r W' => ∃ (g0 g1 : Int → Int) (n' : Int), r = none ∧ W' = wD ad ty hv σ (up (up (up ς 0 g0) 1 g1) 2 (sc n')) κ ++ cs ∧ ((mnOk σ (σ 6) (σ 7) 3 (κ 32 0) (κ 33 0) (κ 34 0) (κ 35 0) ∧ g0 = ug (ς 0) (ς 2 0) (30000 + 1000 * (κ 32 0) + 100 * (κ 33 0) + 10 * (κ 34 0) + (κ 35 0)) ∧ g1 = ug (ς 1) (ς 2 0) (mnV σ 3 (κ 32 0) (κ 34 0) (κ 35 0)) ∧ n' = ς 2 0 + 1) ∨ (¬ mnOk σ (σ 6) (σ 7) 3 (κ 32 0) (κ 33 0) (κ 34 0) (κ 35 0) ∧ g0 = ς 0 ∧ g1 = ς 1 ∧ n' = ς 2 0))) := by
  refine cM.of (by decide) (Nat.le_of_ble_eq_true rfl) ?_
  intro p e s m args below meth c A Q H locs hQ hx hb hr hml hown hlk hname hts hK hP hD hS hA hX ls hl
  have hl : lv_has ls 4 [(0, .ref (ad 0)), (1, .ref (ad 35)), (2, .ref (ad 8))] := hl
  obtain ⟨hn1, hn2⟩ := id hn
  have hV := mnV_b (k := 3) (st := κ 32 0) (fr := κ 34 0) (to := κ 35 0) hW (by omega) (by omega) (by omega) (by omega) (by omega) (by omega)
  refine lv_aload_n hx hb dX1_tries_0 rfl (lv_at hl 1 rfl) ?_
  refine lv_aload_n hx hb dX1_tries_1 rfl (lv_at hl 0 rfl) ?_
  refine va_get (D := G) (ci := 0) (v := .ref (ad 1)) (C := RX1) (T := TX1) (N := 21) hx hb hts in_X1 hown hK hP 0 (aD_0 _ _ _ _ _ _ _) rfl 0 (by decide) (hts _ q977) (fun _ h9 => h9) rfl dX1_tries_2 ?_
  refine lv_aload_n hx hb dX1_tries_5 rfl (lv_at hl 2 rfl) ?_
  refine kR (va_runU (x := yX5_minutes) (As := [.ref (ad 1), .ref (ad 8)]) (rest := []) ⟨hx, hb, hml, hown, hts⟩ (m_minutes_8 l G ty (wD ad ty hv σ ς κ ++ cs) (fun k => 1 + k) (fun k => ad (1 + k)) σ (fun k => 8 + k) (fun k => ad (8 + k)) (σ 6) (σ 7) 35 (ad 35) (κ 32 0) (κ 33 0) (κ 34 0) (κ 35 0)  ⟨rfl, rfl, rfl, rfl, rfl, rfl, rfl⟩ (hW) ⟨rfl, rfl, rfl⟩ (hWT) rfl (hm)) (va_cwO (own := "DownRope") (index := 206) (C := "DownRope$Joined") (owner := "DownRope$Move") (x := yX5_minutes) (y := yX6_minutes) 2 hts (lw_app (lw_in _ [393, 396, 394, 460, 423, 81] (by decide +kernel) (by decide +kernel)) (lw_meth q424)) rfl rfl rfl q499 (by decide +kernel) ⟨Nat.le_of_ble_eq_true rfl, Nat.le_of_ble_eq_true rfl⟩) (pvR (r := (RX8, TX8, 4)) hK hP hD hX 35 (aD_35 _ _ _ _ _ _ _) rfl) rfl rfl hl.1 rfl (lv_room (Nat.le_of_ble_eq_true rfl)) dX1_tries_6 ⟨Nat.le_of_ble_eq_true rfl, Nat.le_of_ble_eq_true rfl⟩) (fun v hv => ?_)
  obtain ⟨z6, rfl, ⟨h6, rfl⟩ | ⟨h6, rfl⟩⟩ := hv
  · refine lv_istore_n (lv' := [(3, .int (ii (mnV σ 3 (κ 32 0) (κ 34 0) (κ 35 0)))), (0, .ref (ad 0)), (1, .ref (ad 35)), (2, .ref (ad 8))]) hx hb dX1_tries_9 rfl hl (by decide) rfl (fun ls hl => ?_)
    refine lv_iload_n hx hb dX1_tries_10 rfl (lv_at hl 0 rfl) ?_
    refine li_bipush hx hb dX1_tries_11 (by decide) ?_
    refine li_icmp_ne (tgt := 17) hx hb ⟨by omega, by omega⟩ ⟨by decide, by decide⟩ dX1_tries_13 (by decide) (fun c13 => ?_) (fun c13 => ?_)
    · refine lv_aload_n hx hb dX1_tries_17 rfl (lv_at hl 1 rfl) ?_
      refine va_get (D := G) (ci := 0) (v := .ref (ad 39)) (C := RX1) (T := TX1) (N := 21) hx hb hts in_X1 hown hK hP 0 (aD_0 _ _ _ _ _ _ _) rfl 5 (by decide) (hts _ q982) (fun _ h9 => h9) rfl dX1_tries_18 ?_
      refine lv_aload_n hx hb dX1_tries_21 rfl (lv_at hl 1 rfl) ?_
      refine va_get (D := G) (ci := 0) (v := .int (ii (ς 2 0))) (C := RX1) (T := TX1) (N := 21) hx hb hts in_X1 hown hK hP 0 (aD_0 _ _ _ _ _ _ _) rfl 7 (by decide) (hts _ q984) (fun _ h9 => h9) rfl dX1_tries_22 ?_
      refine lv_aload_n hx hb dX1_tries_25 rfl (lv_at hl 2 rfl) ?_
      refine kR (va_runU (x := yX5_told) (As := []) (rest := [.int (ii (ς 2 0)), .ref (ad 39)]) ⟨hx, hb, hml, hown, hts⟩ (m_told_8 l G ty (wD ad ty hv σ ς κ ++ cs) 35 (ad 35) (κ 32 0) (κ 33 0) (κ 34 0) (κ 35 0)  rfl (hm)) (va_cwU (own := "DownRope") (index := 219) (C := "DownRope$Joined") (owner := "DownRope$Move") (x := yX5_told) (y := yX5_told) 0 hts (lw_app (lw_in _ [557, 560, 563, 558, 80] (by decide +kernel) (by decide +kernel)) (lw_meth q567)) rfl rfl rfl rfl (by decide +kernel) ⟨Nat.le_of_ble_eq_true rfl, Nat.le_of_ble_eq_true rfl⟩) (pvR (r := (RX8, TX8, 4)) hK hP hD hX 35 (aD_35 _ _ _ _ _ _ _) rfl) rfl rfl hl.1 rfl (lv_room (Nat.le_of_ble_eq_true rfl)) dX1_tries_26 ⟨Nat.le_of_ble_eq_true rfl, Nat.le_of_ble_eq_true rfl⟩) (fun v hv => ?_)
      obtain ⟨z26, rfl, h26⟩ := hv
      refine li_iast (g := (ς 0)) (W2 := wD ad ty hv σ (up ς 0 (ug (ς 0) (ς 2 0) z26)) κ ++ cs) hx hb hK hP hD hS 39 0 (aD_39 _ _ _ _ _ _ _) rfl (by omega) (by omega) (by decide) rfl dX1_tries_29 (fun H locs hP hD hS => ?_)
      refine lv_aload_n hx hb dX1_tries_30 rfl (lv_at hl 1 rfl) ?_
      refine va_get (D := G) (ci := 0) (v := .ref (ad 40)) (C := RX1) (T := TX1) (N := 21) hx hb hts in_X1 hown hK hP 0 (aD_0 _ _ _ _ _ _ _) rfl 6 (by decide) (hts _ q983) (fun _ h9 => h9) rfl dX1_tries_31 ?_
      refine lv_aload_n hx hb dX1_tries_34 rfl (lv_at hl 1 rfl) ?_
      refine va_get (D := G) (ci := 0) (v := .int (ii (ς 2 0))) (C := RX1) (T := TX1) (N := 21) hx hb hts in_X1 hown hK hP 0 (aD_0 _ _ _ _ _ _ _) rfl 7 (by decide) (hts _ q984) (fun _ h9 => h9) rfl dX1_tries_35 ?_
      refine lv_iload_n hx hb dX1_tries_38 rfl (lv_at hl 0 rfl) ?_
      refine li_iast (g := (ς 1)) (W2 := wD ad ty hv σ (up (up ς 0 (ug (ς 0) (ς 2 0) z26)) 1 (ug (ς 1) (ς 2 0) (mnV σ 3 (κ 32 0) (κ 34 0) (κ 35 0)))) κ ++ cs) hx hb hK hP hD hS 40 0 (aD_40 _ _ _ _ _ _ _) rfl (by omega) (by omega) (by decide) rfl dX1_tries_39 (fun H locs hP hD hS => ?_)
      refine lv_aload_n hx hb dX1_tries_40 rfl (lv_at hl 1 rfl) ?_
      refine lv_dup hx hb dX1_tries_41 rfl ?_
      refine va_get (D := G) (ci := 0) (v := .int (ii (ς 2 0))) (C := RX1) (T := TX1) (N := 21) hx hb hts in_X1 hown hK hP 0 (aD_0 _ _ _ _ _ _ _) rfl 7 (by decide) (hts _ q984) (fun _ h9 => h9) rfl dX1_tries_42 ?_
      refine li_iconst hx hb dX1_tries_45 ?_
      refine li_add hx hb dX1_tries_46 ?_
      refine va_put (D := G) (ci := 0) (v := .int (ii (ς 2 0 + 1))) (ty := .int) (C := RX1) (T := TX1) (N := 21) hx hb hts in_X1 tyX1 tyX1_ok nmX1 hown hK hP hD hS 0 (aD_0 _ _ _ _ _ _ _) rfl 7 (by decide) (hts _ q984) (fun _ h9 => h9) rfl (tyX1_ok 7 (by decide)) rfl rfl (Nat.le_of_ble_eq_true rfl) dX1_tries_47 (fun H locs hP hD hS => ?_)
      have hP : va_P G gcl (wD ad ty hv σ (up (up (up ς 0 (ug (ς 0) (ς 2 0) z26)) 1 (ug (ς 1) (ς 2 0) (mnV σ 3 (κ 32 0) (κ 34 0) (κ 35 0)))) 2 (sc (ς 2 0 + 1))) κ ++ cs) H := hP
      have hD : va_D A (wD ad ty hv σ (up (up (up ς 0 (ug (ς 0) (ς 2 0) z26)) 1 (ug (ς 1) (ς 2 0) (mnV σ 3 (κ 32 0) (κ 34 0) (κ 35 0)))) 2 (sc (ς 2 0 + 1))) κ ++ cs) := hD
      exact eMv hQ hx hb hr hlk hP hD hS (Nat.le_of_ble_eq_true rfl) (Nat.le_of_ble_eq_true rfl) dX1_tries_50 (⟨_, _, _, rfl, rfl, .inl ⟨h6, by rw [h26], rfl, rfl⟩⟩)
    · exfalso
      omega
  · refine lv_istore_n (lv' := [(3, .int (ii (-3))), (0, .ref (ad 0)), (1, .ref (ad 35)), (2, .ref (ad 8))]) hx hb dX1_tries_9 rfl hl (by decide) rfl (fun ls hl => ?_)
    refine lv_iload_n hx hb dX1_tries_10 rfl (lv_at hl 0 rfl) ?_
    refine li_bipush hx hb dX1_tries_11 (by decide) ?_
    refine li_icmp_ne (tgt := 17) hx hb ⟨by decide, by decide⟩ ⟨by decide, by decide⟩ dX1_tries_13 (by decide) (fun c13 => ?_) (fun c13 => ?_)
    · exact absurd c13 (by decide)
    · exact eMv hQ hx hb hr hlk hP hD hS (Nat.le_of_ble_eq_true rfl) (Nat.le_of_ble_eq_true rfl) dX1_tries_16 (⟨ς 0, ς 1, ς 2 0, rfl, rfl, .inr ⟨h6, rfl, rfl, rfl⟩⟩)
set_option maxHeartbeats 4000000 in
theorem m_tries_4N (l : Launch) (G : va_G) (ad : Nat → Nat) (ty : Nat → ClassId) (hv : Nat → Option Nat) (σ ς κ : mem) (cs : va_W)  (hW : wfF σ) (hWT : wfS (σ 6) (σ 7)) (hlgT : (0 < σ 9 0 → 0 ≤ σ 6 0 ∧ σ 6 0 < σ 8 0) ∧ (1 < σ 9 0 → 0 ≤ σ 6 1 ∧ σ 6 1 < σ 8 0) ∧ (2 < σ 9 0 → 0 ≤ σ 6 2 ∧ σ 6 2 < σ 8 0)) (hm : 0 ≤ κ 36 0 ∧ κ 36 0 ≤ 7 ∧ 0 ≤ κ 37 0 ∧ κ 37 0 ≤ 1 ∧ 0 ≤ κ 38 0 ∧ κ 38 0 ≤ 4 ∧ 0 ≤ κ 39 0 ∧ κ 39 0 ≤ 4) (hn : 0 ≤ ς 2 0 ∧ ς 2 0 < 400) : cM l yX1_tries (ws_ yX1_tries cX1_tries 4 none) (rm4 3 0 0 70) G ty (wD ad ty hv σ ς κ ++ cs) [.ref (ad 0), .ref (ad 36), .ref (ad 8)] 0 0 (fun r W' => ∃ (g0 g1 : Int → Int) (n' : Int), r = none ∧ W' = wD ad ty hv σ (up (up (up ς 0 g0) 1 g1) 2 (sc n')) κ ++ cs ∧ ((mnOk σ (σ 6) (σ 7) 4 (κ 36 0) (κ 37 0) (κ 38 0) (κ 39 0) ∧ g0 = ug (ς 0) (ς 2 0) (40000 + 1000 * (κ 36 0) + 100 * (κ 37 0) + 10 * (κ 38 0) + (κ 39 0)) ∧ g1 = ug (ς 1) (ς 2 0) (mnV σ 4 (κ 36 0) (κ 38 0) (κ 39 0)) ∧ n' = ς 2 0 + 1) ∨ (¬ mnOk σ (σ 6) (σ 7) 4 (κ 36 0) (κ 37 0) (κ 38 0) (κ 39 0) ∧ g0 = ς 0 ∧ g1 = ς 1 ∧ n' = ς 2 0))) := by
  refine cM.of (by decide) (Nat.le_of_ble_eq_true rfl) ?_
  intro p e s m args below meth c A Q H locs hQ hx hb hr hml hown hlk hname hts hK hP hD hS hA hX ls hl
  have hl : lv_has ls 4 [(0, .ref (ad 0)), (1, .ref (ad 36)), (2, .ref (ad 8))] := hl
  obtain ⟨hn1, hn2⟩ := id hn
  have hV := mnV_b (k := 4) (st := κ 36 0) (fr := κ 38 0) (to := κ 39 0) hW (by omega) (by omega) (by omega) (by omega) (by omega) (by omega)
  refine lv_aload_n hx hb dX1_tries_0 rfl (lv_at hl 1 rfl) ?_
  refine lv_aload_n hx hb dX1_tries_1 rfl (lv_at hl 0 rfl) ?_
  refine va_get (D := G) (ci := 0) (v := .ref (ad 1)) (C := RX1) (T := TX1) (N := 21) hx hb hts in_X1 hown hK hP 0 (aD_0 _ _ _ _ _ _ _) rfl 0 (by decide) (hts _ q977) (fun _ h9 => h9) rfl dX1_tries_2 ?_
  refine lv_aload_n hx hb dX1_tries_5 rfl (lv_at hl 2 rfl) ?_
  refine kR (va_runU (x := yX5_minutes) (As := [.ref (ad 1), .ref (ad 8)]) (rest := []) ⟨hx, hb, hml, hown, hts⟩ (m_minutes_9 l G ty (wD ad ty hv σ ς κ ++ cs) (fun k => 1 + k) (fun k => ad (1 + k)) σ (fun k => 8 + k) (fun k => ad (8 + k)) (σ 6) (σ 7) 36 (ad 36) (κ 36 0) (κ 37 0) (κ 38 0) (κ 39 0)  ⟨rfl, rfl, rfl, rfl, rfl, rfl, rfl⟩ (hW) ⟨rfl, rfl, rfl⟩ (hWT) rfl (hm)) (va_cwO (own := "DownRope") (index := 206) (C := "DownRope$Let") (owner := "DownRope$Move") (x := yX5_minutes) (y := yX9_minutes) 2 hts (lw_app (lw_in _ [393, 396, 394, 461, 462, 84] (by decide +kernel) (by decide +kernel)) (lw_meth q463)) rfl rfl rfl q499 (by decide +kernel) ⟨Nat.le_of_ble_eq_true rfl, Nat.le_of_ble_eq_true rfl⟩) (pvR (r := (RX9, TX9, 4)) hK hP hD hX 36 (aD_36 _ _ _ _ _ _ _) rfl) rfl rfl hl.1 rfl (lv_room (Nat.le_of_ble_eq_true rfl)) dX1_tries_6 ⟨Nat.le_of_ble_eq_true rfl, Nat.le_of_ble_eq_true rfl⟩) (fun v hv => ?_)
  obtain ⟨z6, rfl, ⟨h6, rfl⟩ | ⟨h6, rfl⟩⟩ := hv
  · refine lv_istore_n (lv' := [(3, .int (ii (mnV σ 4 (κ 36 0) (κ 38 0) (κ 39 0)))), (0, .ref (ad 0)), (1, .ref (ad 36)), (2, .ref (ad 8))]) hx hb dX1_tries_9 rfl hl (by decide) rfl (fun ls hl => ?_)
    refine lv_iload_n hx hb dX1_tries_10 rfl (lv_at hl 0 rfl) ?_
    refine li_bipush hx hb dX1_tries_11 (by decide) ?_
    refine li_icmp_ne (tgt := 17) hx hb ⟨by omega, by omega⟩ ⟨by decide, by decide⟩ dX1_tries_13 (by decide) (fun c13 => ?_) (fun c13 => ?_)
    · refine lv_aload_n hx hb dX1_tries_17 rfl (lv_at hl 1 rfl) ?_
      refine va_get (D := G) (ci := 0) (v := .ref (ad 39)) (C := RX1) (T := TX1) (N := 21) hx hb hts in_X1 hown hK hP 0 (aD_0 _ _ _ _ _ _ _) rfl 5 (by decide) (hts _ q982) (fun _ h9 => h9) rfl dX1_tries_18 ?_
      refine lv_aload_n hx hb dX1_tries_21 rfl (lv_at hl 1 rfl) ?_
      refine va_get (D := G) (ci := 0) (v := .int (ii (ς 2 0))) (C := RX1) (T := TX1) (N := 21) hx hb hts in_X1 hown hK hP 0 (aD_0 _ _ _ _ _ _ _) rfl 7 (by decide) (hts _ q984) (fun _ h9 => h9) rfl dX1_tries_22 ?_
      refine lv_aload_n hx hb dX1_tries_25 rfl (lv_at hl 2 rfl) ?_
      refine kR (va_runU (x := yX5_told) (As := []) (rest := [.int (ii (ς 2 0)), .ref (ad 39)]) ⟨hx, hb, hml, hown, hts⟩ (m_told_9 l G ty (wD ad ty hv σ ς κ ++ cs) 36 (ad 36) (κ 36 0) (κ 37 0) (κ 38 0) (κ 39 0)  rfl (hm)) (va_cwU (own := "DownRope") (index := 219) (C := "DownRope$Let") (owner := "DownRope$Move") (x := yX5_told) (y := yX5_told) 0 hts (lw_app (lw_in _ [557, 560, 564, 558, 80] (by decide +kernel) (by decide +kernel)) (lw_meth q567)) rfl rfl rfl rfl (by decide +kernel) ⟨Nat.le_of_ble_eq_true rfl, Nat.le_of_ble_eq_true rfl⟩) (pvR (r := (RX9, TX9, 4)) hK hP hD hX 36 (aD_36 _ _ _ _ _ _ _) rfl) rfl rfl hl.1 rfl (lv_room (Nat.le_of_ble_eq_true rfl)) dX1_tries_26 ⟨Nat.le_of_ble_eq_true rfl, Nat.le_of_ble_eq_true rfl⟩) (fun v hv => ?_)
      obtain ⟨z26, rfl, h26⟩ := hv
      refine li_iast (g := (ς 0)) (W2 := wD ad ty hv σ (up ς 0 (ug (ς 0) (ς 2 0) z26)) κ ++ cs) hx hb hK hP hD hS 39 0 (aD_39 _ _ _ _ _ _ _) rfl (by omega) (by omega) (by decide) rfl dX1_tries_29 (fun H locs hP hD hS => ?_)
      refine lv_aload_n hx hb dX1_tries_30 rfl (lv_at hl 1 rfl) ?_
      refine va_get (D := G) (ci := 0) (v := .ref (ad 40)) (C := RX1) (T := TX1) (N := 21) hx hb hts in_X1 hown hK hP 0 (aD_0 _ _ _ _ _ _ _) rfl 6 (by decide) (hts _ q983) (fun _ h9 => h9) rfl dX1_tries_31 ?_
      refine lv_aload_n hx hb dX1_tries_34 rfl (lv_at hl 1 rfl) ?_
      refine va_get (D := G) (ci := 0) (v := .int (ii (ς 2 0))) (C := RX1) (T := TX1) (N := 21) hx hb hts in_X1 hown hK hP 0 (aD_0 _ _ _ _ _ _ _) rfl 7 (by decide) (hts _ q984) (fun _ h9 => h9) rfl dX1_tries_35 ?_
      refine lv_iload_n hx hb dX1_tries_38 rfl (lv_at hl 0 rfl) ?_
      refine li_iast (g := (ς 1)) (W2 := wD ad ty hv σ (up (up ς 0 (ug (ς 0) (ς 2 0) z26)) 1 (ug (ς 1) (ς 2 0) (mnV σ 4 (κ 36 0) (κ 38 0) (κ 39 0)))) κ ++ cs) hx hb hK hP hD hS 40 0 (aD_40 _ _ _ _ _ _ _) rfl (by omega) (by omega) (by decide) rfl dX1_tries_39 (fun H locs hP hD hS => ?_)
      refine lv_aload_n hx hb dX1_tries_40 rfl (lv_at hl 1 rfl) ?_
      refine lv_dup hx hb dX1_tries_41 rfl ?_
      refine va_get (D := G) (ci := 0) (v := .int (ii (ς 2 0))) (C := RX1) (T := TX1) (N := 21) hx hb hts in_X1 hown hK hP 0 (aD_0 _ _ _ _ _ _ _) rfl 7 (by decide) (hts _ q984) (fun _ h9 => h9) rfl dX1_tries_42 ?_
      refine li_iconst hx hb dX1_tries_45 ?_
      refine li_add hx hb dX1_tries_46 ?_
      refine va_put (D := G) (ci := 0) (v := .int (ii (ς 2 0 + 1))) (ty := .int) (C := RX1) (T := TX1) (N := 21) hx hb hts in_X1 tyX1 tyX1_ok nmX1 hown hK hP hD hS 0 (aD_0 _ _ _ _ _ _ _) rfl 7 (by decide) (hts _ q984) (fun _ h9 => h9) rfl (tyX1_ok 7 (by decide)) rfl rfl (Nat.le_of_ble_eq_true rfl) dX1_tries_47 (fun H locs hP hD hS => ?_)
      have hP : va_P G gcl (wD ad ty hv σ (up (up (up ς 0 (ug (ς 0) (ς 2 0) z26)) 1 (ug (ς 1) (ς 2 0) (mnV σ 4 (κ 36 0) (κ 38 0) (κ 39 0)))) 2 (sc (ς 2 0 + 1))) κ ++ cs) H := hP
      have hD : va_D A (wD ad ty hv σ (up (up (up ς 0 (ug (ς 0) (ς 2 0) z26)) 1 (ug (ς 1) (ς 2 0) (mnV σ 4 (κ 36 0) (κ 38 0) (κ 39 0)))) 2 (sc (ς 2 0 + 1))) κ ++ cs) := hD
      exact eMv hQ hx hb hr hlk hP hD hS (Nat.le_of_ble_eq_true rfl) (Nat.le_of_ble_eq_true rfl) dX1_tries_50 (⟨_, _, _, rfl, rfl, .inl ⟨h6, by rw [h26], rfl, rfl⟩⟩)
    · exfalso
      omega
  · refine lv_istore_n (lv' := [(3, .int (ii (-3))), (0, .ref (ad 0)), (1, .ref (ad 36)), (2, .ref (ad 8))]) hx hb dX1_tries_9 rfl hl (by decide) rfl (fun ls hl => ?_)
    refine lv_iload_n hx hb dX1_tries_10 rfl (lv_at hl 0 rfl) ?_
    refine li_bipush hx hb dX1_tries_11 (by decide) ?_
    refine li_icmp_ne (tgt := 17) hx hb ⟨by decide, by decide⟩ ⟨by decide, by decide⟩ dX1_tries_13 (by decide) (fun c13 => ?_) (fun c13 => ?_)
    · exact absurd c13 (by decide)
    · exact eMv hQ hx hb hr hlk hP hD hS (Nat.le_of_ble_eq_true rfl) (Nat.le_of_ble_eq_true rfl) dX1_tries_16 (⟨ς 0, ς 1, ς 2 0, rfl, rfl, .inr ⟨h6, rfl, rfl, rfl⟩⟩)
set_option maxHeartbeats 4000000 in
theorem m_tries_5N (l : Launch) (G : va_G) (ad : Nat → Nat) (ty : Nat → ClassId) (hv : Nat → Option Nat) (σ ς κ : mem) (cs : va_W)  (hW : wfF σ) (hWT : wfS (σ 6) (σ 7)) (hlgT : (0 < σ 9 0 → 0 ≤ σ 6 0 ∧ σ 6 0 < σ 8 0) ∧ (1 < σ 9 0 → 0 ≤ σ 6 1 ∧ σ 6 1 < σ 8 0) ∧ (2 < σ 9 0 → 0 ≤ σ 6 2 ∧ σ 6 2 < σ 8 0)) (hm : 0 ≤ κ 40 0 ∧ κ 40 0 ≤ 7 ∧ 0 ≤ κ 41 0 ∧ κ 41 0 ≤ 1 ∧ 0 ≤ κ 42 0 ∧ κ 42 0 ≤ 4 ∧ 0 ≤ κ 43 0 ∧ κ 43 0 ≤ 4) (hn : 0 ≤ ς 2 0 ∧ ς 2 0 < 400) : cM l yX1_tries (ws_ yX1_tries cX1_tries 4 none) (rm4 3 0 0 70) G ty (wD ad ty hv σ ς κ ++ cs) [.ref (ad 0), .ref (ad 37), .ref (ad 8)] 0 0 (fun r W' => ∃ (g0 g1 : Int → Int) (n' : Int), r = none ∧ W' = wD ad ty hv σ (up (up (up ς 0 g0) 1 g1) 2 (sc n')) κ ++ cs ∧ ((mnOk σ (σ 6) (σ 7) 5 (κ 40 0) (κ 41 0) (κ 42 0) (κ 43 0) ∧ g0 = ug (ς 0) (ς 2 0) (50000 + 1000 * (κ 40 0) + 100 * (κ 41 0) + 10 * (κ 42 0) + (κ 43 0)) ∧ g1 = ug (ς 1) (ς 2 0) (mnV σ 5 (κ 40 0) (κ 42 0) (κ 43 0)) ∧ n' = ς 2 0 + 1) ∨ (¬ mnOk σ (σ 6) (σ 7) 5 (κ 40 0) (κ 41 0) (κ 42 0) (κ 43 0) ∧ g0 = ς 0 ∧ g1 = ς 1 ∧ n' = ς 2 0))) := by
  refine cM.of (by decide) (Nat.le_of_ble_eq_true rfl) ?_
  intro p e s m args below meth c A Q H locs hQ hx hb hr hml hown hlk hname hts hK hP hD hS hA hX ls hl
  have hl : lv_has ls 4 [(0, .ref (ad 0)), (1, .ref (ad 37)), (2, .ref (ad 8))] := hl
  obtain ⟨hn1, hn2⟩ := id hn
  have hV := mnV_b (k := 5) (st := κ 40 0) (fr := κ 42 0) (to := κ 43 0) hW (by omega) (by omega) (by omega) (by omega) (by omega) (by omega)
  refine lv_aload_n hx hb dX1_tries_0 rfl (lv_at hl 1 rfl) ?_
  refine lv_aload_n hx hb dX1_tries_1 rfl (lv_at hl 0 rfl) ?_
  refine va_get (D := G) (ci := 0) (v := .ref (ad 1)) (C := RX1) (T := TX1) (N := 21) hx hb hts in_X1 hown hK hP 0 (aD_0 _ _ _ _ _ _ _) rfl 0 (by decide) (hts _ q977) (fun _ h9 => h9) rfl dX1_tries_2 ?_
  refine lv_aload_n hx hb dX1_tries_5 rfl (lv_at hl 2 rfl) ?_
  refine kR (va_runU (x := yX5_minutes) (As := [.ref (ad 1), .ref (ad 8)]) (rest := []) ⟨hx, hb, hml, hown, hts⟩ (m_minutes_10 l G ty (wD ad ty hv σ ς κ ++ cs) (fun k => 1 + k) (fun k => ad (1 + k)) σ (fun k => 8 + k) (fun k => ad (8 + k)) (σ 6) (σ 7) 37 (ad 37) (κ 40 0) (κ 41 0) (κ 42 0) (κ 43 0)  ⟨rfl, rfl, rfl, rfl, rfl, rfl, rfl⟩ (hW) ⟨rfl, rfl, rfl⟩ (hWT) rfl (hm) hlgT) (va_cwO (own := "DownRope") (index := 206) (C := "DownRope$Climb") (owner := "DownRope$Move") (x := yX5_minutes) (y := yX10_minutes) 2 hts (lw_app (lw_in _ [393, 396, 394, 397, 398, 85] (by decide +kernel) (by decide +kernel)) (lw_meth q399)) rfl rfl rfl q499 (by decide +kernel) ⟨Nat.le_of_ble_eq_true rfl, Nat.le_of_ble_eq_true rfl⟩) (pvR (r := (RX10, TX10, 4)) hK hP hD hX 37 (aD_37 _ _ _ _ _ _ _) rfl) rfl rfl hl.1 rfl (lv_room (Nat.le_of_ble_eq_true rfl)) dX1_tries_6 ⟨Nat.le_of_ble_eq_true rfl, Nat.le_of_ble_eq_true rfl⟩) (fun v hv => ?_)
  obtain ⟨z6, rfl, ⟨h6, rfl⟩ | ⟨h6, rfl⟩⟩ := hv
  · refine lv_istore_n (lv' := [(3, .int (ii (mnV σ 5 (κ 40 0) (κ 42 0) (κ 43 0)))), (0, .ref (ad 0)), (1, .ref (ad 37)), (2, .ref (ad 8))]) hx hb dX1_tries_9 rfl hl (by decide) rfl (fun ls hl => ?_)
    refine lv_iload_n hx hb dX1_tries_10 rfl (lv_at hl 0 rfl) ?_
    refine li_bipush hx hb dX1_tries_11 (by decide) ?_
    refine li_icmp_ne (tgt := 17) hx hb ⟨by omega, by omega⟩ ⟨by decide, by decide⟩ dX1_tries_13 (by decide) (fun c13 => ?_) (fun c13 => ?_)
    · refine lv_aload_n hx hb dX1_tries_17 rfl (lv_at hl 1 rfl) ?_
      refine va_get (D := G) (ci := 0) (v := .ref (ad 39)) (C := RX1) (T := TX1) (N := 21) hx hb hts in_X1 hown hK hP 0 (aD_0 _ _ _ _ _ _ _) rfl 5 (by decide) (hts _ q982) (fun _ h9 => h9) rfl dX1_tries_18 ?_
      refine lv_aload_n hx hb dX1_tries_21 rfl (lv_at hl 1 rfl) ?_
      refine va_get (D := G) (ci := 0) (v := .int (ii (ς 2 0))) (C := RX1) (T := TX1) (N := 21) hx hb hts in_X1 hown hK hP 0 (aD_0 _ _ _ _ _ _ _) rfl 7 (by decide) (hts _ q984) (fun _ h9 => h9) rfl dX1_tries_22 ?_
      refine lv_aload_n hx hb dX1_tries_25 rfl (lv_at hl 2 rfl) ?_
      refine kR (va_runU (x := yX5_told) (As := []) (rest := [.int (ii (ς 2 0)), .ref (ad 39)]) ⟨hx, hb, hml, hown, hts⟩ (m_told_10 l G ty (wD ad ty hv σ ς κ ++ cs) 37 (ad 37) (κ 40 0) (κ 41 0) (κ 42 0) (κ 43 0)  rfl (hm)) (va_cwU (own := "DownRope") (index := 219) (C := "DownRope$Climb") (owner := "DownRope$Move") (x := yX5_told) (y := yX5_told) 0 hts (lw_app (lw_in _ [557, 560, 561, 558, 80] (by decide +kernel) (by decide +kernel)) (lw_meth q567)) rfl rfl rfl rfl (by decide +kernel) ⟨Nat.le_of_ble_eq_true rfl, Nat.le_of_ble_eq_true rfl⟩) (pvR (r := (RX10, TX10, 4)) hK hP hD hX 37 (aD_37 _ _ _ _ _ _ _) rfl) rfl rfl hl.1 rfl (lv_room (Nat.le_of_ble_eq_true rfl)) dX1_tries_26 ⟨Nat.le_of_ble_eq_true rfl, Nat.le_of_ble_eq_true rfl⟩) (fun v hv => ?_)
      obtain ⟨z26, rfl, h26⟩ := hv
      refine li_iast (g := (ς 0)) (W2 := wD ad ty hv σ (up ς 0 (ug (ς 0) (ς 2 0) z26)) κ ++ cs) hx hb hK hP hD hS 39 0 (aD_39 _ _ _ _ _ _ _) rfl (by omega) (by omega) (by decide) rfl dX1_tries_29 (fun H locs hP hD hS => ?_)
      refine lv_aload_n hx hb dX1_tries_30 rfl (lv_at hl 1 rfl) ?_
      refine va_get (D := G) (ci := 0) (v := .ref (ad 40)) (C := RX1) (T := TX1) (N := 21) hx hb hts in_X1 hown hK hP 0 (aD_0 _ _ _ _ _ _ _) rfl 6 (by decide) (hts _ q983) (fun _ h9 => h9) rfl dX1_tries_31 ?_
      refine lv_aload_n hx hb dX1_tries_34 rfl (lv_at hl 1 rfl) ?_
      refine va_get (D := G) (ci := 0) (v := .int (ii (ς 2 0))) (C := RX1) (T := TX1) (N := 21) hx hb hts in_X1 hown hK hP 0 (aD_0 _ _ _ _ _ _ _) rfl 7 (by decide) (hts _ q984) (fun _ h9 => h9) rfl dX1_tries_35 ?_
      refine lv_iload_n hx hb dX1_tries_38 rfl (lv_at hl 0 rfl) ?_
      refine li_iast (g := (ς 1)) (W2 := wD ad ty hv σ (up (up ς 0 (ug (ς 0) (ς 2 0) z26)) 1 (ug (ς 1) (ς 2 0) (mnV σ 5 (κ 40 0) (κ 42 0) (κ 43 0)))) κ ++ cs) hx hb hK hP hD hS 40 0 (aD_40 _ _ _ _ _ _ _) rfl (by omega) (by omega) (by decide) rfl dX1_tries_39 (fun H locs hP hD hS => ?_)
      refine lv_aload_n hx hb dX1_tries_40 rfl (lv_at hl 1 rfl) ?_
      refine lv_dup hx hb dX1_tries_41 rfl ?_
      refine va_get (D := G) (ci := 0) (v := .int (ii (ς 2 0))) (C := RX1) (T := TX1) (N := 21) hx hb hts in_X1 hown hK hP 0 (aD_0 _ _ _ _ _ _ _) rfl 7 (by decide) (hts _ q984) (fun _ h9 => h9) rfl dX1_tries_42 ?_
      refine li_iconst hx hb dX1_tries_45 ?_
      refine li_add hx hb dX1_tries_46 ?_
      refine va_put (D := G) (ci := 0) (v := .int (ii (ς 2 0 + 1))) (ty := .int) (C := RX1) (T := TX1) (N := 21) hx hb hts in_X1 tyX1 tyX1_ok nmX1 hown hK hP hD hS 0 (aD_0 _ _ _ _ _ _ _) rfl 7 (by decide) (hts _ q984) (fun _ h9 => h9) rfl (tyX1_ok 7 (by decide)) rfl rfl (Nat.le_of_ble_eq_true rfl) dX1_tries_47 (fun H locs hP hD hS => ?_)
      have hP : va_P G gcl (wD ad ty hv σ (up (up (up ς 0 (ug (ς 0) (ς 2 0) z26)) 1 (ug (ς 1) (ς 2 0) (mnV σ 5 (κ 40 0) (κ 42 0) (κ 43 0)))) 2 (sc (ς 2 0 + 1))) κ ++ cs) H := hP
      have hD : va_D A (wD ad ty hv σ (up (up (up ς 0 (ug (ς 0) (ς 2 0) z26)) 1 (ug (ς 1) (ς 2 0) (mnV σ 5 (κ 40 0) (κ 42 0) (κ 43 0)))) 2 (sc (ς 2 0 + 1))) κ ++ cs) := hD
      exact eMv hQ hx hb hr hlk hP hD hS (Nat.le_of_ble_eq_true rfl) (Nat.le_of_ble_eq_true rfl) dX1_tries_50 (⟨_, _, _, rfl, rfl, .inl ⟨h6, by rw [h26], rfl, rfl⟩⟩)
    · exfalso
      omega
  · refine lv_istore_n (lv' := [(3, .int (ii (-3))), (0, .ref (ad 0)), (1, .ref (ad 37)), (2, .ref (ad 8))]) hx hb dX1_tries_9 rfl hl (by decide) rfl (fun ls hl => ?_)
    refine lv_iload_n hx hb dX1_tries_10 rfl (lv_at hl 0 rfl) ?_
    refine li_bipush hx hb dX1_tries_11 (by decide) ?_
    refine li_icmp_ne (tgt := 17) hx hb ⟨by decide, by decide⟩ ⟨by decide, by decide⟩ dX1_tries_13 (by decide) (fun c13 => ?_) (fun c13 => ?_)
    · exact absurd c13 (by decide)
    · exact eMv hQ hx hb hr hlk hP hD hS (Nat.le_of_ble_eq_true rfl) (Nat.le_of_ble_eq_true rfl) dX1_tries_16 (⟨ς 0, ς 1, ς 2 0, rfl, rfl, .inr ⟨h6, rfl, rfl, rfl⟩⟩)
set_option maxHeartbeats 4000000 in
theorem m_tries_6N (l : Launch) (G : va_G) (ad : Nat → Nat) (ty : Nat → ClassId) (hv : Nat → Option Nat) (σ ς κ : mem) (cs : va_W)  (hW : wfF σ) (hWT : wfS (σ 6) (σ 7)) (hlgT : (0 < σ 9 0 → 0 ≤ σ 6 0 ∧ σ 6 0 < σ 8 0) ∧ (1 < σ 9 0 → 0 ≤ σ 6 1 ∧ σ 6 1 < σ 8 0) ∧ (2 < σ 9 0 → 0 ≤ σ 6 2 ∧ σ 6 2 < σ 8 0)) (hm : 0 ≤ κ 44 0 ∧ κ 44 0 ≤ 7 ∧ 0 ≤ κ 45 0 ∧ κ 45 0 ≤ 1 ∧ 0 ≤ κ 46 0 ∧ κ 46 0 ≤ 4 ∧ 0 ≤ κ 47 0 ∧ κ 47 0 ≤ 4) (hn : 0 ≤ ς 2 0 ∧ ς 2 0 < 400) : cM l yX1_tries (ws_ yX1_tries cX1_tries 4 none) (rm4 3 0 0 67) G ty (wD ad ty hv σ ς κ ++ cs) [.ref (ad 0), .ref (ad 38), .ref (ad 8)] 0 0 (fun r W' => ∃ (g0 g1 : Int → Int) (n' : Int), r = none ∧ W' = wD ad ty hv σ (up (up (up ς 0 g0) 1 g1) 2 (sc n')) κ ++ cs ∧ ((mnOk σ (σ 6) (σ 7) 6 (κ 44 0) (κ 45 0) (κ 46 0) (κ 47 0) ∧ g0 = ug (ς 0) (ς 2 0) (60000 + 1000 * (κ 44 0) + 100 * (κ 45 0) + 10 * (κ 46 0) + (κ 47 0)) ∧ g1 = ug (ς 1) (ς 2 0) (mnV σ 6 (κ 44 0) (κ 46 0) (κ 47 0)) ∧ n' = ς 2 0 + 1) ∨ (¬ mnOk σ (σ 6) (σ 7) 6 (κ 44 0) (κ 45 0) (κ 46 0) (κ 47 0) ∧ g0 = ς 0 ∧ g1 = ς 1 ∧ n' = ς 2 0))) := by
  refine cM.of (by decide) (Nat.le_of_ble_eq_true rfl) ?_
  intro p e s m args below meth c A Q H locs hQ hx hb hr hml hown hlk hname hts hK hP hD hS hA hX ls hl
  have hl : lv_has ls 4 [(0, .ref (ad 0)), (1, .ref (ad 38)), (2, .ref (ad 8))] := hl
  obtain ⟨hn1, hn2⟩ := id hn
  have hV := mnV_b (k := 6) (st := κ 44 0) (fr := κ 46 0) (to := κ 47 0) hW (by omega) (by omega) (by omega) (by omega) (by omega) (by omega)
  refine lv_aload_n hx hb dX1_tries_0 rfl (lv_at hl 1 rfl) ?_
  refine lv_aload_n hx hb dX1_tries_1 rfl (lv_at hl 0 rfl) ?_
  refine va_get (D := G) (ci := 0) (v := .ref (ad 1)) (C := RX1) (T := TX1) (N := 21) hx hb hts in_X1 hown hK hP 0 (aD_0 _ _ _ _ _ _ _) rfl 0 (by decide) (hts _ q977) (fun _ h9 => h9) rfl dX1_tries_2 ?_
  refine lv_aload_n hx hb dX1_tries_5 rfl (lv_at hl 2 rfl) ?_
  refine kR (va_runU (x := yX5_minutes) (As := [.ref (ad 1), .ref (ad 8)]) (rest := []) ⟨hx, hb, hml, hown, hts⟩ (m_minutes_11 l G ty (wD ad ty hv σ ς κ ++ cs) (fun k => 1 + k) (fun k => ad (1 + k)) σ (fun k => 8 + k) (fun k => ad (8 + k)) (σ 6) (σ 7) 38 (ad 38) (κ 44 0) (κ 45 0) (κ 46 0) (κ 47 0)  ⟨rfl, rfl, rfl, rfl, rfl, rfl, rfl⟩ (hW) ⟨rfl, rfl, rfl⟩ (hWT) rfl (hm)) (va_cwO (own := "DownRope") (index := 206) (C := "DownRope$Throw") (owner := "DownRope$Move") (x := yX5_minutes) (y := yX11_minutes) 2 hts (lw_app (lw_in _ [393, 396, 394, 489, 490, 86] (by decide +kernel) (by decide +kernel)) (lw_meth q491)) rfl rfl rfl q499 (by decide +kernel) ⟨Nat.le_of_ble_eq_true rfl, Nat.le_of_ble_eq_true rfl⟩) (pvR (r := (RX11, TX11, 4)) hK hP hD hX 38 (aD_38 _ _ _ _ _ _ _) rfl) rfl rfl hl.1 rfl (lv_room (Nat.le_of_ble_eq_true rfl)) dX1_tries_6 ⟨Nat.le_of_ble_eq_true rfl, Nat.le_of_ble_eq_true rfl⟩) (fun v hv => ?_)
  obtain ⟨z6, rfl, ⟨h6, rfl⟩ | ⟨h6, rfl⟩⟩ := hv
  · refine lv_istore_n (lv' := [(3, .int (ii (mnV σ 6 (κ 44 0) (κ 46 0) (κ 47 0)))), (0, .ref (ad 0)), (1, .ref (ad 38)), (2, .ref (ad 8))]) hx hb dX1_tries_9 rfl hl (by decide) rfl (fun ls hl => ?_)
    refine lv_iload_n hx hb dX1_tries_10 rfl (lv_at hl 0 rfl) ?_
    refine li_bipush hx hb dX1_tries_11 (by decide) ?_
    refine li_icmp_ne (tgt := 17) hx hb ⟨by omega, by omega⟩ ⟨by decide, by decide⟩ dX1_tries_13 (by decide) (fun c13 => ?_) (fun c13 => ?_)
    · refine lv_aload_n hx hb dX1_tries_17 rfl (lv_at hl 1 rfl) ?_
      refine va_get (D := G) (ci := 0) (v := .ref (ad 39)) (C := RX1) (T := TX1) (N := 21) hx hb hts in_X1 hown hK hP 0 (aD_0 _ _ _ _ _ _ _) rfl 5 (by decide) (hts _ q982) (fun _ h9 => h9) rfl dX1_tries_18 ?_
      refine lv_aload_n hx hb dX1_tries_21 rfl (lv_at hl 1 rfl) ?_
      refine va_get (D := G) (ci := 0) (v := .int (ii (ς 2 0))) (C := RX1) (T := TX1) (N := 21) hx hb hts in_X1 hown hK hP 0 (aD_0 _ _ _ _ _ _ _) rfl 7 (by decide) (hts _ q984) (fun _ h9 => h9) rfl dX1_tries_22 ?_
      refine lv_aload_n hx hb dX1_tries_25 rfl (lv_at hl 2 rfl) ?_
      refine kR (va_runU (x := yX5_told) (As := []) (rest := [.int (ii (ς 2 0)), .ref (ad 39)]) ⟨hx, hb, hml, hown, hts⟩ (m_told_11 l G ty (wD ad ty hv σ ς κ ++ cs) 38 (ad 38) (κ 44 0) (κ 45 0) (κ 46 0) (κ 47 0)  rfl (hm)) (va_cwU (own := "DownRope") (index := 219) (C := "DownRope$Throw") (owner := "DownRope$Move") (x := yX5_told) (y := yX5_told) 0 hts (lw_app (lw_in _ [557, 560, 566, 558, 80] (by decide +kernel) (by decide +kernel)) (lw_meth q567)) rfl rfl rfl rfl (by decide +kernel) ⟨Nat.le_of_ble_eq_true rfl, Nat.le_of_ble_eq_true rfl⟩) (pvR (r := (RX11, TX11, 4)) hK hP hD hX 38 (aD_38 _ _ _ _ _ _ _) rfl) rfl rfl hl.1 rfl (lv_room (Nat.le_of_ble_eq_true rfl)) dX1_tries_26 ⟨Nat.le_of_ble_eq_true rfl, Nat.le_of_ble_eq_true rfl⟩) (fun v hv => ?_)
      obtain ⟨z26, rfl, h26⟩ := hv
      refine li_iast (g := (ς 0)) (W2 := wD ad ty hv σ (up ς 0 (ug (ς 0) (ς 2 0) z26)) κ ++ cs) hx hb hK hP hD hS 39 0 (aD_39 _ _ _ _ _ _ _) rfl (by omega) (by omega) (by decide) rfl dX1_tries_29 (fun H locs hP hD hS => ?_)
      refine lv_aload_n hx hb dX1_tries_30 rfl (lv_at hl 1 rfl) ?_
      refine va_get (D := G) (ci := 0) (v := .ref (ad 40)) (C := RX1) (T := TX1) (N := 21) hx hb hts in_X1 hown hK hP 0 (aD_0 _ _ _ _ _ _ _) rfl 6 (by decide) (hts _ q983) (fun _ h9 => h9) rfl dX1_tries_31 ?_
      refine lv_aload_n hx hb dX1_tries_34 rfl (lv_at hl 1 rfl) ?_
      refine va_get (D := G) (ci := 0) (v := .int (ii (ς 2 0))) (C := RX1) (T := TX1) (N := 21) hx hb hts in_X1 hown hK hP 0 (aD_0 _ _ _ _ _ _ _) rfl 7 (by decide) (hts _ q984) (fun _ h9 => h9) rfl dX1_tries_35 ?_
      refine lv_iload_n hx hb dX1_tries_38 rfl (lv_at hl 0 rfl) ?_
      refine li_iast (g := (ς 1)) (W2 := wD ad ty hv σ (up (up ς 0 (ug (ς 0) (ς 2 0) z26)) 1 (ug (ς 1) (ς 2 0) (mnV σ 6 (κ 44 0) (κ 46 0) (κ 47 0)))) κ ++ cs) hx hb hK hP hD hS 40 0 (aD_40 _ _ _ _ _ _ _) rfl (by omega) (by omega) (by decide) rfl dX1_tries_39 (fun H locs hP hD hS => ?_)
      refine lv_aload_n hx hb dX1_tries_40 rfl (lv_at hl 1 rfl) ?_
      refine lv_dup hx hb dX1_tries_41 rfl ?_
      refine va_get (D := G) (ci := 0) (v := .int (ii (ς 2 0))) (C := RX1) (T := TX1) (N := 21) hx hb hts in_X1 hown hK hP 0 (aD_0 _ _ _ _ _ _ _) rfl 7 (by decide) (hts _ q984) (fun _ h9 => h9) rfl dX1_tries_42 ?_
      refine li_iconst hx hb dX1_tries_45 ?_
      refine li_add hx hb dX1_tries_46 ?_
      refine va_put (D := G) (ci := 0) (v := .int (ii (ς 2 0 + 1))) (ty := .int) (C := RX1) (T := TX1) (N := 21) hx hb hts in_X1 tyX1 tyX1_ok nmX1 hown hK hP hD hS 0 (aD_0 _ _ _ _ _ _ _) rfl 7 (by decide) (hts _ q984) (fun _ h9 => h9) rfl (tyX1_ok 7 (by decide)) rfl rfl (Nat.le_of_ble_eq_true rfl) dX1_tries_47 (fun H locs hP hD hS => ?_)
      have hP : va_P G gcl (wD ad ty hv σ (up (up (up ς 0 (ug (ς 0) (ς 2 0) z26)) 1 (ug (ς 1) (ς 2 0) (mnV σ 6 (κ 44 0) (κ 46 0) (κ 47 0)))) 2 (sc (ς 2 0 + 1))) κ ++ cs) H := hP
      have hD : va_D A (wD ad ty hv σ (up (up (up ς 0 (ug (ς 0) (ς 2 0) z26)) 1 (ug (ς 1) (ς 2 0) (mnV σ 6 (κ 44 0) (κ 46 0) (κ 47 0)))) 2 (sc (ς 2 0 + 1))) κ ++ cs) := hD
      exact eMv hQ hx hb hr hlk hP hD hS (Nat.le_of_ble_eq_true rfl) (Nat.le_of_ble_eq_true rfl) dX1_tries_50 (⟨_, _, _, rfl, rfl, .inl ⟨h6, by rw [h26], rfl, rfl⟩⟩)
    · exfalso
      omega
  · refine lv_istore_n (lv' := [(3, .int (ii (-3))), (0, .ref (ad 0)), (1, .ref (ad 38)), (2, .ref (ad 8))]) hx hb dX1_tries_9 rfl hl (by decide) rfl (fun ls hl => ?_)
    refine lv_iload_n hx hb dX1_tries_10 rfl (lv_at hl 0 rfl) ?_
    refine li_bipush hx hb dX1_tries_11 (by decide) ?_
    refine li_icmp_ne (tgt := 17) hx hb ⟨by decide, by decide⟩ ⟨by decide, by decide⟩ dX1_tries_13 (by decide) (fun c13 => ?_) (fun c13 => ?_)
    · exact absurd c13 (by decide)
    · exact eMv hQ hx hb hr hlk hP hD hS (Nat.le_of_ble_eq_true rfl) (Nat.le_of_ble_eq_true rfl) dX1_tries_16 (⟨ς 0, ς 1, ς 2 0, rfl, rfl, .inr ⟨h6, rfl, rfl, rfl⟩⟩)
set_option maxHeartbeats 4000000 in
theorem m_ledgeOfT (l : Launch) (G : va_G) (ad : Nat → Nat) (ty : Nat → ClassId) (hv : Nat → Option Nat) (σ ς κ : mem) (cs : va_W) (st : Int) (hW : wfF σ) (hWT : wfS (ς 11) (ς 12)) (hst : 0 ≤ st ∧ st ≤ 7) : cR l yX1_ledgeOf (ws_ yX1_ledgeOf cX1_ledgeOf 5 (some .int)) (rm4 0 0 0 0) G ty (wD ad ty hv σ ς κ ++ cs) [.ref (ad 0), .int (ii st), .ref (ad 48)] (fun r => ∃ z : Int, r = some (.int (ii z)) ∧ (z = -4 ∨ (0 ≤ z ∧ z ≤ 4)) ∧ ∀ fr : Int, ¬ st = 0 → goP σ (ς 11) (st % 2) fr 0 0 → goP σ (ς 11) (st / 2 % 2) fr 0 1 → goP σ (ς 11) (st / 4 % 2) fr 0 2 → z = fr) := by
  refine cR.of (by decide) (Nat.le_of_ble_eq_true rfl) ?_
  intro p e s m args below meth c Q hQ hx hb hr hml hown hlk hts hK hP hD hX ls hl
  have hl : lv_has ls 5 [(0, .ref (ad 0)), (1, .int (ii st)), (2, .ref (ad 48))] := hl
  obtain ⟨hw0, hw1, hw2, hw3, hw4, hw5, h8a, h8b, h9a, h9b, h10a, h10b⟩ := id hW
  obtain ⟨hs0, hs1⟩ := id hWT
  obtain ⟨hst0, hst1⟩ := id hst
  refine li_bipush hx hb dX1_ledgeOf_0 (by decide) ?_
  refine lv_istore_n (lv' := [(3, .int (ii (-4))), (0, .ref (ad 0)), (1, .int (ii st)), (2, .ref (ad 48))]) hx hb dX1_ledgeOf_2 rfl hl (by decide) rfl (fun ls hl => ?_)
  refine li_iconst hx hb dX1_ledgeOf_3 ?_
  refine lv_istore (lv' := [(4, .int (ii 0)), (3, .int (ii (-4))), (0, .ref (ad 0)), (1, .int (ii st)), (2, .ref (ad 48))]) hx hb dX1_ledgeOf_4 hl (by decide) rfl (fun ls hl => ?_)
  refine lv_iload hx hb dX1_ledgeOf_6 (lv_at hl 0 rfl) ?_
  refine li_iconst hx hb dX1_ledgeOf_8 ?_
  refine li_icmp_ge (tgt := 70) hx hb ⟨by decide, by decide⟩ ⟨by decide, by decide⟩ dX1_ledgeOf_9 (by decide) (fun c9 => ?_) (fun c9 => ?_)
  · exact absurd c9 (by decide)
  · refine lv_iload_n hx hb dX1_ledgeOf_12 rfl (lv_at hl 3 rfl) ?_
    refine lv_iload hx hb dX1_ledgeOf_13 (lv_at hl 0 rfl) ?_
    refine lv_ishr hx hb dX1_ledgeOf_15 ?_
    refine li_topx (z := st) (ii_shr0 (by omega) (by omega)) ?_
    refine li_iconst hx hb dX1_ledgeOf_16 ?_
    refine lv_iand hx hb dX1_ledgeOf_17 ?_
    refine li_topx (z := st % 2) (ii_and1 (by omega) (by omega)) ?_
    refine li_if_ne (tgt := 24) hx hb ⟨by omega, by omega⟩ dX1_ledgeOf_18 (by decide) (fun c18 => ?_) (fun c18 => ?_)
    · refine lv_iload hx hb dX1_ledgeOf_24 (lv_at hl 0 rfl) ?_
      refine lv_aload_n hx hb dX1_ledgeOf_26 rfl (lv_at hl 2 rfl) ?_
      refine va_get (D := G) (ci := 0) (v := .ref (ad 1)) (C := RX1) (T := TX1) (N := 21) hx hb hts in_X1 hown hK hP 0 (aD_0 _ _ _ _ _ _ _) rfl 0 (by decide) (hts _ q977) (fun _ h9 => h9) rfl dX1_ledgeOf_27 ?_
      refine va_get (D := G) (ci := 1) (v := .int (ii (σ 9 0))) (C := RX2) (T := TX2) (N := 13) hx hb hts in_X2 hown hK hP 1 (aD_1 _ _ _ _ _ _ _) rfl 6 (by decide) (hts _ q790) (fun _ h9 => h9) rfl dX1_ledgeOf_30 ?_
      refine li_icmp_ge (tgt := 53) hx hb ⟨by decide, by decide⟩ (rgi h9a h9b) dX1_ledgeOf_33 (by decide) (fun c33 => ?_) (fun c33 => ?_)
      · refine li_bipush hx hb dX1_ledgeOf_53 (by decide) ?_
        exact eRi hQ hx hb hr hlk dX1_ledgeOf_55 (⟨_, rfl, by omega, fun fr h0 a1 a2 a3 => by unfold goP at a1 a2 a3; omega⟩)
      · refine lv_iload_n hx hb dX1_ledgeOf_36 rfl (lv_at hl 1 rfl) ?_
        refine li_bipush hx hb dX1_ledgeOf_37 (by decide) ?_
        refine li_icmp_eq (tgt := 56) hx hb ⟨by decide, by decide⟩ ⟨by decide, by decide⟩ dX1_ledgeOf_39 (by decide) (fun c39 => ?_) (fun c39 => ?_)
        · refine lv_aload_n hx hb dX1_ledgeOf_56 rfl (lv_at hl 4 rfl) ?_
          refine va_get (D := G) (ci := 2) (v := .ref (ad 49)) (C := RX3) (T := TX3) (N := 2) hx hb hts in_X3 hown hK hP 48 (aD_48 _ _ _ _ _ _ _) rfl 0 (by decide) (hts _ q657) (fun _ h9 => h9) rfl dX1_ledgeOf_57 ?_
          refine lv_iload hx hb dX1_ledgeOf_60 (lv_at hl 0 rfl) ?_
          refine li_iald (g := (ς 11)) hx hb hK hP 49 0 (aD_49 _ _ _ _ _ _ _) rfl (by decide) (by decide) (by decide) dX1_ledgeOf_62 ?_
          have r63 := hs0 0
          refine lv_istore_n (lv' := [(3, .int (ii (ς 11 0))), (4, .int (ii 0)), (0, .ref (ad 0)), (1, .int (ii st)), (2, .ref (ad 48))]) hx hb dX1_ledgeOf_63 rfl hl (by decide) rfl (fun ls hl => ?_)
          refine li_iinc (a := 0) (lv' := [(4, .int (ii 1)), (3, .int (ii (ς 11 0))), (0, .ref (ad 0)), (1, .int (ii st)), (2, .ref (ad 48))]) hx hb dX1_ledgeOf_64 hl (k := 1) rfl (by decide) rfl (fun ls hl => ?_)
          refine lv_goto (tgt := 6) hx hb dX1_ledgeOf_67 (by decide) ?_
          refine lv_iload hx hb dX1_ledgeOf_6 (lv_at hl 0 rfl) ?_
          refine li_iconst hx hb dX1_ledgeOf_8 ?_
          refine li_icmp_ge (tgt := 70) hx hb ⟨by decide, by decide⟩ ⟨by decide, by decide⟩ dX1_ledgeOf_9 (by decide) (fun c9 => ?_) (fun c9 => ?_)
          · exact absurd c9 (by decide)
          · refine lv_iload_n hx hb dX1_ledgeOf_12 rfl (lv_at hl 3 rfl) ?_
            refine lv_iload hx hb dX1_ledgeOf_13 (lv_at hl 0 rfl) ?_
            refine lv_ishr hx hb dX1_ledgeOf_15 ?_
            refine li_topx (z := st / 2) (ii_shr1 (by omega) (by omega)) ?_
            refine li_iconst hx hb dX1_ledgeOf_16 ?_
            refine lv_iand hx hb dX1_ledgeOf_17 ?_
            refine li_topx (z := (st / 2) % 2) (ii_and1 (by omega) (by omega)) ?_
            refine li_if_ne (tgt := 24) hx hb ⟨by omega, by omega⟩ dX1_ledgeOf_18 (by decide) (fun c18 => ?_) (fun c18 => ?_)
            · refine lv_iload hx hb dX1_ledgeOf_24 (lv_at hl 0 rfl) ?_
              refine lv_aload_n hx hb dX1_ledgeOf_26 rfl (lv_at hl 2 rfl) ?_
              refine va_get (D := G) (ci := 0) (v := .ref (ad 1)) (C := RX1) (T := TX1) (N := 21) hx hb hts in_X1 hown hK hP 0 (aD_0 _ _ _ _ _ _ _) rfl 0 (by decide) (hts _ q977) (fun _ h9 => h9) rfl dX1_ledgeOf_27 ?_
              refine va_get (D := G) (ci := 1) (v := .int (ii (σ 9 0))) (C := RX2) (T := TX2) (N := 13) hx hb hts in_X2 hown hK hP 1 (aD_1 _ _ _ _ _ _ _) rfl 6 (by decide) (hts _ q790) (fun _ h9 => h9) rfl dX1_ledgeOf_30 ?_
              refine li_icmp_ge (tgt := 53) hx hb ⟨by decide, by decide⟩ (rgi h9a h9b) dX1_ledgeOf_33 (by decide) (fun c33 => ?_) (fun c33 => ?_)
              · refine li_bipush hx hb dX1_ledgeOf_53 (by decide) ?_
                exact eRi hQ hx hb hr hlk dX1_ledgeOf_55 (⟨_, rfl, by omega, fun fr h0 a1 a2 a3 => by unfold goP at a1 a2 a3; omega⟩)
              · refine lv_iload_n hx hb dX1_ledgeOf_36 rfl (lv_at hl 1 rfl) ?_
                refine li_bipush hx hb dX1_ledgeOf_37 (by decide) ?_
                refine li_icmp_eq (tgt := 56) hx hb (rgi r63.1 r63.2) ⟨by decide, by decide⟩ dX1_ledgeOf_39 (by decide) (fun c39 => ?_) (fun c39 => ?_)
                · refine lv_aload_n hx hb dX1_ledgeOf_56 rfl (lv_at hl 4 rfl) ?_
                  refine va_get (D := G) (ci := 2) (v := .ref (ad 49)) (C := RX3) (T := TX3) (N := 2) hx hb hts in_X3 hown hK hP 48 (aD_48 _ _ _ _ _ _ _) rfl 0 (by decide) (hts _ q657) (fun _ h9 => h9) rfl dX1_ledgeOf_57 ?_
                  refine lv_iload hx hb dX1_ledgeOf_60 (lv_at hl 0 rfl) ?_
                  refine li_iald (g := (ς 11)) hx hb hK hP 49 0 (aD_49 _ _ _ _ _ _ _) rfl (by decide) (by decide) (by decide) dX1_ledgeOf_62 ?_
                  have r63_1 := hs0 1
                  refine lv_istore_n (lv' := [(3, .int (ii (ς 11 1))), (4, .int (ii 1)), (0, .ref (ad 0)), (1, .int (ii st)), (2, .ref (ad 48))]) hx hb dX1_ledgeOf_63 rfl hl (by decide) rfl (fun ls hl => ?_)
                  refine li_iinc (a := 1) (lv' := [(4, .int (ii 2)), (3, .int (ii (ς 11 1))), (0, .ref (ad 0)), (1, .int (ii st)), (2, .ref (ad 48))]) hx hb dX1_ledgeOf_64 hl (k := 1) rfl (by decide) rfl (fun ls hl => ?_)
                  refine lv_goto (tgt := 6) hx hb dX1_ledgeOf_67 (by decide) ?_
                  refine lv_iload hx hb dX1_ledgeOf_6 (lv_at hl 0 rfl) ?_
                  refine li_iconst hx hb dX1_ledgeOf_8 ?_
                  refine li_icmp_ge (tgt := 70) hx hb ⟨by decide, by decide⟩ ⟨by decide, by decide⟩ dX1_ledgeOf_9 (by decide) (fun c9 => ?_) (fun c9 => ?_)
                  · exact absurd c9 (by decide)
                  · refine lv_iload_n hx hb dX1_ledgeOf_12 rfl (lv_at hl 3 rfl) ?_
                    refine lv_iload hx hb dX1_ledgeOf_13 (lv_at hl 0 rfl) ?_
                    refine lv_ishr hx hb dX1_ledgeOf_15 ?_
                    refine li_topx (z := st / 4) (ii_shr2 (by omega) (by omega)) ?_
                    refine li_iconst hx hb dX1_ledgeOf_16 ?_
                    refine lv_iand hx hb dX1_ledgeOf_17 ?_
                    refine li_topx (z := (st / 4) % 2) (ii_and1 (by omega) (by omega)) ?_
                    refine li_if_ne (tgt := 24) hx hb ⟨by omega, by omega⟩ dX1_ledgeOf_18 (by decide) (fun c18 => ?_) (fun c18 => ?_)
                    · refine lv_iload hx hb dX1_ledgeOf_24 (lv_at hl 0 rfl) ?_
                      refine lv_aload_n hx hb dX1_ledgeOf_26 rfl (lv_at hl 2 rfl) ?_
                      refine va_get (D := G) (ci := 0) (v := .ref (ad 1)) (C := RX1) (T := TX1) (N := 21) hx hb hts in_X1 hown hK hP 0 (aD_0 _ _ _ _ _ _ _) rfl 0 (by decide) (hts _ q977) (fun _ h9 => h9) rfl dX1_ledgeOf_27 ?_
                      refine va_get (D := G) (ci := 1) (v := .int (ii (σ 9 0))) (C := RX2) (T := TX2) (N := 13) hx hb hts in_X2 hown hK hP 1 (aD_1 _ _ _ _ _ _ _) rfl 6 (by decide) (hts _ q790) (fun _ h9 => h9) rfl dX1_ledgeOf_30 ?_
                      refine li_icmp_ge (tgt := 53) hx hb ⟨by decide, by decide⟩ (rgi h9a h9b) dX1_ledgeOf_33 (by decide) (fun c33 => ?_) (fun c33 => ?_)
                      · refine li_bipush hx hb dX1_ledgeOf_53 (by decide) ?_
                        exact eRi hQ hx hb hr hlk dX1_ledgeOf_55 (⟨_, rfl, by omega, fun fr h0 a1 a2 a3 => by unfold goP at a1 a2 a3; omega⟩)
                      · refine lv_iload_n hx hb dX1_ledgeOf_36 rfl (lv_at hl 1 rfl) ?_
                        refine li_bipush hx hb dX1_ledgeOf_37 (by decide) ?_
                        refine li_icmp_eq (tgt := 56) hx hb (rgi r63_1.1 r63_1.2) ⟨by decide, by decide⟩ dX1_ledgeOf_39 (by decide) (fun c39 => ?_) (fun c39 => ?_)
                        · refine lv_aload_n hx hb dX1_ledgeOf_56 rfl (lv_at hl 4 rfl) ?_
                          refine va_get (D := G) (ci := 2) (v := .ref (ad 49)) (C := RX3) (T := TX3) (N := 2) hx hb hts in_X3 hown hK hP 48 (aD_48 _ _ _ _ _ _ _) rfl 0 (by decide) (hts _ q657) (fun _ h9 => h9) rfl dX1_ledgeOf_57 ?_
                          refine lv_iload hx hb dX1_ledgeOf_60 (lv_at hl 0 rfl) ?_
                          refine li_iald (g := (ς 11)) hx hb hK hP 49 0 (aD_49 _ _ _ _ _ _ _) rfl (by decide) (by decide) (by decide) dX1_ledgeOf_62 ?_
                          have r63_2 := hs0 2
                          refine lv_istore_n (lv' := [(3, .int (ii (ς 11 2))), (4, .int (ii 2)), (0, .ref (ad 0)), (1, .int (ii st)), (2, .ref (ad 48))]) hx hb dX1_ledgeOf_63 rfl hl (by decide) rfl (fun ls hl => ?_)
                          refine li_iinc (a := 2) (lv' := [(4, .int (ii 3)), (3, .int (ii (ς 11 2))), (0, .ref (ad 0)), (1, .int (ii st)), (2, .ref (ad 48))]) hx hb dX1_ledgeOf_64 hl (k := 1) rfl (by decide) rfl (fun ls hl => ?_)
                          refine lv_goto (tgt := 6) hx hb dX1_ledgeOf_67 (by decide) ?_
                          refine lv_iload hx hb dX1_ledgeOf_6 (lv_at hl 0 rfl) ?_
                          refine li_iconst hx hb dX1_ledgeOf_8 ?_
                          refine li_icmp_ge (tgt := 70) hx hb ⟨by decide, by decide⟩ ⟨by decide, by decide⟩ dX1_ledgeOf_9 (by decide) (fun c9 => ?_) (fun c9 => ?_)
                          · refine lv_iload_n hx hb dX1_ledgeOf_70 rfl (lv_at hl 1 rfl) ?_
                            exact eRi hQ hx hb hr hlk dX1_ledgeOf_71 (⟨_, rfl, by omega, fun fr h0 a1 a2 a3 => by unfold goP at a1 a2 a3; omega⟩)
                          · exact absurd c9 (by decide)
                        · refine lv_iload_n hx hb dX1_ledgeOf_42 rfl (lv_at hl 1 rfl) ?_
                          refine lv_aload_n hx hb dX1_ledgeOf_43 rfl (lv_at hl 4 rfl) ?_
                          refine va_get (D := G) (ci := 2) (v := .ref (ad 49)) (C := RX3) (T := TX3) (N := 2) hx hb hts in_X3 hown hK hP 48 (aD_48 _ _ _ _ _ _ _) rfl 0 (by decide) (hts _ q657) (fun _ h9 => h9) rfl dX1_ledgeOf_44 ?_
                          refine lv_iload hx hb dX1_ledgeOf_47 (lv_at hl 0 rfl) ?_
                          refine li_iald (g := (ς 11)) hx hb hK hP 49 0 (aD_49 _ _ _ _ _ _ _) rfl (by decide) (by decide) (by decide) dX1_ledgeOf_49 ?_
                          have r50 := hs0 2
                          refine li_icmp_eq (tgt := 56) hx hb (rgi r63_1.1 r63_1.2) (rgi r50.1 r50.2) dX1_ledgeOf_50 (by decide) (fun c50 => ?_) (fun c50 => ?_)
                          · refine lv_aload_n hx hb dX1_ledgeOf_56 rfl (lv_at hl 4 rfl) ?_
                            refine va_get (D := G) (ci := 2) (v := .ref (ad 49)) (C := RX3) (T := TX3) (N := 2) hx hb hts in_X3 hown hK hP 48 (aD_48 _ _ _ _ _ _ _) rfl 0 (by decide) (hts _ q657) (fun _ h9 => h9) rfl dX1_ledgeOf_57 ?_
                            refine lv_iload hx hb dX1_ledgeOf_60 (lv_at hl 0 rfl) ?_
                            refine li_iald (g := (ς 11)) hx hb hK hP 49 0 (aD_49 _ _ _ _ _ _ _) rfl (by decide) (by decide) (by decide) dX1_ledgeOf_62 ?_
                            have r63_2 := hs0 2
                            refine lv_istore_n (lv' := [(3, .int (ii (ς 11 2))), (4, .int (ii 2)), (0, .ref (ad 0)), (1, .int (ii st)), (2, .ref (ad 48))]) hx hb dX1_ledgeOf_63 rfl hl (by decide) rfl (fun ls hl => ?_)
                            refine li_iinc (a := 2) (lv' := [(4, .int (ii 3)), (3, .int (ii (ς 11 2))), (0, .ref (ad 0)), (1, .int (ii st)), (2, .ref (ad 48))]) hx hb dX1_ledgeOf_64 hl (k := 1) rfl (by decide) rfl (fun ls hl => ?_)
                            refine lv_goto (tgt := 6) hx hb dX1_ledgeOf_67 (by decide) ?_
                            refine lv_iload hx hb dX1_ledgeOf_6 (lv_at hl 0 rfl) ?_
                            refine li_iconst hx hb dX1_ledgeOf_8 ?_
                            refine li_icmp_ge (tgt := 70) hx hb ⟨by decide, by decide⟩ ⟨by decide, by decide⟩ dX1_ledgeOf_9 (by decide) (fun c9 => ?_) (fun c9 => ?_)
                            · refine lv_iload_n hx hb dX1_ledgeOf_70 rfl (lv_at hl 1 rfl) ?_
                              exact eRi hQ hx hb hr hlk dX1_ledgeOf_71 (⟨_, rfl, by omega, fun fr h0 a1 a2 a3 => by unfold goP at a1 a2 a3; omega⟩)
                            · exact absurd c9 (by decide)
                          · refine li_bipush hx hb dX1_ledgeOf_53 (by decide) ?_
                            exact eRi hQ hx hb hr hlk dX1_ledgeOf_55 (⟨_, rfl, by omega, fun fr h0 a1 a2 a3 => by unfold goP at a1 a2 a3; omega⟩)
                    · refine lv_goto (tgt := 64) hx hb dX1_ledgeOf_21 (by decide) ?_
                      refine li_iinc (a := 2) (lv' := [(4, .int (ii 3)), (3, .int (ii (ς 11 1))), (0, .ref (ad 0)), (1, .int (ii st)), (2, .ref (ad 48))]) hx hb dX1_ledgeOf_64 hl (k := 0) rfl (by decide) rfl (fun ls hl => ?_)
                      refine lv_goto (tgt := 6) hx hb dX1_ledgeOf_67 (by decide) ?_
                      refine lv_iload hx hb dX1_ledgeOf_6 (lv_at hl 0 rfl) ?_
                      refine li_iconst hx hb dX1_ledgeOf_8 ?_
                      refine li_icmp_ge (tgt := 70) hx hb ⟨by decide, by decide⟩ ⟨by decide, by decide⟩ dX1_ledgeOf_9 (by decide) (fun c9 => ?_) (fun c9 => ?_)
                      · refine lv_iload_n hx hb dX1_ledgeOf_70 rfl (lv_at hl 1 rfl) ?_
                        exact eRi hQ hx hb hr hlk dX1_ledgeOf_71 (⟨_, rfl, by omega, fun fr h0 a1 a2 a3 => by unfold goP at a1 a2 a3; omega⟩)
                      · exact absurd c9 (by decide)
                · refine lv_iload_n hx hb dX1_ledgeOf_42 rfl (lv_at hl 1 rfl) ?_
                  refine lv_aload_n hx hb dX1_ledgeOf_43 rfl (lv_at hl 4 rfl) ?_
                  refine va_get (D := G) (ci := 2) (v := .ref (ad 49)) (C := RX3) (T := TX3) (N := 2) hx hb hts in_X3 hown hK hP 48 (aD_48 _ _ _ _ _ _ _) rfl 0 (by decide) (hts _ q657) (fun _ h9 => h9) rfl dX1_ledgeOf_44 ?_
                  refine lv_iload hx hb dX1_ledgeOf_47 (lv_at hl 0 rfl) ?_
                  refine li_iald (g := (ς 11)) hx hb hK hP 49 0 (aD_49 _ _ _ _ _ _ _) rfl (by decide) (by decide) (by decide) dX1_ledgeOf_49 ?_
                  have r50 := hs0 1
                  refine li_icmp_eq (tgt := 56) hx hb (rgi r63.1 r63.2) (rgi r50.1 r50.2) dX1_ledgeOf_50 (by decide) (fun c50 => ?_) (fun c50 => ?_)
                  · refine lv_aload_n hx hb dX1_ledgeOf_56 rfl (lv_at hl 4 rfl) ?_
                    refine va_get (D := G) (ci := 2) (v := .ref (ad 49)) (C := RX3) (T := TX3) (N := 2) hx hb hts in_X3 hown hK hP 48 (aD_48 _ _ _ _ _ _ _) rfl 0 (by decide) (hts _ q657) (fun _ h9 => h9) rfl dX1_ledgeOf_57 ?_
                    refine lv_iload hx hb dX1_ledgeOf_60 (lv_at hl 0 rfl) ?_
                    refine li_iald (g := (ς 11)) hx hb hK hP 49 0 (aD_49 _ _ _ _ _ _ _) rfl (by decide) (by decide) (by decide) dX1_ledgeOf_62 ?_
                    have r63_1 := hs0 1
                    refine lv_istore_n (lv' := [(3, .int (ii (ς 11 1))), (4, .int (ii 1)), (0, .ref (ad 0)), (1, .int (ii st)), (2, .ref (ad 48))]) hx hb dX1_ledgeOf_63 rfl hl (by decide) rfl (fun ls hl => ?_)
                    refine li_iinc (a := 1) (lv' := [(4, .int (ii 2)), (3, .int (ii (ς 11 1))), (0, .ref (ad 0)), (1, .int (ii st)), (2, .ref (ad 48))]) hx hb dX1_ledgeOf_64 hl (k := 1) rfl (by decide) rfl (fun ls hl => ?_)
                    refine lv_goto (tgt := 6) hx hb dX1_ledgeOf_67 (by decide) ?_
                    refine lv_iload hx hb dX1_ledgeOf_6 (lv_at hl 0 rfl) ?_
                    refine li_iconst hx hb dX1_ledgeOf_8 ?_
                    refine li_icmp_ge (tgt := 70) hx hb ⟨by decide, by decide⟩ ⟨by decide, by decide⟩ dX1_ledgeOf_9 (by decide) (fun c9 => ?_) (fun c9 => ?_)
                    · exact absurd c9 (by decide)
                    · refine lv_iload_n hx hb dX1_ledgeOf_12 rfl (lv_at hl 3 rfl) ?_
                      refine lv_iload hx hb dX1_ledgeOf_13 (lv_at hl 0 rfl) ?_
                      refine lv_ishr hx hb dX1_ledgeOf_15 ?_
                      refine li_topx (z := st / 4) (ii_shr2 (by omega) (by omega)) ?_
                      refine li_iconst hx hb dX1_ledgeOf_16 ?_
                      refine lv_iand hx hb dX1_ledgeOf_17 ?_
                      refine li_topx (z := (st / 4) % 2) (ii_and1 (by omega) (by omega)) ?_
                      refine li_if_ne (tgt := 24) hx hb ⟨by omega, by omega⟩ dX1_ledgeOf_18 (by decide) (fun c18 => ?_) (fun c18 => ?_)
                      · refine lv_iload hx hb dX1_ledgeOf_24 (lv_at hl 0 rfl) ?_
                        refine lv_aload_n hx hb dX1_ledgeOf_26 rfl (lv_at hl 2 rfl) ?_
                        refine va_get (D := G) (ci := 0) (v := .ref (ad 1)) (C := RX1) (T := TX1) (N := 21) hx hb hts in_X1 hown hK hP 0 (aD_0 _ _ _ _ _ _ _) rfl 0 (by decide) (hts _ q977) (fun _ h9 => h9) rfl dX1_ledgeOf_27 ?_
                        refine va_get (D := G) (ci := 1) (v := .int (ii (σ 9 0))) (C := RX2) (T := TX2) (N := 13) hx hb hts in_X2 hown hK hP 1 (aD_1 _ _ _ _ _ _ _) rfl 6 (by decide) (hts _ q790) (fun _ h9 => h9) rfl dX1_ledgeOf_30 ?_
                        refine li_icmp_ge (tgt := 53) hx hb ⟨by decide, by decide⟩ (rgi h9a h9b) dX1_ledgeOf_33 (by decide) (fun c33 => ?_) (fun c33 => ?_)
                        · refine li_bipush hx hb dX1_ledgeOf_53 (by decide) ?_
                          exact eRi hQ hx hb hr hlk dX1_ledgeOf_55 (⟨_, rfl, by omega, fun fr h0 a1 a2 a3 => by unfold goP at a1 a2 a3; omega⟩)
                        · refine lv_iload_n hx hb dX1_ledgeOf_36 rfl (lv_at hl 1 rfl) ?_
                          refine li_bipush hx hb dX1_ledgeOf_37 (by decide) ?_
                          refine li_icmp_eq (tgt := 56) hx hb (rgi r63_1.1 r63_1.2) ⟨by decide, by decide⟩ dX1_ledgeOf_39 (by decide) (fun c39 => ?_) (fun c39 => ?_)
                          · refine lv_aload_n hx hb dX1_ledgeOf_56 rfl (lv_at hl 4 rfl) ?_
                            refine va_get (D := G) (ci := 2) (v := .ref (ad 49)) (C := RX3) (T := TX3) (N := 2) hx hb hts in_X3 hown hK hP 48 (aD_48 _ _ _ _ _ _ _) rfl 0 (by decide) (hts _ q657) (fun _ h9 => h9) rfl dX1_ledgeOf_57 ?_
                            refine lv_iload hx hb dX1_ledgeOf_60 (lv_at hl 0 rfl) ?_
                            refine li_iald (g := (ς 11)) hx hb hK hP 49 0 (aD_49 _ _ _ _ _ _ _) rfl (by decide) (by decide) (by decide) dX1_ledgeOf_62 ?_
                            have r63_2 := hs0 2
                            refine lv_istore_n (lv' := [(3, .int (ii (ς 11 2))), (4, .int (ii 2)), (0, .ref (ad 0)), (1, .int (ii st)), (2, .ref (ad 48))]) hx hb dX1_ledgeOf_63 rfl hl (by decide) rfl (fun ls hl => ?_)
                            refine li_iinc (a := 2) (lv' := [(4, .int (ii 3)), (3, .int (ii (ς 11 2))), (0, .ref (ad 0)), (1, .int (ii st)), (2, .ref (ad 48))]) hx hb dX1_ledgeOf_64 hl (k := 1) rfl (by decide) rfl (fun ls hl => ?_)
                            refine lv_goto (tgt := 6) hx hb dX1_ledgeOf_67 (by decide) ?_
                            refine lv_iload hx hb dX1_ledgeOf_6 (lv_at hl 0 rfl) ?_
                            refine li_iconst hx hb dX1_ledgeOf_8 ?_
                            refine li_icmp_ge (tgt := 70) hx hb ⟨by decide, by decide⟩ ⟨by decide, by decide⟩ dX1_ledgeOf_9 (by decide) (fun c9 => ?_) (fun c9 => ?_)
                            · refine lv_iload_n hx hb dX1_ledgeOf_70 rfl (lv_at hl 1 rfl) ?_
                              exact eRi hQ hx hb hr hlk dX1_ledgeOf_71 (⟨_, rfl, by omega, fun fr h0 a1 a2 a3 => by unfold goP at a1 a2 a3; omega⟩)
                            · exact absurd c9 (by decide)
                          · refine lv_iload_n hx hb dX1_ledgeOf_42 rfl (lv_at hl 1 rfl) ?_
                            refine lv_aload_n hx hb dX1_ledgeOf_43 rfl (lv_at hl 4 rfl) ?_
                            refine va_get (D := G) (ci := 2) (v := .ref (ad 49)) (C := RX3) (T := TX3) (N := 2) hx hb hts in_X3 hown hK hP 48 (aD_48 _ _ _ _ _ _ _) rfl 0 (by decide) (hts _ q657) (fun _ h9 => h9) rfl dX1_ledgeOf_44 ?_
                            refine lv_iload hx hb dX1_ledgeOf_47 (lv_at hl 0 rfl) ?_
                            refine li_iald (g := (ς 11)) hx hb hK hP 49 0 (aD_49 _ _ _ _ _ _ _) rfl (by decide) (by decide) (by decide) dX1_ledgeOf_49 ?_
                            have r50_1 := hs0 2
                            refine li_icmp_eq (tgt := 56) hx hb (rgi r63_1.1 r63_1.2) (rgi r50_1.1 r50_1.2) dX1_ledgeOf_50 (by decide) (fun c50 => ?_) (fun c50 => ?_)
                            · refine lv_aload_n hx hb dX1_ledgeOf_56 rfl (lv_at hl 4 rfl) ?_
                              refine va_get (D := G) (ci := 2) (v := .ref (ad 49)) (C := RX3) (T := TX3) (N := 2) hx hb hts in_X3 hown hK hP 48 (aD_48 _ _ _ _ _ _ _) rfl 0 (by decide) (hts _ q657) (fun _ h9 => h9) rfl dX1_ledgeOf_57 ?_
                              refine lv_iload hx hb dX1_ledgeOf_60 (lv_at hl 0 rfl) ?_
                              refine li_iald (g := (ς 11)) hx hb hK hP 49 0 (aD_49 _ _ _ _ _ _ _) rfl (by decide) (by decide) (by decide) dX1_ledgeOf_62 ?_
                              have r63_2 := hs0 2
                              refine lv_istore_n (lv' := [(3, .int (ii (ς 11 2))), (4, .int (ii 2)), (0, .ref (ad 0)), (1, .int (ii st)), (2, .ref (ad 48))]) hx hb dX1_ledgeOf_63 rfl hl (by decide) rfl (fun ls hl => ?_)
                              refine li_iinc (a := 2) (lv' := [(4, .int (ii 3)), (3, .int (ii (ς 11 2))), (0, .ref (ad 0)), (1, .int (ii st)), (2, .ref (ad 48))]) hx hb dX1_ledgeOf_64 hl (k := 1) rfl (by decide) rfl (fun ls hl => ?_)
                              refine lv_goto (tgt := 6) hx hb dX1_ledgeOf_67 (by decide) ?_
                              refine lv_iload hx hb dX1_ledgeOf_6 (lv_at hl 0 rfl) ?_
                              refine li_iconst hx hb dX1_ledgeOf_8 ?_
                              refine li_icmp_ge (tgt := 70) hx hb ⟨by decide, by decide⟩ ⟨by decide, by decide⟩ dX1_ledgeOf_9 (by decide) (fun c9 => ?_) (fun c9 => ?_)
                              · refine lv_iload_n hx hb dX1_ledgeOf_70 rfl (lv_at hl 1 rfl) ?_
                                exact eRi hQ hx hb hr hlk dX1_ledgeOf_71 (⟨_, rfl, by omega, fun fr h0 a1 a2 a3 => by unfold goP at a1 a2 a3; omega⟩)
                              · exact absurd c9 (by decide)
                            · refine li_bipush hx hb dX1_ledgeOf_53 (by decide) ?_
                              exact eRi hQ hx hb hr hlk dX1_ledgeOf_55 (⟨_, rfl, by omega, fun fr h0 a1 a2 a3 => by unfold goP at a1 a2 a3; omega⟩)
                      · refine lv_goto (tgt := 64) hx hb dX1_ledgeOf_21 (by decide) ?_
                        refine li_iinc (a := 2) (lv' := [(4, .int (ii 3)), (3, .int (ii (ς 11 1))), (0, .ref (ad 0)), (1, .int (ii st)), (2, .ref (ad 48))]) hx hb dX1_ledgeOf_64 hl (k := 0) rfl (by decide) rfl (fun ls hl => ?_)
                        refine lv_goto (tgt := 6) hx hb dX1_ledgeOf_67 (by decide) ?_
                        refine lv_iload hx hb dX1_ledgeOf_6 (lv_at hl 0 rfl) ?_
                        refine li_iconst hx hb dX1_ledgeOf_8 ?_
                        refine li_icmp_ge (tgt := 70) hx hb ⟨by decide, by decide⟩ ⟨by decide, by decide⟩ dX1_ledgeOf_9 (by decide) (fun c9 => ?_) (fun c9 => ?_)
                        · refine lv_iload_n hx hb dX1_ledgeOf_70 rfl (lv_at hl 1 rfl) ?_
                          exact eRi hQ hx hb hr hlk dX1_ledgeOf_71 (⟨_, rfl, by omega, fun fr h0 a1 a2 a3 => by unfold goP at a1 a2 a3; omega⟩)
                        · exact absurd c9 (by decide)
                  · refine li_bipush hx hb dX1_ledgeOf_53 (by decide) ?_
                    exact eRi hQ hx hb hr hlk dX1_ledgeOf_55 (⟨_, rfl, by omega, fun fr h0 a1 a2 a3 => by unfold goP at a1 a2 a3; omega⟩)
            · refine lv_goto (tgt := 64) hx hb dX1_ledgeOf_21 (by decide) ?_
              refine li_iinc (a := 1) (lv' := [(4, .int (ii 2)), (3, .int (ii (ς 11 0))), (0, .ref (ad 0)), (1, .int (ii st)), (2, .ref (ad 48))]) hx hb dX1_ledgeOf_64 hl (k := 0) rfl (by decide) rfl (fun ls hl => ?_)
              refine lv_goto (tgt := 6) hx hb dX1_ledgeOf_67 (by decide) ?_
              refine lv_iload hx hb dX1_ledgeOf_6 (lv_at hl 0 rfl) ?_
              refine li_iconst hx hb dX1_ledgeOf_8 ?_
              refine li_icmp_ge (tgt := 70) hx hb ⟨by decide, by decide⟩ ⟨by decide, by decide⟩ dX1_ledgeOf_9 (by decide) (fun c9 => ?_) (fun c9 => ?_)
              · exact absurd c9 (by decide)
              · refine lv_iload_n hx hb dX1_ledgeOf_12 rfl (lv_at hl 3 rfl) ?_
                refine lv_iload hx hb dX1_ledgeOf_13 (lv_at hl 0 rfl) ?_
                refine lv_ishr hx hb dX1_ledgeOf_15 ?_
                refine li_topx (z := st / 4) (ii_shr2 (by omega) (by omega)) ?_
                refine li_iconst hx hb dX1_ledgeOf_16 ?_
                refine lv_iand hx hb dX1_ledgeOf_17 ?_
                refine li_topx (z := (st / 4) % 2) (ii_and1 (by omega) (by omega)) ?_
                refine li_if_ne (tgt := 24) hx hb ⟨by omega, by omega⟩ dX1_ledgeOf_18 (by decide) (fun c18 => ?_) (fun c18 => ?_)
                · refine lv_iload hx hb dX1_ledgeOf_24 (lv_at hl 0 rfl) ?_
                  refine lv_aload_n hx hb dX1_ledgeOf_26 rfl (lv_at hl 2 rfl) ?_
                  refine va_get (D := G) (ci := 0) (v := .ref (ad 1)) (C := RX1) (T := TX1) (N := 21) hx hb hts in_X1 hown hK hP 0 (aD_0 _ _ _ _ _ _ _) rfl 0 (by decide) (hts _ q977) (fun _ h9 => h9) rfl dX1_ledgeOf_27 ?_
                  refine va_get (D := G) (ci := 1) (v := .int (ii (σ 9 0))) (C := RX2) (T := TX2) (N := 13) hx hb hts in_X2 hown hK hP 1 (aD_1 _ _ _ _ _ _ _) rfl 6 (by decide) (hts _ q790) (fun _ h9 => h9) rfl dX1_ledgeOf_30 ?_
                  refine li_icmp_ge (tgt := 53) hx hb ⟨by decide, by decide⟩ (rgi h9a h9b) dX1_ledgeOf_33 (by decide) (fun c33 => ?_) (fun c33 => ?_)
                  · refine li_bipush hx hb dX1_ledgeOf_53 (by decide) ?_
                    exact eRi hQ hx hb hr hlk dX1_ledgeOf_55 (⟨_, rfl, by omega, fun fr h0 a1 a2 a3 => by unfold goP at a1 a2 a3; omega⟩)
                  · refine lv_iload_n hx hb dX1_ledgeOf_36 rfl (lv_at hl 1 rfl) ?_
                    refine li_bipush hx hb dX1_ledgeOf_37 (by decide) ?_
                    refine li_icmp_eq (tgt := 56) hx hb (rgi r63.1 r63.2) ⟨by decide, by decide⟩ dX1_ledgeOf_39 (by decide) (fun c39 => ?_) (fun c39 => ?_)
                    · refine lv_aload_n hx hb dX1_ledgeOf_56 rfl (lv_at hl 4 rfl) ?_
                      refine va_get (D := G) (ci := 2) (v := .ref (ad 49)) (C := RX3) (T := TX3) (N := 2) hx hb hts in_X3 hown hK hP 48 (aD_48 _ _ _ _ _ _ _) rfl 0 (by decide) (hts _ q657) (fun _ h9 => h9) rfl dX1_ledgeOf_57 ?_
                      refine lv_iload hx hb dX1_ledgeOf_60 (lv_at hl 0 rfl) ?_
                      refine li_iald (g := (ς 11)) hx hb hK hP 49 0 (aD_49 _ _ _ _ _ _ _) rfl (by decide) (by decide) (by decide) dX1_ledgeOf_62 ?_
                      have r63_1 := hs0 2
                      refine lv_istore_n (lv' := [(3, .int (ii (ς 11 2))), (4, .int (ii 2)), (0, .ref (ad 0)), (1, .int (ii st)), (2, .ref (ad 48))]) hx hb dX1_ledgeOf_63 rfl hl (by decide) rfl (fun ls hl => ?_)
                      refine li_iinc (a := 2) (lv' := [(4, .int (ii 3)), (3, .int (ii (ς 11 2))), (0, .ref (ad 0)), (1, .int (ii st)), (2, .ref (ad 48))]) hx hb dX1_ledgeOf_64 hl (k := 1) rfl (by decide) rfl (fun ls hl => ?_)
                      refine lv_goto (tgt := 6) hx hb dX1_ledgeOf_67 (by decide) ?_
                      refine lv_iload hx hb dX1_ledgeOf_6 (lv_at hl 0 rfl) ?_
                      refine li_iconst hx hb dX1_ledgeOf_8 ?_
                      refine li_icmp_ge (tgt := 70) hx hb ⟨by decide, by decide⟩ ⟨by decide, by decide⟩ dX1_ledgeOf_9 (by decide) (fun c9 => ?_) (fun c9 => ?_)
                      · refine lv_iload_n hx hb dX1_ledgeOf_70 rfl (lv_at hl 1 rfl) ?_
                        exact eRi hQ hx hb hr hlk dX1_ledgeOf_71 (⟨_, rfl, by omega, fun fr h0 a1 a2 a3 => by unfold goP at a1 a2 a3; omega⟩)
                      · exact absurd c9 (by decide)
                    · refine lv_iload_n hx hb dX1_ledgeOf_42 rfl (lv_at hl 1 rfl) ?_
                      refine lv_aload_n hx hb dX1_ledgeOf_43 rfl (lv_at hl 4 rfl) ?_
                      refine va_get (D := G) (ci := 2) (v := .ref (ad 49)) (C := RX3) (T := TX3) (N := 2) hx hb hts in_X3 hown hK hP 48 (aD_48 _ _ _ _ _ _ _) rfl 0 (by decide) (hts _ q657) (fun _ h9 => h9) rfl dX1_ledgeOf_44 ?_
                      refine lv_iload hx hb dX1_ledgeOf_47 (lv_at hl 0 rfl) ?_
                      refine li_iald (g := (ς 11)) hx hb hK hP 49 0 (aD_49 _ _ _ _ _ _ _) rfl (by decide) (by decide) (by decide) dX1_ledgeOf_49 ?_
                      have r50 := hs0 2
                      refine li_icmp_eq (tgt := 56) hx hb (rgi r63.1 r63.2) (rgi r50.1 r50.2) dX1_ledgeOf_50 (by decide) (fun c50 => ?_) (fun c50 => ?_)
                      · refine lv_aload_n hx hb dX1_ledgeOf_56 rfl (lv_at hl 4 rfl) ?_
                        refine va_get (D := G) (ci := 2) (v := .ref (ad 49)) (C := RX3) (T := TX3) (N := 2) hx hb hts in_X3 hown hK hP 48 (aD_48 _ _ _ _ _ _ _) rfl 0 (by decide) (hts _ q657) (fun _ h9 => h9) rfl dX1_ledgeOf_57 ?_
                        refine lv_iload hx hb dX1_ledgeOf_60 (lv_at hl 0 rfl) ?_
                        refine li_iald (g := (ς 11)) hx hb hK hP 49 0 (aD_49 _ _ _ _ _ _ _) rfl (by decide) (by decide) (by decide) dX1_ledgeOf_62 ?_
                        have r63_1 := hs0 2
                        refine lv_istore_n (lv' := [(3, .int (ii (ς 11 2))), (4, .int (ii 2)), (0, .ref (ad 0)), (1, .int (ii st)), (2, .ref (ad 48))]) hx hb dX1_ledgeOf_63 rfl hl (by decide) rfl (fun ls hl => ?_)
                        refine li_iinc (a := 2) (lv' := [(4, .int (ii 3)), (3, .int (ii (ς 11 2))), (0, .ref (ad 0)), (1, .int (ii st)), (2, .ref (ad 48))]) hx hb dX1_ledgeOf_64 hl (k := 1) rfl (by decide) rfl (fun ls hl => ?_)
                        refine lv_goto (tgt := 6) hx hb dX1_ledgeOf_67 (by decide) ?_
                        refine lv_iload hx hb dX1_ledgeOf_6 (lv_at hl 0 rfl) ?_
                        refine li_iconst hx hb dX1_ledgeOf_8 ?_
                        refine li_icmp_ge (tgt := 70) hx hb ⟨by decide, by decide⟩ ⟨by decide, by decide⟩ dX1_ledgeOf_9 (by decide) (fun c9 => ?_) (fun c9 => ?_)
                        · refine lv_iload_n hx hb dX1_ledgeOf_70 rfl (lv_at hl 1 rfl) ?_
                          exact eRi hQ hx hb hr hlk dX1_ledgeOf_71 (⟨_, rfl, by omega, fun fr h0 a1 a2 a3 => by unfold goP at a1 a2 a3; omega⟩)
                        · exact absurd c9 (by decide)
                      · refine li_bipush hx hb dX1_ledgeOf_53 (by decide) ?_
                        exact eRi hQ hx hb hr hlk dX1_ledgeOf_55 (⟨_, rfl, by omega, fun fr h0 a1 a2 a3 => by unfold goP at a1 a2 a3; omega⟩)
                · refine lv_goto (tgt := 64) hx hb dX1_ledgeOf_21 (by decide) ?_
                  refine li_iinc (a := 2) (lv' := [(4, .int (ii 3)), (3, .int (ii (ς 11 0))), (0, .ref (ad 0)), (1, .int (ii st)), (2, .ref (ad 48))]) hx hb dX1_ledgeOf_64 hl (k := 0) rfl (by decide) rfl (fun ls hl => ?_)
                  refine lv_goto (tgt := 6) hx hb dX1_ledgeOf_67 (by decide) ?_
                  refine lv_iload hx hb dX1_ledgeOf_6 (lv_at hl 0 rfl) ?_
                  refine li_iconst hx hb dX1_ledgeOf_8 ?_
                  refine li_icmp_ge (tgt := 70) hx hb ⟨by decide, by decide⟩ ⟨by decide, by decide⟩ dX1_ledgeOf_9 (by decide) (fun c9 => ?_) (fun c9 => ?_)
                  · refine lv_iload_n hx hb dX1_ledgeOf_70 rfl (lv_at hl 1 rfl) ?_
                    exact eRi hQ hx hb hr hlk dX1_ledgeOf_71 (⟨_, rfl, by omega, fun fr h0 a1 a2 a3 => by unfold goP at a1 a2 a3; omega⟩)
                  · exact absurd c9 (by decide)
        · exact absurd c39 (by decide)
    · refine lv_goto (tgt := 64) hx hb dX1_ledgeOf_21 (by decide) ?_
      refine li_iinc (a := 0) (lv' := [(4, .int (ii 1)), (3, .int (ii (-4))), (0, .ref (ad 0)), (1, .int (ii st)), (2, .ref (ad 48))]) hx hb dX1_ledgeOf_64 hl (k := 0) rfl (by decide) rfl (fun ls hl => ?_)
      refine lv_goto (tgt := 6) hx hb dX1_ledgeOf_67 (by decide) ?_
      refine lv_iload hx hb dX1_ledgeOf_6 (lv_at hl 0 rfl) ?_
      refine li_iconst hx hb dX1_ledgeOf_8 ?_
      refine li_icmp_ge (tgt := 70) hx hb ⟨by decide, by decide⟩ ⟨by decide, by decide⟩ dX1_ledgeOf_9 (by decide) (fun c9 => ?_) (fun c9 => ?_)
      · exact absurd c9 (by decide)
      · refine lv_iload_n hx hb dX1_ledgeOf_12 rfl (lv_at hl 3 rfl) ?_
        refine lv_iload hx hb dX1_ledgeOf_13 (lv_at hl 0 rfl) ?_
        refine lv_ishr hx hb dX1_ledgeOf_15 ?_
        refine li_topx (z := st / 2) (ii_shr1 (by omega) (by omega)) ?_
        refine li_iconst hx hb dX1_ledgeOf_16 ?_
        refine lv_iand hx hb dX1_ledgeOf_17 ?_
        refine li_topx (z := (st / 2) % 2) (ii_and1 (by omega) (by omega)) ?_
        refine li_if_ne (tgt := 24) hx hb ⟨by omega, by omega⟩ dX1_ledgeOf_18 (by decide) (fun c18 => ?_) (fun c18 => ?_)
        · refine lv_iload hx hb dX1_ledgeOf_24 (lv_at hl 0 rfl) ?_
          refine lv_aload_n hx hb dX1_ledgeOf_26 rfl (lv_at hl 2 rfl) ?_
          refine va_get (D := G) (ci := 0) (v := .ref (ad 1)) (C := RX1) (T := TX1) (N := 21) hx hb hts in_X1 hown hK hP 0 (aD_0 _ _ _ _ _ _ _) rfl 0 (by decide) (hts _ q977) (fun _ h9 => h9) rfl dX1_ledgeOf_27 ?_
          refine va_get (D := G) (ci := 1) (v := .int (ii (σ 9 0))) (C := RX2) (T := TX2) (N := 13) hx hb hts in_X2 hown hK hP 1 (aD_1 _ _ _ _ _ _ _) rfl 6 (by decide) (hts _ q790) (fun _ h9 => h9) rfl dX1_ledgeOf_30 ?_
          refine li_icmp_ge (tgt := 53) hx hb ⟨by decide, by decide⟩ (rgi h9a h9b) dX1_ledgeOf_33 (by decide) (fun c33 => ?_) (fun c33 => ?_)
          · refine li_bipush hx hb dX1_ledgeOf_53 (by decide) ?_
            exact eRi hQ hx hb hr hlk dX1_ledgeOf_55 (⟨_, rfl, by omega, fun fr h0 a1 a2 a3 => by unfold goP at a1 a2 a3; omega⟩)
          · refine lv_iload_n hx hb dX1_ledgeOf_36 rfl (lv_at hl 1 rfl) ?_
            refine li_bipush hx hb dX1_ledgeOf_37 (by decide) ?_
            refine li_icmp_eq (tgt := 56) hx hb ⟨by decide, by decide⟩ ⟨by decide, by decide⟩ dX1_ledgeOf_39 (by decide) (fun c39 => ?_) (fun c39 => ?_)
            · refine lv_aload_n hx hb dX1_ledgeOf_56 rfl (lv_at hl 4 rfl) ?_
              refine va_get (D := G) (ci := 2) (v := .ref (ad 49)) (C := RX3) (T := TX3) (N := 2) hx hb hts in_X3 hown hK hP 48 (aD_48 _ _ _ _ _ _ _) rfl 0 (by decide) (hts _ q657) (fun _ h9 => h9) rfl dX1_ledgeOf_57 ?_
              refine lv_iload hx hb dX1_ledgeOf_60 (lv_at hl 0 rfl) ?_
              refine li_iald (g := (ς 11)) hx hb hK hP 49 0 (aD_49 _ _ _ _ _ _ _) rfl (by decide) (by decide) (by decide) dX1_ledgeOf_62 ?_
              have r63 := hs0 1
              refine lv_istore_n (lv' := [(3, .int (ii (ς 11 1))), (4, .int (ii 1)), (0, .ref (ad 0)), (1, .int (ii st)), (2, .ref (ad 48))]) hx hb dX1_ledgeOf_63 rfl hl (by decide) rfl (fun ls hl => ?_)
              refine li_iinc (a := 1) (lv' := [(4, .int (ii 2)), (3, .int (ii (ς 11 1))), (0, .ref (ad 0)), (1, .int (ii st)), (2, .ref (ad 48))]) hx hb dX1_ledgeOf_64 hl (k := 1) rfl (by decide) rfl (fun ls hl => ?_)
              refine lv_goto (tgt := 6) hx hb dX1_ledgeOf_67 (by decide) ?_
              refine lv_iload hx hb dX1_ledgeOf_6 (lv_at hl 0 rfl) ?_
              refine li_iconst hx hb dX1_ledgeOf_8 ?_
              refine li_icmp_ge (tgt := 70) hx hb ⟨by decide, by decide⟩ ⟨by decide, by decide⟩ dX1_ledgeOf_9 (by decide) (fun c9 => ?_) (fun c9 => ?_)
              · exact absurd c9 (by decide)
              · refine lv_iload_n hx hb dX1_ledgeOf_12 rfl (lv_at hl 3 rfl) ?_
                refine lv_iload hx hb dX1_ledgeOf_13 (lv_at hl 0 rfl) ?_
                refine lv_ishr hx hb dX1_ledgeOf_15 ?_
                refine li_topx (z := st / 4) (ii_shr2 (by omega) (by omega)) ?_
                refine li_iconst hx hb dX1_ledgeOf_16 ?_
                refine lv_iand hx hb dX1_ledgeOf_17 ?_
                refine li_topx (z := (st / 4) % 2) (ii_and1 (by omega) (by omega)) ?_
                refine li_if_ne (tgt := 24) hx hb ⟨by omega, by omega⟩ dX1_ledgeOf_18 (by decide) (fun c18 => ?_) (fun c18 => ?_)
                · refine lv_iload hx hb dX1_ledgeOf_24 (lv_at hl 0 rfl) ?_
                  refine lv_aload_n hx hb dX1_ledgeOf_26 rfl (lv_at hl 2 rfl) ?_
                  refine va_get (D := G) (ci := 0) (v := .ref (ad 1)) (C := RX1) (T := TX1) (N := 21) hx hb hts in_X1 hown hK hP 0 (aD_0 _ _ _ _ _ _ _) rfl 0 (by decide) (hts _ q977) (fun _ h9 => h9) rfl dX1_ledgeOf_27 ?_
                  refine va_get (D := G) (ci := 1) (v := .int (ii (σ 9 0))) (C := RX2) (T := TX2) (N := 13) hx hb hts in_X2 hown hK hP 1 (aD_1 _ _ _ _ _ _ _) rfl 6 (by decide) (hts _ q790) (fun _ h9 => h9) rfl dX1_ledgeOf_30 ?_
                  refine li_icmp_ge (tgt := 53) hx hb ⟨by decide, by decide⟩ (rgi h9a h9b) dX1_ledgeOf_33 (by decide) (fun c33 => ?_) (fun c33 => ?_)
                  · refine li_bipush hx hb dX1_ledgeOf_53 (by decide) ?_
                    exact eRi hQ hx hb hr hlk dX1_ledgeOf_55 (⟨_, rfl, by omega, fun fr h0 a1 a2 a3 => by unfold goP at a1 a2 a3; omega⟩)
                  · refine lv_iload_n hx hb dX1_ledgeOf_36 rfl (lv_at hl 1 rfl) ?_
                    refine li_bipush hx hb dX1_ledgeOf_37 (by decide) ?_
                    refine li_icmp_eq (tgt := 56) hx hb (rgi r63.1 r63.2) ⟨by decide, by decide⟩ dX1_ledgeOf_39 (by decide) (fun c39 => ?_) (fun c39 => ?_)
                    · refine lv_aload_n hx hb dX1_ledgeOf_56 rfl (lv_at hl 4 rfl) ?_
                      refine va_get (D := G) (ci := 2) (v := .ref (ad 49)) (C := RX3) (T := TX3) (N := 2) hx hb hts in_X3 hown hK hP 48 (aD_48 _ _ _ _ _ _ _) rfl 0 (by decide) (hts _ q657) (fun _ h9 => h9) rfl dX1_ledgeOf_57 ?_
                      refine lv_iload hx hb dX1_ledgeOf_60 (lv_at hl 0 rfl) ?_
                      refine li_iald (g := (ς 11)) hx hb hK hP 49 0 (aD_49 _ _ _ _ _ _ _) rfl (by decide) (by decide) (by decide) dX1_ledgeOf_62 ?_
                      have r63_1 := hs0 2
                      refine lv_istore_n (lv' := [(3, .int (ii (ς 11 2))), (4, .int (ii 2)), (0, .ref (ad 0)), (1, .int (ii st)), (2, .ref (ad 48))]) hx hb dX1_ledgeOf_63 rfl hl (by decide) rfl (fun ls hl => ?_)
                      refine li_iinc (a := 2) (lv' := [(4, .int (ii 3)), (3, .int (ii (ς 11 2))), (0, .ref (ad 0)), (1, .int (ii st)), (2, .ref (ad 48))]) hx hb dX1_ledgeOf_64 hl (k := 1) rfl (by decide) rfl (fun ls hl => ?_)
                      refine lv_goto (tgt := 6) hx hb dX1_ledgeOf_67 (by decide) ?_
                      refine lv_iload hx hb dX1_ledgeOf_6 (lv_at hl 0 rfl) ?_
                      refine li_iconst hx hb dX1_ledgeOf_8 ?_
                      refine li_icmp_ge (tgt := 70) hx hb ⟨by decide, by decide⟩ ⟨by decide, by decide⟩ dX1_ledgeOf_9 (by decide) (fun c9 => ?_) (fun c9 => ?_)
                      · refine lv_iload_n hx hb dX1_ledgeOf_70 rfl (lv_at hl 1 rfl) ?_
                        exact eRi hQ hx hb hr hlk dX1_ledgeOf_71 (⟨_, rfl, by omega, fun fr h0 a1 a2 a3 => by unfold goP at a1 a2 a3; omega⟩)
                      · exact absurd c9 (by decide)
                    · refine lv_iload_n hx hb dX1_ledgeOf_42 rfl (lv_at hl 1 rfl) ?_
                      refine lv_aload_n hx hb dX1_ledgeOf_43 rfl (lv_at hl 4 rfl) ?_
                      refine va_get (D := G) (ci := 2) (v := .ref (ad 49)) (C := RX3) (T := TX3) (N := 2) hx hb hts in_X3 hown hK hP 48 (aD_48 _ _ _ _ _ _ _) rfl 0 (by decide) (hts _ q657) (fun _ h9 => h9) rfl dX1_ledgeOf_44 ?_
                      refine lv_iload hx hb dX1_ledgeOf_47 (lv_at hl 0 rfl) ?_
                      refine li_iald (g := (ς 11)) hx hb hK hP 49 0 (aD_49 _ _ _ _ _ _ _) rfl (by decide) (by decide) (by decide) dX1_ledgeOf_49 ?_
                      have r50 := hs0 2
                      refine li_icmp_eq (tgt := 56) hx hb (rgi r63.1 r63.2) (rgi r50.1 r50.2) dX1_ledgeOf_50 (by decide) (fun c50 => ?_) (fun c50 => ?_)
                      · refine lv_aload_n hx hb dX1_ledgeOf_56 rfl (lv_at hl 4 rfl) ?_
                        refine va_get (D := G) (ci := 2) (v := .ref (ad 49)) (C := RX3) (T := TX3) (N := 2) hx hb hts in_X3 hown hK hP 48 (aD_48 _ _ _ _ _ _ _) rfl 0 (by decide) (hts _ q657) (fun _ h9 => h9) rfl dX1_ledgeOf_57 ?_
                        refine lv_iload hx hb dX1_ledgeOf_60 (lv_at hl 0 rfl) ?_
                        refine li_iald (g := (ς 11)) hx hb hK hP 49 0 (aD_49 _ _ _ _ _ _ _) rfl (by decide) (by decide) (by decide) dX1_ledgeOf_62 ?_
                        have r63_1 := hs0 2
                        refine lv_istore_n (lv' := [(3, .int (ii (ς 11 2))), (4, .int (ii 2)), (0, .ref (ad 0)), (1, .int (ii st)), (2, .ref (ad 48))]) hx hb dX1_ledgeOf_63 rfl hl (by decide) rfl (fun ls hl => ?_)
                        refine li_iinc (a := 2) (lv' := [(4, .int (ii 3)), (3, .int (ii (ς 11 2))), (0, .ref (ad 0)), (1, .int (ii st)), (2, .ref (ad 48))]) hx hb dX1_ledgeOf_64 hl (k := 1) rfl (by decide) rfl (fun ls hl => ?_)
                        refine lv_goto (tgt := 6) hx hb dX1_ledgeOf_67 (by decide) ?_
                        refine lv_iload hx hb dX1_ledgeOf_6 (lv_at hl 0 rfl) ?_
                        refine li_iconst hx hb dX1_ledgeOf_8 ?_
                        refine li_icmp_ge (tgt := 70) hx hb ⟨by decide, by decide⟩ ⟨by decide, by decide⟩ dX1_ledgeOf_9 (by decide) (fun c9 => ?_) (fun c9 => ?_)
                        · refine lv_iload_n hx hb dX1_ledgeOf_70 rfl (lv_at hl 1 rfl) ?_
                          exact eRi hQ hx hb hr hlk dX1_ledgeOf_71 (⟨_, rfl, by omega, fun fr h0 a1 a2 a3 => by unfold goP at a1 a2 a3; omega⟩)
                        · exact absurd c9 (by decide)
                      · refine li_bipush hx hb dX1_ledgeOf_53 (by decide) ?_
                        exact eRi hQ hx hb hr hlk dX1_ledgeOf_55 (⟨_, rfl, by omega, fun fr h0 a1 a2 a3 => by unfold goP at a1 a2 a3; omega⟩)
                · refine lv_goto (tgt := 64) hx hb dX1_ledgeOf_21 (by decide) ?_
                  refine li_iinc (a := 2) (lv' := [(4, .int (ii 3)), (3, .int (ii (ς 11 1))), (0, .ref (ad 0)), (1, .int (ii st)), (2, .ref (ad 48))]) hx hb dX1_ledgeOf_64 hl (k := 0) rfl (by decide) rfl (fun ls hl => ?_)
                  refine lv_goto (tgt := 6) hx hb dX1_ledgeOf_67 (by decide) ?_
                  refine lv_iload hx hb dX1_ledgeOf_6 (lv_at hl 0 rfl) ?_
                  refine li_iconst hx hb dX1_ledgeOf_8 ?_
                  refine li_icmp_ge (tgt := 70) hx hb ⟨by decide, by decide⟩ ⟨by decide, by decide⟩ dX1_ledgeOf_9 (by decide) (fun c9 => ?_) (fun c9 => ?_)
                  · refine lv_iload_n hx hb dX1_ledgeOf_70 rfl (lv_at hl 1 rfl) ?_
                    exact eRi hQ hx hb hr hlk dX1_ledgeOf_71 (⟨_, rfl, by omega, fun fr h0 a1 a2 a3 => by unfold goP at a1 a2 a3; omega⟩)
                  · exact absurd c9 (by decide)
            · exact absurd c39 (by decide)
        · refine lv_goto (tgt := 64) hx hb dX1_ledgeOf_21 (by decide) ?_
          refine li_iinc (a := 1) (lv' := [(4, .int (ii 2)), (3, .int (ii (-4))), (0, .ref (ad 0)), (1, .int (ii st)), (2, .ref (ad 48))]) hx hb dX1_ledgeOf_64 hl (k := 0) rfl (by decide) rfl (fun ls hl => ?_)
          refine lv_goto (tgt := 6) hx hb dX1_ledgeOf_67 (by decide) ?_
          refine lv_iload hx hb dX1_ledgeOf_6 (lv_at hl 0 rfl) ?_
          refine li_iconst hx hb dX1_ledgeOf_8 ?_
          refine li_icmp_ge (tgt := 70) hx hb ⟨by decide, by decide⟩ ⟨by decide, by decide⟩ dX1_ledgeOf_9 (by decide) (fun c9 => ?_) (fun c9 => ?_)
          · exact absurd c9 (by decide)
          · refine lv_iload_n hx hb dX1_ledgeOf_12 rfl (lv_at hl 3 rfl) ?_
            refine lv_iload hx hb dX1_ledgeOf_13 (lv_at hl 0 rfl) ?_
            refine lv_ishr hx hb dX1_ledgeOf_15 ?_
            refine li_topx (z := st / 4) (ii_shr2 (by omega) (by omega)) ?_
            refine li_iconst hx hb dX1_ledgeOf_16 ?_
            refine lv_iand hx hb dX1_ledgeOf_17 ?_
            refine li_topx (z := (st / 4) % 2) (ii_and1 (by omega) (by omega)) ?_
            refine li_if_ne (tgt := 24) hx hb ⟨by omega, by omega⟩ dX1_ledgeOf_18 (by decide) (fun c18 => ?_) (fun c18 => ?_)
            · refine lv_iload hx hb dX1_ledgeOf_24 (lv_at hl 0 rfl) ?_
              refine lv_aload_n hx hb dX1_ledgeOf_26 rfl (lv_at hl 2 rfl) ?_
              refine va_get (D := G) (ci := 0) (v := .ref (ad 1)) (C := RX1) (T := TX1) (N := 21) hx hb hts in_X1 hown hK hP 0 (aD_0 _ _ _ _ _ _ _) rfl 0 (by decide) (hts _ q977) (fun _ h9 => h9) rfl dX1_ledgeOf_27 ?_
              refine va_get (D := G) (ci := 1) (v := .int (ii (σ 9 0))) (C := RX2) (T := TX2) (N := 13) hx hb hts in_X2 hown hK hP 1 (aD_1 _ _ _ _ _ _ _) rfl 6 (by decide) (hts _ q790) (fun _ h9 => h9) rfl dX1_ledgeOf_30 ?_
              refine li_icmp_ge (tgt := 53) hx hb ⟨by decide, by decide⟩ (rgi h9a h9b) dX1_ledgeOf_33 (by decide) (fun c33 => ?_) (fun c33 => ?_)
              · refine li_bipush hx hb dX1_ledgeOf_53 (by decide) ?_
                exact eRi hQ hx hb hr hlk dX1_ledgeOf_55 (⟨_, rfl, by omega, fun fr h0 a1 a2 a3 => by unfold goP at a1 a2 a3; omega⟩)
              · refine lv_iload_n hx hb dX1_ledgeOf_36 rfl (lv_at hl 1 rfl) ?_
                refine li_bipush hx hb dX1_ledgeOf_37 (by decide) ?_
                refine li_icmp_eq (tgt := 56) hx hb ⟨by decide, by decide⟩ ⟨by decide, by decide⟩ dX1_ledgeOf_39 (by decide) (fun c39 => ?_) (fun c39 => ?_)
                · refine lv_aload_n hx hb dX1_ledgeOf_56 rfl (lv_at hl 4 rfl) ?_
                  refine va_get (D := G) (ci := 2) (v := .ref (ad 49)) (C := RX3) (T := TX3) (N := 2) hx hb hts in_X3 hown hK hP 48 (aD_48 _ _ _ _ _ _ _) rfl 0 (by decide) (hts _ q657) (fun _ h9 => h9) rfl dX1_ledgeOf_57 ?_
                  refine lv_iload hx hb dX1_ledgeOf_60 (lv_at hl 0 rfl) ?_
                  refine li_iald (g := (ς 11)) hx hb hK hP 49 0 (aD_49 _ _ _ _ _ _ _) rfl (by decide) (by decide) (by decide) dX1_ledgeOf_62 ?_
                  have r63 := hs0 2
                  refine lv_istore_n (lv' := [(3, .int (ii (ς 11 2))), (4, .int (ii 2)), (0, .ref (ad 0)), (1, .int (ii st)), (2, .ref (ad 48))]) hx hb dX1_ledgeOf_63 rfl hl (by decide) rfl (fun ls hl => ?_)
                  refine li_iinc (a := 2) (lv' := [(4, .int (ii 3)), (3, .int (ii (ς 11 2))), (0, .ref (ad 0)), (1, .int (ii st)), (2, .ref (ad 48))]) hx hb dX1_ledgeOf_64 hl (k := 1) rfl (by decide) rfl (fun ls hl => ?_)
                  refine lv_goto (tgt := 6) hx hb dX1_ledgeOf_67 (by decide) ?_
                  refine lv_iload hx hb dX1_ledgeOf_6 (lv_at hl 0 rfl) ?_
                  refine li_iconst hx hb dX1_ledgeOf_8 ?_
                  refine li_icmp_ge (tgt := 70) hx hb ⟨by decide, by decide⟩ ⟨by decide, by decide⟩ dX1_ledgeOf_9 (by decide) (fun c9 => ?_) (fun c9 => ?_)
                  · refine lv_iload_n hx hb dX1_ledgeOf_70 rfl (lv_at hl 1 rfl) ?_
                    exact eRi hQ hx hb hr hlk dX1_ledgeOf_71 (⟨_, rfl, by omega, fun fr h0 a1 a2 a3 => by unfold goP at a1 a2 a3; omega⟩)
                  · exact absurd c9 (by decide)
                · exact absurd c39 (by decide)
            · refine lv_goto (tgt := 64) hx hb dX1_ledgeOf_21 (by decide) ?_
              refine li_iinc (a := 2) (lv' := [(4, .int (ii 3)), (3, .int (ii (-4))), (0, .ref (ad 0)), (1, .int (ii st)), (2, .ref (ad 48))]) hx hb dX1_ledgeOf_64 hl (k := 0) rfl (by decide) rfl (fun ls hl => ?_)
              refine lv_goto (tgt := 6) hx hb dX1_ledgeOf_67 (by decide) ?_
              refine lv_iload hx hb dX1_ledgeOf_6 (lv_at hl 0 rfl) ?_
              refine li_iconst hx hb dX1_ledgeOf_8 ?_
              refine li_icmp_ge (tgt := 70) hx hb ⟨by decide, by decide⟩ ⟨by decide, by decide⟩ dX1_ledgeOf_9 (by decide) (fun c9 => ?_) (fun c9 => ?_)
              · refine lv_iload_n hx hb dX1_ledgeOf_70 rfl (lv_at hl 1 rfl) ?_
                exact eRi hQ hx hb hr hlk dX1_ledgeOf_71 (⟨_, rfl, by omega, fun fr h0 a1 a2 a3 => by unfold goP at a1 a2 a3; omega⟩)
              · exact absurd c9 (by decide)
set_option maxHeartbeats 4000000 in
theorem m_ledgeOfN (l : Launch) (G : va_G) (ad : Nat → Nat) (ty : Nat → ClassId) (hv : Nat → Option Nat) (σ ς κ : mem) (cs : va_W) (st : Int) (hW : wfF σ) (hWT : wfS (σ 6) (σ 7)) (hst : 0 ≤ st ∧ st ≤ 7) : cR l yX1_ledgeOf (ws_ yX1_ledgeOf cX1_ledgeOf 5 (some .int)) (rm4 0 0 0 0) G ty (wD ad ty hv σ ς κ ++ cs) [.ref (ad 0), .int (ii st), .ref (ad 8)] (fun r => ∃ z : Int, r = some (.int (ii z)) ∧ (z = -4 ∨ (0 ≤ z ∧ z ≤ 4)) ∧ ∀ fr : Int, ¬ st = 0 → goP σ (σ 6) (st % 2) fr 0 0 → goP σ (σ 6) (st / 2 % 2) fr 0 1 → goP σ (σ 6) (st / 4 % 2) fr 0 2 → z = fr) := by
  refine cR.of (by decide) (Nat.le_of_ble_eq_true rfl) ?_
  intro p e s m args below meth c Q hQ hx hb hr hml hown hlk hts hK hP hD hX ls hl
  have hl : lv_has ls 5 [(0, .ref (ad 0)), (1, .int (ii st)), (2, .ref (ad 8))] := hl
  obtain ⟨hw0, hw1, hw2, hw3, hw4, hw5, h8a, h8b, h9a, h9b, h10a, h10b⟩ := id hW
  obtain ⟨hs0, hs1⟩ := id hWT
  obtain ⟨hst0, hst1⟩ := id hst
  refine li_bipush hx hb dX1_ledgeOf_0 (by decide) ?_
  refine lv_istore_n (lv' := [(3, .int (ii (-4))), (0, .ref (ad 0)), (1, .int (ii st)), (2, .ref (ad 8))]) hx hb dX1_ledgeOf_2 rfl hl (by decide) rfl (fun ls hl => ?_)
  refine li_iconst hx hb dX1_ledgeOf_3 ?_
  refine lv_istore (lv' := [(4, .int (ii 0)), (3, .int (ii (-4))), (0, .ref (ad 0)), (1, .int (ii st)), (2, .ref (ad 8))]) hx hb dX1_ledgeOf_4 hl (by decide) rfl (fun ls hl => ?_)
  refine lv_iload hx hb dX1_ledgeOf_6 (lv_at hl 0 rfl) ?_
  refine li_iconst hx hb dX1_ledgeOf_8 ?_
  refine li_icmp_ge (tgt := 70) hx hb ⟨by decide, by decide⟩ ⟨by decide, by decide⟩ dX1_ledgeOf_9 (by decide) (fun c9 => ?_) (fun c9 => ?_)
  · exact absurd c9 (by decide)
  · refine lv_iload_n hx hb dX1_ledgeOf_12 rfl (lv_at hl 3 rfl) ?_
    refine lv_iload hx hb dX1_ledgeOf_13 (lv_at hl 0 rfl) ?_
    refine lv_ishr hx hb dX1_ledgeOf_15 ?_
    refine li_topx (z := st) (ii_shr0 (by omega) (by omega)) ?_
    refine li_iconst hx hb dX1_ledgeOf_16 ?_
    refine lv_iand hx hb dX1_ledgeOf_17 ?_
    refine li_topx (z := st % 2) (ii_and1 (by omega) (by omega)) ?_
    refine li_if_ne (tgt := 24) hx hb ⟨by omega, by omega⟩ dX1_ledgeOf_18 (by decide) (fun c18 => ?_) (fun c18 => ?_)
    · refine lv_iload hx hb dX1_ledgeOf_24 (lv_at hl 0 rfl) ?_
      refine lv_aload_n hx hb dX1_ledgeOf_26 rfl (lv_at hl 2 rfl) ?_
      refine va_get (D := G) (ci := 0) (v := .ref (ad 1)) (C := RX1) (T := TX1) (N := 21) hx hb hts in_X1 hown hK hP 0 (aD_0 _ _ _ _ _ _ _) rfl 0 (by decide) (hts _ q977) (fun _ h9 => h9) rfl dX1_ledgeOf_27 ?_
      refine va_get (D := G) (ci := 1) (v := .int (ii (σ 9 0))) (C := RX2) (T := TX2) (N := 13) hx hb hts in_X2 hown hK hP 1 (aD_1 _ _ _ _ _ _ _) rfl 6 (by decide) (hts _ q790) (fun _ h9 => h9) rfl dX1_ledgeOf_30 ?_
      refine li_icmp_ge (tgt := 53) hx hb ⟨by decide, by decide⟩ (rgi h9a h9b) dX1_ledgeOf_33 (by decide) (fun c33 => ?_) (fun c33 => ?_)
      · refine li_bipush hx hb dX1_ledgeOf_53 (by decide) ?_
        exact eRi hQ hx hb hr hlk dX1_ledgeOf_55 (⟨_, rfl, by omega, fun fr h0 a1 a2 a3 => by unfold goP at a1 a2 a3; omega⟩)
      · refine lv_iload_n hx hb dX1_ledgeOf_36 rfl (lv_at hl 1 rfl) ?_
        refine li_bipush hx hb dX1_ledgeOf_37 (by decide) ?_
        refine li_icmp_eq (tgt := 56) hx hb ⟨by decide, by decide⟩ ⟨by decide, by decide⟩ dX1_ledgeOf_39 (by decide) (fun c39 => ?_) (fun c39 => ?_)
        · refine lv_aload_n hx hb dX1_ledgeOf_56 rfl (lv_at hl 4 rfl) ?_
          refine va_get (D := G) (ci := 2) (v := .ref (ad 9)) (C := RX3) (T := TX3) (N := 2) hx hb hts in_X3 hown hK hP 8 (aD_8 _ _ _ _ _ _ _) rfl 0 (by decide) (hts _ q657) (fun _ h9 => h9) rfl dX1_ledgeOf_57 ?_
          refine lv_iload hx hb dX1_ledgeOf_60 (lv_at hl 0 rfl) ?_
          refine li_iald (g := (σ 6)) hx hb hK hP 9 0 (aD_9 _ _ _ _ _ _ _) rfl (by decide) (by decide) (by decide) dX1_ledgeOf_62 ?_
          have r63 := hs0 0
          refine lv_istore_n (lv' := [(3, .int (ii (σ 6 0))), (4, .int (ii 0)), (0, .ref (ad 0)), (1, .int (ii st)), (2, .ref (ad 8))]) hx hb dX1_ledgeOf_63 rfl hl (by decide) rfl (fun ls hl => ?_)
          refine li_iinc (a := 0) (lv' := [(4, .int (ii 1)), (3, .int (ii (σ 6 0))), (0, .ref (ad 0)), (1, .int (ii st)), (2, .ref (ad 8))]) hx hb dX1_ledgeOf_64 hl (k := 1) rfl (by decide) rfl (fun ls hl => ?_)
          refine lv_goto (tgt := 6) hx hb dX1_ledgeOf_67 (by decide) ?_
          refine lv_iload hx hb dX1_ledgeOf_6 (lv_at hl 0 rfl) ?_
          refine li_iconst hx hb dX1_ledgeOf_8 ?_
          refine li_icmp_ge (tgt := 70) hx hb ⟨by decide, by decide⟩ ⟨by decide, by decide⟩ dX1_ledgeOf_9 (by decide) (fun c9 => ?_) (fun c9 => ?_)
          · exact absurd c9 (by decide)
          · refine lv_iload_n hx hb dX1_ledgeOf_12 rfl (lv_at hl 3 rfl) ?_
            refine lv_iload hx hb dX1_ledgeOf_13 (lv_at hl 0 rfl) ?_
            refine lv_ishr hx hb dX1_ledgeOf_15 ?_
            refine li_topx (z := st / 2) (ii_shr1 (by omega) (by omega)) ?_
            refine li_iconst hx hb dX1_ledgeOf_16 ?_
            refine lv_iand hx hb dX1_ledgeOf_17 ?_
            refine li_topx (z := (st / 2) % 2) (ii_and1 (by omega) (by omega)) ?_
            refine li_if_ne (tgt := 24) hx hb ⟨by omega, by omega⟩ dX1_ledgeOf_18 (by decide) (fun c18 => ?_) (fun c18 => ?_)
            · refine lv_iload hx hb dX1_ledgeOf_24 (lv_at hl 0 rfl) ?_
              refine lv_aload_n hx hb dX1_ledgeOf_26 rfl (lv_at hl 2 rfl) ?_
              refine va_get (D := G) (ci := 0) (v := .ref (ad 1)) (C := RX1) (T := TX1) (N := 21) hx hb hts in_X1 hown hK hP 0 (aD_0 _ _ _ _ _ _ _) rfl 0 (by decide) (hts _ q977) (fun _ h9 => h9) rfl dX1_ledgeOf_27 ?_
              refine va_get (D := G) (ci := 1) (v := .int (ii (σ 9 0))) (C := RX2) (T := TX2) (N := 13) hx hb hts in_X2 hown hK hP 1 (aD_1 _ _ _ _ _ _ _) rfl 6 (by decide) (hts _ q790) (fun _ h9 => h9) rfl dX1_ledgeOf_30 ?_
              refine li_icmp_ge (tgt := 53) hx hb ⟨by decide, by decide⟩ (rgi h9a h9b) dX1_ledgeOf_33 (by decide) (fun c33 => ?_) (fun c33 => ?_)
              · refine li_bipush hx hb dX1_ledgeOf_53 (by decide) ?_
                exact eRi hQ hx hb hr hlk dX1_ledgeOf_55 (⟨_, rfl, by omega, fun fr h0 a1 a2 a3 => by unfold goP at a1 a2 a3; omega⟩)
              · refine lv_iload_n hx hb dX1_ledgeOf_36 rfl (lv_at hl 1 rfl) ?_
                refine li_bipush hx hb dX1_ledgeOf_37 (by decide) ?_
                refine li_icmp_eq (tgt := 56) hx hb (rgi r63.1 r63.2) ⟨by decide, by decide⟩ dX1_ledgeOf_39 (by decide) (fun c39 => ?_) (fun c39 => ?_)
                · refine lv_aload_n hx hb dX1_ledgeOf_56 rfl (lv_at hl 4 rfl) ?_
                  refine va_get (D := G) (ci := 2) (v := .ref (ad 9)) (C := RX3) (T := TX3) (N := 2) hx hb hts in_X3 hown hK hP 8 (aD_8 _ _ _ _ _ _ _) rfl 0 (by decide) (hts _ q657) (fun _ h9 => h9) rfl dX1_ledgeOf_57 ?_
                  refine lv_iload hx hb dX1_ledgeOf_60 (lv_at hl 0 rfl) ?_
                  refine li_iald (g := (σ 6)) hx hb hK hP 9 0 (aD_9 _ _ _ _ _ _ _) rfl (by decide) (by decide) (by decide) dX1_ledgeOf_62 ?_
                  have r63_1 := hs0 1
                  refine lv_istore_n (lv' := [(3, .int (ii (σ 6 1))), (4, .int (ii 1)), (0, .ref (ad 0)), (1, .int (ii st)), (2, .ref (ad 8))]) hx hb dX1_ledgeOf_63 rfl hl (by decide) rfl (fun ls hl => ?_)
                  refine li_iinc (a := 1) (lv' := [(4, .int (ii 2)), (3, .int (ii (σ 6 1))), (0, .ref (ad 0)), (1, .int (ii st)), (2, .ref (ad 8))]) hx hb dX1_ledgeOf_64 hl (k := 1) rfl (by decide) rfl (fun ls hl => ?_)
                  refine lv_goto (tgt := 6) hx hb dX1_ledgeOf_67 (by decide) ?_
                  refine lv_iload hx hb dX1_ledgeOf_6 (lv_at hl 0 rfl) ?_
                  refine li_iconst hx hb dX1_ledgeOf_8 ?_
                  refine li_icmp_ge (tgt := 70) hx hb ⟨by decide, by decide⟩ ⟨by decide, by decide⟩ dX1_ledgeOf_9 (by decide) (fun c9 => ?_) (fun c9 => ?_)
                  · exact absurd c9 (by decide)
                  · refine lv_iload_n hx hb dX1_ledgeOf_12 rfl (lv_at hl 3 rfl) ?_
                    refine lv_iload hx hb dX1_ledgeOf_13 (lv_at hl 0 rfl) ?_
                    refine lv_ishr hx hb dX1_ledgeOf_15 ?_
                    refine li_topx (z := st / 4) (ii_shr2 (by omega) (by omega)) ?_
                    refine li_iconst hx hb dX1_ledgeOf_16 ?_
                    refine lv_iand hx hb dX1_ledgeOf_17 ?_
                    refine li_topx (z := (st / 4) % 2) (ii_and1 (by omega) (by omega)) ?_
                    refine li_if_ne (tgt := 24) hx hb ⟨by omega, by omega⟩ dX1_ledgeOf_18 (by decide) (fun c18 => ?_) (fun c18 => ?_)
                    · refine lv_iload hx hb dX1_ledgeOf_24 (lv_at hl 0 rfl) ?_
                      refine lv_aload_n hx hb dX1_ledgeOf_26 rfl (lv_at hl 2 rfl) ?_
                      refine va_get (D := G) (ci := 0) (v := .ref (ad 1)) (C := RX1) (T := TX1) (N := 21) hx hb hts in_X1 hown hK hP 0 (aD_0 _ _ _ _ _ _ _) rfl 0 (by decide) (hts _ q977) (fun _ h9 => h9) rfl dX1_ledgeOf_27 ?_
                      refine va_get (D := G) (ci := 1) (v := .int (ii (σ 9 0))) (C := RX2) (T := TX2) (N := 13) hx hb hts in_X2 hown hK hP 1 (aD_1 _ _ _ _ _ _ _) rfl 6 (by decide) (hts _ q790) (fun _ h9 => h9) rfl dX1_ledgeOf_30 ?_
                      refine li_icmp_ge (tgt := 53) hx hb ⟨by decide, by decide⟩ (rgi h9a h9b) dX1_ledgeOf_33 (by decide) (fun c33 => ?_) (fun c33 => ?_)
                      · refine li_bipush hx hb dX1_ledgeOf_53 (by decide) ?_
                        exact eRi hQ hx hb hr hlk dX1_ledgeOf_55 (⟨_, rfl, by omega, fun fr h0 a1 a2 a3 => by unfold goP at a1 a2 a3; omega⟩)
                      · refine lv_iload_n hx hb dX1_ledgeOf_36 rfl (lv_at hl 1 rfl) ?_
                        refine li_bipush hx hb dX1_ledgeOf_37 (by decide) ?_
                        refine li_icmp_eq (tgt := 56) hx hb (rgi r63_1.1 r63_1.2) ⟨by decide, by decide⟩ dX1_ledgeOf_39 (by decide) (fun c39 => ?_) (fun c39 => ?_)
                        · refine lv_aload_n hx hb dX1_ledgeOf_56 rfl (lv_at hl 4 rfl) ?_
                          refine va_get (D := G) (ci := 2) (v := .ref (ad 9)) (C := RX3) (T := TX3) (N := 2) hx hb hts in_X3 hown hK hP 8 (aD_8 _ _ _ _ _ _ _) rfl 0 (by decide) (hts _ q657) (fun _ h9 => h9) rfl dX1_ledgeOf_57 ?_
                          refine lv_iload hx hb dX1_ledgeOf_60 (lv_at hl 0 rfl) ?_
                          refine li_iald (g := (σ 6)) hx hb hK hP 9 0 (aD_9 _ _ _ _ _ _ _) rfl (by decide) (by decide) (by decide) dX1_ledgeOf_62 ?_
                          have r63_2 := hs0 2
                          refine lv_istore_n (lv' := [(3, .int (ii (σ 6 2))), (4, .int (ii 2)), (0, .ref (ad 0)), (1, .int (ii st)), (2, .ref (ad 8))]) hx hb dX1_ledgeOf_63 rfl hl (by decide) rfl (fun ls hl => ?_)
                          refine li_iinc (a := 2) (lv' := [(4, .int (ii 3)), (3, .int (ii (σ 6 2))), (0, .ref (ad 0)), (1, .int (ii st)), (2, .ref (ad 8))]) hx hb dX1_ledgeOf_64 hl (k := 1) rfl (by decide) rfl (fun ls hl => ?_)
                          refine lv_goto (tgt := 6) hx hb dX1_ledgeOf_67 (by decide) ?_
                          refine lv_iload hx hb dX1_ledgeOf_6 (lv_at hl 0 rfl) ?_
                          refine li_iconst hx hb dX1_ledgeOf_8 ?_
                          refine li_icmp_ge (tgt := 70) hx hb ⟨by decide, by decide⟩ ⟨by decide, by decide⟩ dX1_ledgeOf_9 (by decide) (fun c9 => ?_) (fun c9 => ?_)
                          · refine lv_iload_n hx hb dX1_ledgeOf_70 rfl (lv_at hl 1 rfl) ?_
                            exact eRi hQ hx hb hr hlk dX1_ledgeOf_71 (⟨_, rfl, by omega, fun fr h0 a1 a2 a3 => by unfold goP at a1 a2 a3; omega⟩)
                          · exact absurd c9 (by decide)
                        · refine lv_iload_n hx hb dX1_ledgeOf_42 rfl (lv_at hl 1 rfl) ?_
                          refine lv_aload_n hx hb dX1_ledgeOf_43 rfl (lv_at hl 4 rfl) ?_
                          refine va_get (D := G) (ci := 2) (v := .ref (ad 9)) (C := RX3) (T := TX3) (N := 2) hx hb hts in_X3 hown hK hP 8 (aD_8 _ _ _ _ _ _ _) rfl 0 (by decide) (hts _ q657) (fun _ h9 => h9) rfl dX1_ledgeOf_44 ?_
                          refine lv_iload hx hb dX1_ledgeOf_47 (lv_at hl 0 rfl) ?_
                          refine li_iald (g := (σ 6)) hx hb hK hP 9 0 (aD_9 _ _ _ _ _ _ _) rfl (by decide) (by decide) (by decide) dX1_ledgeOf_49 ?_
                          have r50 := hs0 2
                          refine li_icmp_eq (tgt := 56) hx hb (rgi r63_1.1 r63_1.2) (rgi r50.1 r50.2) dX1_ledgeOf_50 (by decide) (fun c50 => ?_) (fun c50 => ?_)
                          · refine lv_aload_n hx hb dX1_ledgeOf_56 rfl (lv_at hl 4 rfl) ?_
                            refine va_get (D := G) (ci := 2) (v := .ref (ad 9)) (C := RX3) (T := TX3) (N := 2) hx hb hts in_X3 hown hK hP 8 (aD_8 _ _ _ _ _ _ _) rfl 0 (by decide) (hts _ q657) (fun _ h9 => h9) rfl dX1_ledgeOf_57 ?_
                            refine lv_iload hx hb dX1_ledgeOf_60 (lv_at hl 0 rfl) ?_
                            refine li_iald (g := (σ 6)) hx hb hK hP 9 0 (aD_9 _ _ _ _ _ _ _) rfl (by decide) (by decide) (by decide) dX1_ledgeOf_62 ?_
                            have r63_2 := hs0 2
                            refine lv_istore_n (lv' := [(3, .int (ii (σ 6 2))), (4, .int (ii 2)), (0, .ref (ad 0)), (1, .int (ii st)), (2, .ref (ad 8))]) hx hb dX1_ledgeOf_63 rfl hl (by decide) rfl (fun ls hl => ?_)
                            refine li_iinc (a := 2) (lv' := [(4, .int (ii 3)), (3, .int (ii (σ 6 2))), (0, .ref (ad 0)), (1, .int (ii st)), (2, .ref (ad 8))]) hx hb dX1_ledgeOf_64 hl (k := 1) rfl (by decide) rfl (fun ls hl => ?_)
                            refine lv_goto (tgt := 6) hx hb dX1_ledgeOf_67 (by decide) ?_
                            refine lv_iload hx hb dX1_ledgeOf_6 (lv_at hl 0 rfl) ?_
                            refine li_iconst hx hb dX1_ledgeOf_8 ?_
                            refine li_icmp_ge (tgt := 70) hx hb ⟨by decide, by decide⟩ ⟨by decide, by decide⟩ dX1_ledgeOf_9 (by decide) (fun c9 => ?_) (fun c9 => ?_)
                            · refine lv_iload_n hx hb dX1_ledgeOf_70 rfl (lv_at hl 1 rfl) ?_
                              exact eRi hQ hx hb hr hlk dX1_ledgeOf_71 (⟨_, rfl, by omega, fun fr h0 a1 a2 a3 => by unfold goP at a1 a2 a3; omega⟩)
                            · exact absurd c9 (by decide)
                          · refine li_bipush hx hb dX1_ledgeOf_53 (by decide) ?_
                            exact eRi hQ hx hb hr hlk dX1_ledgeOf_55 (⟨_, rfl, by omega, fun fr h0 a1 a2 a3 => by unfold goP at a1 a2 a3; omega⟩)
                    · refine lv_goto (tgt := 64) hx hb dX1_ledgeOf_21 (by decide) ?_
                      refine li_iinc (a := 2) (lv' := [(4, .int (ii 3)), (3, .int (ii (σ 6 1))), (0, .ref (ad 0)), (1, .int (ii st)), (2, .ref (ad 8))]) hx hb dX1_ledgeOf_64 hl (k := 0) rfl (by decide) rfl (fun ls hl => ?_)
                      refine lv_goto (tgt := 6) hx hb dX1_ledgeOf_67 (by decide) ?_
                      refine lv_iload hx hb dX1_ledgeOf_6 (lv_at hl 0 rfl) ?_
                      refine li_iconst hx hb dX1_ledgeOf_8 ?_
                      refine li_icmp_ge (tgt := 70) hx hb ⟨by decide, by decide⟩ ⟨by decide, by decide⟩ dX1_ledgeOf_9 (by decide) (fun c9 => ?_) (fun c9 => ?_)
                      · refine lv_iload_n hx hb dX1_ledgeOf_70 rfl (lv_at hl 1 rfl) ?_
                        exact eRi hQ hx hb hr hlk dX1_ledgeOf_71 (⟨_, rfl, by omega, fun fr h0 a1 a2 a3 => by unfold goP at a1 a2 a3; omega⟩)
                      · exact absurd c9 (by decide)
                · refine lv_iload_n hx hb dX1_ledgeOf_42 rfl (lv_at hl 1 rfl) ?_
                  refine lv_aload_n hx hb dX1_ledgeOf_43 rfl (lv_at hl 4 rfl) ?_
                  refine va_get (D := G) (ci := 2) (v := .ref (ad 9)) (C := RX3) (T := TX3) (N := 2) hx hb hts in_X3 hown hK hP 8 (aD_8 _ _ _ _ _ _ _) rfl 0 (by decide) (hts _ q657) (fun _ h9 => h9) rfl dX1_ledgeOf_44 ?_
                  refine lv_iload hx hb dX1_ledgeOf_47 (lv_at hl 0 rfl) ?_
                  refine li_iald (g := (σ 6)) hx hb hK hP 9 0 (aD_9 _ _ _ _ _ _ _) rfl (by decide) (by decide) (by decide) dX1_ledgeOf_49 ?_
                  have r50 := hs0 1
                  refine li_icmp_eq (tgt := 56) hx hb (rgi r63.1 r63.2) (rgi r50.1 r50.2) dX1_ledgeOf_50 (by decide) (fun c50 => ?_) (fun c50 => ?_)
                  · refine lv_aload_n hx hb dX1_ledgeOf_56 rfl (lv_at hl 4 rfl) ?_
                    refine va_get (D := G) (ci := 2) (v := .ref (ad 9)) (C := RX3) (T := TX3) (N := 2) hx hb hts in_X3 hown hK hP 8 (aD_8 _ _ _ _ _ _ _) rfl 0 (by decide) (hts _ q657) (fun _ h9 => h9) rfl dX1_ledgeOf_57 ?_
                    refine lv_iload hx hb dX1_ledgeOf_60 (lv_at hl 0 rfl) ?_
                    refine li_iald (g := (σ 6)) hx hb hK hP 9 0 (aD_9 _ _ _ _ _ _ _) rfl (by decide) (by decide) (by decide) dX1_ledgeOf_62 ?_
                    have r63_1 := hs0 1
                    refine lv_istore_n (lv' := [(3, .int (ii (σ 6 1))), (4, .int (ii 1)), (0, .ref (ad 0)), (1, .int (ii st)), (2, .ref (ad 8))]) hx hb dX1_ledgeOf_63 rfl hl (by decide) rfl (fun ls hl => ?_)
                    refine li_iinc (a := 1) (lv' := [(4, .int (ii 2)), (3, .int (ii (σ 6 1))), (0, .ref (ad 0)), (1, .int (ii st)), (2, .ref (ad 8))]) hx hb dX1_ledgeOf_64 hl (k := 1) rfl (by decide) rfl (fun ls hl => ?_)
                    refine lv_goto (tgt := 6) hx hb dX1_ledgeOf_67 (by decide) ?_
                    refine lv_iload hx hb dX1_ledgeOf_6 (lv_at hl 0 rfl) ?_
                    refine li_iconst hx hb dX1_ledgeOf_8 ?_
                    refine li_icmp_ge (tgt := 70) hx hb ⟨by decide, by decide⟩ ⟨by decide, by decide⟩ dX1_ledgeOf_9 (by decide) (fun c9 => ?_) (fun c9 => ?_)
                    · exact absurd c9 (by decide)
                    · refine lv_iload_n hx hb dX1_ledgeOf_12 rfl (lv_at hl 3 rfl) ?_
                      refine lv_iload hx hb dX1_ledgeOf_13 (lv_at hl 0 rfl) ?_
                      refine lv_ishr hx hb dX1_ledgeOf_15 ?_
                      refine li_topx (z := st / 4) (ii_shr2 (by omega) (by omega)) ?_
                      refine li_iconst hx hb dX1_ledgeOf_16 ?_
                      refine lv_iand hx hb dX1_ledgeOf_17 ?_
                      refine li_topx (z := (st / 4) % 2) (ii_and1 (by omega) (by omega)) ?_
                      refine li_if_ne (tgt := 24) hx hb ⟨by omega, by omega⟩ dX1_ledgeOf_18 (by decide) (fun c18 => ?_) (fun c18 => ?_)
                      · refine lv_iload hx hb dX1_ledgeOf_24 (lv_at hl 0 rfl) ?_
                        refine lv_aload_n hx hb dX1_ledgeOf_26 rfl (lv_at hl 2 rfl) ?_
                        refine va_get (D := G) (ci := 0) (v := .ref (ad 1)) (C := RX1) (T := TX1) (N := 21) hx hb hts in_X1 hown hK hP 0 (aD_0 _ _ _ _ _ _ _) rfl 0 (by decide) (hts _ q977) (fun _ h9 => h9) rfl dX1_ledgeOf_27 ?_
                        refine va_get (D := G) (ci := 1) (v := .int (ii (σ 9 0))) (C := RX2) (T := TX2) (N := 13) hx hb hts in_X2 hown hK hP 1 (aD_1 _ _ _ _ _ _ _) rfl 6 (by decide) (hts _ q790) (fun _ h9 => h9) rfl dX1_ledgeOf_30 ?_
                        refine li_icmp_ge (tgt := 53) hx hb ⟨by decide, by decide⟩ (rgi h9a h9b) dX1_ledgeOf_33 (by decide) (fun c33 => ?_) (fun c33 => ?_)
                        · refine li_bipush hx hb dX1_ledgeOf_53 (by decide) ?_
                          exact eRi hQ hx hb hr hlk dX1_ledgeOf_55 (⟨_, rfl, by omega, fun fr h0 a1 a2 a3 => by unfold goP at a1 a2 a3; omega⟩)
                        · refine lv_iload_n hx hb dX1_ledgeOf_36 rfl (lv_at hl 1 rfl) ?_
                          refine li_bipush hx hb dX1_ledgeOf_37 (by decide) ?_
                          refine li_icmp_eq (tgt := 56) hx hb (rgi r63_1.1 r63_1.2) ⟨by decide, by decide⟩ dX1_ledgeOf_39 (by decide) (fun c39 => ?_) (fun c39 => ?_)
                          · refine lv_aload_n hx hb dX1_ledgeOf_56 rfl (lv_at hl 4 rfl) ?_
                            refine va_get (D := G) (ci := 2) (v := .ref (ad 9)) (C := RX3) (T := TX3) (N := 2) hx hb hts in_X3 hown hK hP 8 (aD_8 _ _ _ _ _ _ _) rfl 0 (by decide) (hts _ q657) (fun _ h9 => h9) rfl dX1_ledgeOf_57 ?_
                            refine lv_iload hx hb dX1_ledgeOf_60 (lv_at hl 0 rfl) ?_
                            refine li_iald (g := (σ 6)) hx hb hK hP 9 0 (aD_9 _ _ _ _ _ _ _) rfl (by decide) (by decide) (by decide) dX1_ledgeOf_62 ?_
                            have r63_2 := hs0 2
                            refine lv_istore_n (lv' := [(3, .int (ii (σ 6 2))), (4, .int (ii 2)), (0, .ref (ad 0)), (1, .int (ii st)), (2, .ref (ad 8))]) hx hb dX1_ledgeOf_63 rfl hl (by decide) rfl (fun ls hl => ?_)
                            refine li_iinc (a := 2) (lv' := [(4, .int (ii 3)), (3, .int (ii (σ 6 2))), (0, .ref (ad 0)), (1, .int (ii st)), (2, .ref (ad 8))]) hx hb dX1_ledgeOf_64 hl (k := 1) rfl (by decide) rfl (fun ls hl => ?_)
                            refine lv_goto (tgt := 6) hx hb dX1_ledgeOf_67 (by decide) ?_
                            refine lv_iload hx hb dX1_ledgeOf_6 (lv_at hl 0 rfl) ?_
                            refine li_iconst hx hb dX1_ledgeOf_8 ?_
                            refine li_icmp_ge (tgt := 70) hx hb ⟨by decide, by decide⟩ ⟨by decide, by decide⟩ dX1_ledgeOf_9 (by decide) (fun c9 => ?_) (fun c9 => ?_)
                            · refine lv_iload_n hx hb dX1_ledgeOf_70 rfl (lv_at hl 1 rfl) ?_
                              exact eRi hQ hx hb hr hlk dX1_ledgeOf_71 (⟨_, rfl, by omega, fun fr h0 a1 a2 a3 => by unfold goP at a1 a2 a3; omega⟩)
                            · exact absurd c9 (by decide)
                          · refine lv_iload_n hx hb dX1_ledgeOf_42 rfl (lv_at hl 1 rfl) ?_
                            refine lv_aload_n hx hb dX1_ledgeOf_43 rfl (lv_at hl 4 rfl) ?_
                            refine va_get (D := G) (ci := 2) (v := .ref (ad 9)) (C := RX3) (T := TX3) (N := 2) hx hb hts in_X3 hown hK hP 8 (aD_8 _ _ _ _ _ _ _) rfl 0 (by decide) (hts _ q657) (fun _ h9 => h9) rfl dX1_ledgeOf_44 ?_
                            refine lv_iload hx hb dX1_ledgeOf_47 (lv_at hl 0 rfl) ?_
                            refine li_iald (g := (σ 6)) hx hb hK hP 9 0 (aD_9 _ _ _ _ _ _ _) rfl (by decide) (by decide) (by decide) dX1_ledgeOf_49 ?_
                            have r50_1 := hs0 2
                            refine li_icmp_eq (tgt := 56) hx hb (rgi r63_1.1 r63_1.2) (rgi r50_1.1 r50_1.2) dX1_ledgeOf_50 (by decide) (fun c50 => ?_) (fun c50 => ?_)
                            · refine lv_aload_n hx hb dX1_ledgeOf_56 rfl (lv_at hl 4 rfl) ?_
                              refine va_get (D := G) (ci := 2) (v := .ref (ad 9)) (C := RX3) (T := TX3) (N := 2) hx hb hts in_X3 hown hK hP 8 (aD_8 _ _ _ _ _ _ _) rfl 0 (by decide) (hts _ q657) (fun _ h9 => h9) rfl dX1_ledgeOf_57 ?_
                              refine lv_iload hx hb dX1_ledgeOf_60 (lv_at hl 0 rfl) ?_
                              refine li_iald (g := (σ 6)) hx hb hK hP 9 0 (aD_9 _ _ _ _ _ _ _) rfl (by decide) (by decide) (by decide) dX1_ledgeOf_62 ?_
                              have r63_2 := hs0 2
                              refine lv_istore_n (lv' := [(3, .int (ii (σ 6 2))), (4, .int (ii 2)), (0, .ref (ad 0)), (1, .int (ii st)), (2, .ref (ad 8))]) hx hb dX1_ledgeOf_63 rfl hl (by decide) rfl (fun ls hl => ?_)
                              refine li_iinc (a := 2) (lv' := [(4, .int (ii 3)), (3, .int (ii (σ 6 2))), (0, .ref (ad 0)), (1, .int (ii st)), (2, .ref (ad 8))]) hx hb dX1_ledgeOf_64 hl (k := 1) rfl (by decide) rfl (fun ls hl => ?_)
                              refine lv_goto (tgt := 6) hx hb dX1_ledgeOf_67 (by decide) ?_
                              refine lv_iload hx hb dX1_ledgeOf_6 (lv_at hl 0 rfl) ?_
                              refine li_iconst hx hb dX1_ledgeOf_8 ?_
                              refine li_icmp_ge (tgt := 70) hx hb ⟨by decide, by decide⟩ ⟨by decide, by decide⟩ dX1_ledgeOf_9 (by decide) (fun c9 => ?_) (fun c9 => ?_)
                              · refine lv_iload_n hx hb dX1_ledgeOf_70 rfl (lv_at hl 1 rfl) ?_
                                exact eRi hQ hx hb hr hlk dX1_ledgeOf_71 (⟨_, rfl, by omega, fun fr h0 a1 a2 a3 => by unfold goP at a1 a2 a3; omega⟩)
                              · exact absurd c9 (by decide)
                            · refine li_bipush hx hb dX1_ledgeOf_53 (by decide) ?_
                              exact eRi hQ hx hb hr hlk dX1_ledgeOf_55 (⟨_, rfl, by omega, fun fr h0 a1 a2 a3 => by unfold goP at a1 a2 a3; omega⟩)
                      · refine lv_goto (tgt := 64) hx hb dX1_ledgeOf_21 (by decide) ?_
                        refine li_iinc (a := 2) (lv' := [(4, .int (ii 3)), (3, .int (ii (σ 6 1))), (0, .ref (ad 0)), (1, .int (ii st)), (2, .ref (ad 8))]) hx hb dX1_ledgeOf_64 hl (k := 0) rfl (by decide) rfl (fun ls hl => ?_)
                        refine lv_goto (tgt := 6) hx hb dX1_ledgeOf_67 (by decide) ?_
                        refine lv_iload hx hb dX1_ledgeOf_6 (lv_at hl 0 rfl) ?_
                        refine li_iconst hx hb dX1_ledgeOf_8 ?_
                        refine li_icmp_ge (tgt := 70) hx hb ⟨by decide, by decide⟩ ⟨by decide, by decide⟩ dX1_ledgeOf_9 (by decide) (fun c9 => ?_) (fun c9 => ?_)
                        · refine lv_iload_n hx hb dX1_ledgeOf_70 rfl (lv_at hl 1 rfl) ?_
                          exact eRi hQ hx hb hr hlk dX1_ledgeOf_71 (⟨_, rfl, by omega, fun fr h0 a1 a2 a3 => by unfold goP at a1 a2 a3; omega⟩)
                        · exact absurd c9 (by decide)
                  · refine li_bipush hx hb dX1_ledgeOf_53 (by decide) ?_
                    exact eRi hQ hx hb hr hlk dX1_ledgeOf_55 (⟨_, rfl, by omega, fun fr h0 a1 a2 a3 => by unfold goP at a1 a2 a3; omega⟩)
            · refine lv_goto (tgt := 64) hx hb dX1_ledgeOf_21 (by decide) ?_
              refine li_iinc (a := 1) (lv' := [(4, .int (ii 2)), (3, .int (ii (σ 6 0))), (0, .ref (ad 0)), (1, .int (ii st)), (2, .ref (ad 8))]) hx hb dX1_ledgeOf_64 hl (k := 0) rfl (by decide) rfl (fun ls hl => ?_)
              refine lv_goto (tgt := 6) hx hb dX1_ledgeOf_67 (by decide) ?_
              refine lv_iload hx hb dX1_ledgeOf_6 (lv_at hl 0 rfl) ?_
              refine li_iconst hx hb dX1_ledgeOf_8 ?_
              refine li_icmp_ge (tgt := 70) hx hb ⟨by decide, by decide⟩ ⟨by decide, by decide⟩ dX1_ledgeOf_9 (by decide) (fun c9 => ?_) (fun c9 => ?_)
              · exact absurd c9 (by decide)
              · refine lv_iload_n hx hb dX1_ledgeOf_12 rfl (lv_at hl 3 rfl) ?_
                refine lv_iload hx hb dX1_ledgeOf_13 (lv_at hl 0 rfl) ?_
                refine lv_ishr hx hb dX1_ledgeOf_15 ?_
                refine li_topx (z := st / 4) (ii_shr2 (by omega) (by omega)) ?_
                refine li_iconst hx hb dX1_ledgeOf_16 ?_
                refine lv_iand hx hb dX1_ledgeOf_17 ?_
                refine li_topx (z := (st / 4) % 2) (ii_and1 (by omega) (by omega)) ?_
                refine li_if_ne (tgt := 24) hx hb ⟨by omega, by omega⟩ dX1_ledgeOf_18 (by decide) (fun c18 => ?_) (fun c18 => ?_)
                · refine lv_iload hx hb dX1_ledgeOf_24 (lv_at hl 0 rfl) ?_
                  refine lv_aload_n hx hb dX1_ledgeOf_26 rfl (lv_at hl 2 rfl) ?_
                  refine va_get (D := G) (ci := 0) (v := .ref (ad 1)) (C := RX1) (T := TX1) (N := 21) hx hb hts in_X1 hown hK hP 0 (aD_0 _ _ _ _ _ _ _) rfl 0 (by decide) (hts _ q977) (fun _ h9 => h9) rfl dX1_ledgeOf_27 ?_
                  refine va_get (D := G) (ci := 1) (v := .int (ii (σ 9 0))) (C := RX2) (T := TX2) (N := 13) hx hb hts in_X2 hown hK hP 1 (aD_1 _ _ _ _ _ _ _) rfl 6 (by decide) (hts _ q790) (fun _ h9 => h9) rfl dX1_ledgeOf_30 ?_
                  refine li_icmp_ge (tgt := 53) hx hb ⟨by decide, by decide⟩ (rgi h9a h9b) dX1_ledgeOf_33 (by decide) (fun c33 => ?_) (fun c33 => ?_)
                  · refine li_bipush hx hb dX1_ledgeOf_53 (by decide) ?_
                    exact eRi hQ hx hb hr hlk dX1_ledgeOf_55 (⟨_, rfl, by omega, fun fr h0 a1 a2 a3 => by unfold goP at a1 a2 a3; omega⟩)
                  · refine lv_iload_n hx hb dX1_ledgeOf_36 rfl (lv_at hl 1 rfl) ?_
                    refine li_bipush hx hb dX1_ledgeOf_37 (by decide) ?_
                    refine li_icmp_eq (tgt := 56) hx hb (rgi r63.1 r63.2) ⟨by decide, by decide⟩ dX1_ledgeOf_39 (by decide) (fun c39 => ?_) (fun c39 => ?_)
                    · refine lv_aload_n hx hb dX1_ledgeOf_56 rfl (lv_at hl 4 rfl) ?_
                      refine va_get (D := G) (ci := 2) (v := .ref (ad 9)) (C := RX3) (T := TX3) (N := 2) hx hb hts in_X3 hown hK hP 8 (aD_8 _ _ _ _ _ _ _) rfl 0 (by decide) (hts _ q657) (fun _ h9 => h9) rfl dX1_ledgeOf_57 ?_
                      refine lv_iload hx hb dX1_ledgeOf_60 (lv_at hl 0 rfl) ?_
                      refine li_iald (g := (σ 6)) hx hb hK hP 9 0 (aD_9 _ _ _ _ _ _ _) rfl (by decide) (by decide) (by decide) dX1_ledgeOf_62 ?_
                      have r63_1 := hs0 2
                      refine lv_istore_n (lv' := [(3, .int (ii (σ 6 2))), (4, .int (ii 2)), (0, .ref (ad 0)), (1, .int (ii st)), (2, .ref (ad 8))]) hx hb dX1_ledgeOf_63 rfl hl (by decide) rfl (fun ls hl => ?_)
                      refine li_iinc (a := 2) (lv' := [(4, .int (ii 3)), (3, .int (ii (σ 6 2))), (0, .ref (ad 0)), (1, .int (ii st)), (2, .ref (ad 8))]) hx hb dX1_ledgeOf_64 hl (k := 1) rfl (by decide) rfl (fun ls hl => ?_)
                      refine lv_goto (tgt := 6) hx hb dX1_ledgeOf_67 (by decide) ?_
                      refine lv_iload hx hb dX1_ledgeOf_6 (lv_at hl 0 rfl) ?_
                      refine li_iconst hx hb dX1_ledgeOf_8 ?_
                      refine li_icmp_ge (tgt := 70) hx hb ⟨by decide, by decide⟩ ⟨by decide, by decide⟩ dX1_ledgeOf_9 (by decide) (fun c9 => ?_) (fun c9 => ?_)
                      · refine lv_iload_n hx hb dX1_ledgeOf_70 rfl (lv_at hl 1 rfl) ?_
                        exact eRi hQ hx hb hr hlk dX1_ledgeOf_71 (⟨_, rfl, by omega, fun fr h0 a1 a2 a3 => by unfold goP at a1 a2 a3; omega⟩)
                      · exact absurd c9 (by decide)
                    · refine lv_iload_n hx hb dX1_ledgeOf_42 rfl (lv_at hl 1 rfl) ?_
                      refine lv_aload_n hx hb dX1_ledgeOf_43 rfl (lv_at hl 4 rfl) ?_
                      refine va_get (D := G) (ci := 2) (v := .ref (ad 9)) (C := RX3) (T := TX3) (N := 2) hx hb hts in_X3 hown hK hP 8 (aD_8 _ _ _ _ _ _ _) rfl 0 (by decide) (hts _ q657) (fun _ h9 => h9) rfl dX1_ledgeOf_44 ?_
                      refine lv_iload hx hb dX1_ledgeOf_47 (lv_at hl 0 rfl) ?_
                      refine li_iald (g := (σ 6)) hx hb hK hP 9 0 (aD_9 _ _ _ _ _ _ _) rfl (by decide) (by decide) (by decide) dX1_ledgeOf_49 ?_
                      have r50 := hs0 2
                      refine li_icmp_eq (tgt := 56) hx hb (rgi r63.1 r63.2) (rgi r50.1 r50.2) dX1_ledgeOf_50 (by decide) (fun c50 => ?_) (fun c50 => ?_)
                      · refine lv_aload_n hx hb dX1_ledgeOf_56 rfl (lv_at hl 4 rfl) ?_
                        refine va_get (D := G) (ci := 2) (v := .ref (ad 9)) (C := RX3) (T := TX3) (N := 2) hx hb hts in_X3 hown hK hP 8 (aD_8 _ _ _ _ _ _ _) rfl 0 (by decide) (hts _ q657) (fun _ h9 => h9) rfl dX1_ledgeOf_57 ?_
                        refine lv_iload hx hb dX1_ledgeOf_60 (lv_at hl 0 rfl) ?_
                        refine li_iald (g := (σ 6)) hx hb hK hP 9 0 (aD_9 _ _ _ _ _ _ _) rfl (by decide) (by decide) (by decide) dX1_ledgeOf_62 ?_
                        have r63_1 := hs0 2
                        refine lv_istore_n (lv' := [(3, .int (ii (σ 6 2))), (4, .int (ii 2)), (0, .ref (ad 0)), (1, .int (ii st)), (2, .ref (ad 8))]) hx hb dX1_ledgeOf_63 rfl hl (by decide) rfl (fun ls hl => ?_)
                        refine li_iinc (a := 2) (lv' := [(4, .int (ii 3)), (3, .int (ii (σ 6 2))), (0, .ref (ad 0)), (1, .int (ii st)), (2, .ref (ad 8))]) hx hb dX1_ledgeOf_64 hl (k := 1) rfl (by decide) rfl (fun ls hl => ?_)
                        refine lv_goto (tgt := 6) hx hb dX1_ledgeOf_67 (by decide) ?_
                        refine lv_iload hx hb dX1_ledgeOf_6 (lv_at hl 0 rfl) ?_
                        refine li_iconst hx hb dX1_ledgeOf_8 ?_
                        refine li_icmp_ge (tgt := 70) hx hb ⟨by decide, by decide⟩ ⟨by decide, by decide⟩ dX1_ledgeOf_9 (by decide) (fun c9 => ?_) (fun c9 => ?_)
                        · refine lv_iload_n hx hb dX1_ledgeOf_70 rfl (lv_at hl 1 rfl) ?_
                          exact eRi hQ hx hb hr hlk dX1_ledgeOf_71 (⟨_, rfl, by omega, fun fr h0 a1 a2 a3 => by unfold goP at a1 a2 a3; omega⟩)
                        · exact absurd c9 (by decide)
                      · refine li_bipush hx hb dX1_ledgeOf_53 (by decide) ?_
                        exact eRi hQ hx hb hr hlk dX1_ledgeOf_55 (⟨_, rfl, by omega, fun fr h0 a1 a2 a3 => by unfold goP at a1 a2 a3; omega⟩)
                · refine lv_goto (tgt := 64) hx hb dX1_ledgeOf_21 (by decide) ?_
                  refine li_iinc (a := 2) (lv' := [(4, .int (ii 3)), (3, .int (ii (σ 6 0))), (0, .ref (ad 0)), (1, .int (ii st)), (2, .ref (ad 8))]) hx hb dX1_ledgeOf_64 hl (k := 0) rfl (by decide) rfl (fun ls hl => ?_)
                  refine lv_goto (tgt := 6) hx hb dX1_ledgeOf_67 (by decide) ?_
                  refine lv_iload hx hb dX1_ledgeOf_6 (lv_at hl 0 rfl) ?_
                  refine li_iconst hx hb dX1_ledgeOf_8 ?_
                  refine li_icmp_ge (tgt := 70) hx hb ⟨by decide, by decide⟩ ⟨by decide, by decide⟩ dX1_ledgeOf_9 (by decide) (fun c9 => ?_) (fun c9 => ?_)
                  · refine lv_iload_n hx hb dX1_ledgeOf_70 rfl (lv_at hl 1 rfl) ?_
                    exact eRi hQ hx hb hr hlk dX1_ledgeOf_71 (⟨_, rfl, by omega, fun fr h0 a1 a2 a3 => by unfold goP at a1 a2 a3; omega⟩)
                  · exact absurd c9 (by decide)
        · exact absurd c39 (by decide)
    · refine lv_goto (tgt := 64) hx hb dX1_ledgeOf_21 (by decide) ?_
      refine li_iinc (a := 0) (lv' := [(4, .int (ii 1)), (3, .int (ii (-4))), (0, .ref (ad 0)), (1, .int (ii st)), (2, .ref (ad 8))]) hx hb dX1_ledgeOf_64 hl (k := 0) rfl (by decide) rfl (fun ls hl => ?_)
      refine lv_goto (tgt := 6) hx hb dX1_ledgeOf_67 (by decide) ?_
      refine lv_iload hx hb dX1_ledgeOf_6 (lv_at hl 0 rfl) ?_
      refine li_iconst hx hb dX1_ledgeOf_8 ?_
      refine li_icmp_ge (tgt := 70) hx hb ⟨by decide, by decide⟩ ⟨by decide, by decide⟩ dX1_ledgeOf_9 (by decide) (fun c9 => ?_) (fun c9 => ?_)
      · exact absurd c9 (by decide)
      · refine lv_iload_n hx hb dX1_ledgeOf_12 rfl (lv_at hl 3 rfl) ?_
        refine lv_iload hx hb dX1_ledgeOf_13 (lv_at hl 0 rfl) ?_
        refine lv_ishr hx hb dX1_ledgeOf_15 ?_
        refine li_topx (z := st / 2) (ii_shr1 (by omega) (by omega)) ?_
        refine li_iconst hx hb dX1_ledgeOf_16 ?_
        refine lv_iand hx hb dX1_ledgeOf_17 ?_
        refine li_topx (z := (st / 2) % 2) (ii_and1 (by omega) (by omega)) ?_
        refine li_if_ne (tgt := 24) hx hb ⟨by omega, by omega⟩ dX1_ledgeOf_18 (by decide) (fun c18 => ?_) (fun c18 => ?_)
        · refine lv_iload hx hb dX1_ledgeOf_24 (lv_at hl 0 rfl) ?_
          refine lv_aload_n hx hb dX1_ledgeOf_26 rfl (lv_at hl 2 rfl) ?_
          refine va_get (D := G) (ci := 0) (v := .ref (ad 1)) (C := RX1) (T := TX1) (N := 21) hx hb hts in_X1 hown hK hP 0 (aD_0 _ _ _ _ _ _ _) rfl 0 (by decide) (hts _ q977) (fun _ h9 => h9) rfl dX1_ledgeOf_27 ?_
          refine va_get (D := G) (ci := 1) (v := .int (ii (σ 9 0))) (C := RX2) (T := TX2) (N := 13) hx hb hts in_X2 hown hK hP 1 (aD_1 _ _ _ _ _ _ _) rfl 6 (by decide) (hts _ q790) (fun _ h9 => h9) rfl dX1_ledgeOf_30 ?_
          refine li_icmp_ge (tgt := 53) hx hb ⟨by decide, by decide⟩ (rgi h9a h9b) dX1_ledgeOf_33 (by decide) (fun c33 => ?_) (fun c33 => ?_)
          · refine li_bipush hx hb dX1_ledgeOf_53 (by decide) ?_
            exact eRi hQ hx hb hr hlk dX1_ledgeOf_55 (⟨_, rfl, by omega, fun fr h0 a1 a2 a3 => by unfold goP at a1 a2 a3; omega⟩)
          · refine lv_iload_n hx hb dX1_ledgeOf_36 rfl (lv_at hl 1 rfl) ?_
            refine li_bipush hx hb dX1_ledgeOf_37 (by decide) ?_
            refine li_icmp_eq (tgt := 56) hx hb ⟨by decide, by decide⟩ ⟨by decide, by decide⟩ dX1_ledgeOf_39 (by decide) (fun c39 => ?_) (fun c39 => ?_)
            · refine lv_aload_n hx hb dX1_ledgeOf_56 rfl (lv_at hl 4 rfl) ?_
              refine va_get (D := G) (ci := 2) (v := .ref (ad 9)) (C := RX3) (T := TX3) (N := 2) hx hb hts in_X3 hown hK hP 8 (aD_8 _ _ _ _ _ _ _) rfl 0 (by decide) (hts _ q657) (fun _ h9 => h9) rfl dX1_ledgeOf_57 ?_
              refine lv_iload hx hb dX1_ledgeOf_60 (lv_at hl 0 rfl) ?_
              refine li_iald (g := (σ 6)) hx hb hK hP 9 0 (aD_9 _ _ _ _ _ _ _) rfl (by decide) (by decide) (by decide) dX1_ledgeOf_62 ?_
              have r63 := hs0 1
              refine lv_istore_n (lv' := [(3, .int (ii (σ 6 1))), (4, .int (ii 1)), (0, .ref (ad 0)), (1, .int (ii st)), (2, .ref (ad 8))]) hx hb dX1_ledgeOf_63 rfl hl (by decide) rfl (fun ls hl => ?_)
              refine li_iinc (a := 1) (lv' := [(4, .int (ii 2)), (3, .int (ii (σ 6 1))), (0, .ref (ad 0)), (1, .int (ii st)), (2, .ref (ad 8))]) hx hb dX1_ledgeOf_64 hl (k := 1) rfl (by decide) rfl (fun ls hl => ?_)
              refine lv_goto (tgt := 6) hx hb dX1_ledgeOf_67 (by decide) ?_
              refine lv_iload hx hb dX1_ledgeOf_6 (lv_at hl 0 rfl) ?_
              refine li_iconst hx hb dX1_ledgeOf_8 ?_
              refine li_icmp_ge (tgt := 70) hx hb ⟨by decide, by decide⟩ ⟨by decide, by decide⟩ dX1_ledgeOf_9 (by decide) (fun c9 => ?_) (fun c9 => ?_)
              · exact absurd c9 (by decide)
              · refine lv_iload_n hx hb dX1_ledgeOf_12 rfl (lv_at hl 3 rfl) ?_
                refine lv_iload hx hb dX1_ledgeOf_13 (lv_at hl 0 rfl) ?_
                refine lv_ishr hx hb dX1_ledgeOf_15 ?_
                refine li_topx (z := st / 4) (ii_shr2 (by omega) (by omega)) ?_
                refine li_iconst hx hb dX1_ledgeOf_16 ?_
                refine lv_iand hx hb dX1_ledgeOf_17 ?_
                refine li_topx (z := (st / 4) % 2) (ii_and1 (by omega) (by omega)) ?_
                refine li_if_ne (tgt := 24) hx hb ⟨by omega, by omega⟩ dX1_ledgeOf_18 (by decide) (fun c18 => ?_) (fun c18 => ?_)
                · refine lv_iload hx hb dX1_ledgeOf_24 (lv_at hl 0 rfl) ?_
                  refine lv_aload_n hx hb dX1_ledgeOf_26 rfl (lv_at hl 2 rfl) ?_
                  refine va_get (D := G) (ci := 0) (v := .ref (ad 1)) (C := RX1) (T := TX1) (N := 21) hx hb hts in_X1 hown hK hP 0 (aD_0 _ _ _ _ _ _ _) rfl 0 (by decide) (hts _ q977) (fun _ h9 => h9) rfl dX1_ledgeOf_27 ?_
                  refine va_get (D := G) (ci := 1) (v := .int (ii (σ 9 0))) (C := RX2) (T := TX2) (N := 13) hx hb hts in_X2 hown hK hP 1 (aD_1 _ _ _ _ _ _ _) rfl 6 (by decide) (hts _ q790) (fun _ h9 => h9) rfl dX1_ledgeOf_30 ?_
                  refine li_icmp_ge (tgt := 53) hx hb ⟨by decide, by decide⟩ (rgi h9a h9b) dX1_ledgeOf_33 (by decide) (fun c33 => ?_) (fun c33 => ?_)
                  · refine li_bipush hx hb dX1_ledgeOf_53 (by decide) ?_
                    exact eRi hQ hx hb hr hlk dX1_ledgeOf_55 (⟨_, rfl, by omega, fun fr h0 a1 a2 a3 => by unfold goP at a1 a2 a3; omega⟩)
                  · refine lv_iload_n hx hb dX1_ledgeOf_36 rfl (lv_at hl 1 rfl) ?_
                    refine li_bipush hx hb dX1_ledgeOf_37 (by decide) ?_
                    refine li_icmp_eq (tgt := 56) hx hb (rgi r63.1 r63.2) ⟨by decide, by decide⟩ dX1_ledgeOf_39 (by decide) (fun c39 => ?_) (fun c39 => ?_)
                    · refine lv_aload_n hx hb dX1_ledgeOf_56 rfl (lv_at hl 4 rfl) ?_
                      refine va_get (D := G) (ci := 2) (v := .ref (ad 9)) (C := RX3) (T := TX3) (N := 2) hx hb hts in_X3 hown hK hP 8 (aD_8 _ _ _ _ _ _ _) rfl 0 (by decide) (hts _ q657) (fun _ h9 => h9) rfl dX1_ledgeOf_57 ?_
                      refine lv_iload hx hb dX1_ledgeOf_60 (lv_at hl 0 rfl) ?_
                      refine li_iald (g := (σ 6)) hx hb hK hP 9 0 (aD_9 _ _ _ _ _ _ _) rfl (by decide) (by decide) (by decide) dX1_ledgeOf_62 ?_
                      have r63_1 := hs0 2
                      refine lv_istore_n (lv' := [(3, .int (ii (σ 6 2))), (4, .int (ii 2)), (0, .ref (ad 0)), (1, .int (ii st)), (2, .ref (ad 8))]) hx hb dX1_ledgeOf_63 rfl hl (by decide) rfl (fun ls hl => ?_)
                      refine li_iinc (a := 2) (lv' := [(4, .int (ii 3)), (3, .int (ii (σ 6 2))), (0, .ref (ad 0)), (1, .int (ii st)), (2, .ref (ad 8))]) hx hb dX1_ledgeOf_64 hl (k := 1) rfl (by decide) rfl (fun ls hl => ?_)
                      refine lv_goto (tgt := 6) hx hb dX1_ledgeOf_67 (by decide) ?_
                      refine lv_iload hx hb dX1_ledgeOf_6 (lv_at hl 0 rfl) ?_
                      refine li_iconst hx hb dX1_ledgeOf_8 ?_
                      refine li_icmp_ge (tgt := 70) hx hb ⟨by decide, by decide⟩ ⟨by decide, by decide⟩ dX1_ledgeOf_9 (by decide) (fun c9 => ?_) (fun c9 => ?_)
                      · refine lv_iload_n hx hb dX1_ledgeOf_70 rfl (lv_at hl 1 rfl) ?_
                        exact eRi hQ hx hb hr hlk dX1_ledgeOf_71 (⟨_, rfl, by omega, fun fr h0 a1 a2 a3 => by unfold goP at a1 a2 a3; omega⟩)
                      · exact absurd c9 (by decide)
                    · refine lv_iload_n hx hb dX1_ledgeOf_42 rfl (lv_at hl 1 rfl) ?_
                      refine lv_aload_n hx hb dX1_ledgeOf_43 rfl (lv_at hl 4 rfl) ?_
                      refine va_get (D := G) (ci := 2) (v := .ref (ad 9)) (C := RX3) (T := TX3) (N := 2) hx hb hts in_X3 hown hK hP 8 (aD_8 _ _ _ _ _ _ _) rfl 0 (by decide) (hts _ q657) (fun _ h9 => h9) rfl dX1_ledgeOf_44 ?_
                      refine lv_iload hx hb dX1_ledgeOf_47 (lv_at hl 0 rfl) ?_
                      refine li_iald (g := (σ 6)) hx hb hK hP 9 0 (aD_9 _ _ _ _ _ _ _) rfl (by decide) (by decide) (by decide) dX1_ledgeOf_49 ?_
                      have r50 := hs0 2
                      refine li_icmp_eq (tgt := 56) hx hb (rgi r63.1 r63.2) (rgi r50.1 r50.2) dX1_ledgeOf_50 (by decide) (fun c50 => ?_) (fun c50 => ?_)
                      · refine lv_aload_n hx hb dX1_ledgeOf_56 rfl (lv_at hl 4 rfl) ?_
                        refine va_get (D := G) (ci := 2) (v := .ref (ad 9)) (C := RX3) (T := TX3) (N := 2) hx hb hts in_X3 hown hK hP 8 (aD_8 _ _ _ _ _ _ _) rfl 0 (by decide) (hts _ q657) (fun _ h9 => h9) rfl dX1_ledgeOf_57 ?_
                        refine lv_iload hx hb dX1_ledgeOf_60 (lv_at hl 0 rfl) ?_
                        refine li_iald (g := (σ 6)) hx hb hK hP 9 0 (aD_9 _ _ _ _ _ _ _) rfl (by decide) (by decide) (by decide) dX1_ledgeOf_62 ?_
                        have r63_1 := hs0 2
                        refine lv_istore_n (lv' := [(3, .int (ii (σ 6 2))), (4, .int (ii 2)), (0, .ref (ad 0)), (1, .int (ii st)), (2, .ref (ad 8))]) hx hb dX1_ledgeOf_63 rfl hl (by decide) rfl (fun ls hl => ?_)
                        refine li_iinc (a := 2) (lv' := [(4, .int (ii 3)), (3, .int (ii (σ 6 2))), (0, .ref (ad 0)), (1, .int (ii st)), (2, .ref (ad 8))]) hx hb dX1_ledgeOf_64 hl (k := 1) rfl (by decide) rfl (fun ls hl => ?_)
                        refine lv_goto (tgt := 6) hx hb dX1_ledgeOf_67 (by decide) ?_
                        refine lv_iload hx hb dX1_ledgeOf_6 (lv_at hl 0 rfl) ?_
                        refine li_iconst hx hb dX1_ledgeOf_8 ?_
                        refine li_icmp_ge (tgt := 70) hx hb ⟨by decide, by decide⟩ ⟨by decide, by decide⟩ dX1_ledgeOf_9 (by decide) (fun c9 => ?_) (fun c9 => ?_)
                        · refine lv_iload_n hx hb dX1_ledgeOf_70 rfl (lv_at hl 1 rfl) ?_
                          exact eRi hQ hx hb hr hlk dX1_ledgeOf_71 (⟨_, rfl, by omega, fun fr h0 a1 a2 a3 => by unfold goP at a1 a2 a3; omega⟩)
                        · exact absurd c9 (by decide)
                      · refine li_bipush hx hb dX1_ledgeOf_53 (by decide) ?_
                        exact eRi hQ hx hb hr hlk dX1_ledgeOf_55 (⟨_, rfl, by omega, fun fr h0 a1 a2 a3 => by unfold goP at a1 a2 a3; omega⟩)
                · refine lv_goto (tgt := 64) hx hb dX1_ledgeOf_21 (by decide) ?_
                  refine li_iinc (a := 2) (lv' := [(4, .int (ii 3)), (3, .int (ii (σ 6 1))), (0, .ref (ad 0)), (1, .int (ii st)), (2, .ref (ad 8))]) hx hb dX1_ledgeOf_64 hl (k := 0) rfl (by decide) rfl (fun ls hl => ?_)
                  refine lv_goto (tgt := 6) hx hb dX1_ledgeOf_67 (by decide) ?_
                  refine lv_iload hx hb dX1_ledgeOf_6 (lv_at hl 0 rfl) ?_
                  refine li_iconst hx hb dX1_ledgeOf_8 ?_
                  refine li_icmp_ge (tgt := 70) hx hb ⟨by decide, by decide⟩ ⟨by decide, by decide⟩ dX1_ledgeOf_9 (by decide) (fun c9 => ?_) (fun c9 => ?_)
                  · refine lv_iload_n hx hb dX1_ledgeOf_70 rfl (lv_at hl 1 rfl) ?_
                    exact eRi hQ hx hb hr hlk dX1_ledgeOf_71 (⟨_, rfl, by omega, fun fr h0 a1 a2 a3 => by unfold goP at a1 a2 a3; omega⟩)
                  · exact absurd c9 (by decide)
            · exact absurd c39 (by decide)
        · refine lv_goto (tgt := 64) hx hb dX1_ledgeOf_21 (by decide) ?_
          refine li_iinc (a := 1) (lv' := [(4, .int (ii 2)), (3, .int (ii (-4))), (0, .ref (ad 0)), (1, .int (ii st)), (2, .ref (ad 8))]) hx hb dX1_ledgeOf_64 hl (k := 0) rfl (by decide) rfl (fun ls hl => ?_)
          refine lv_goto (tgt := 6) hx hb dX1_ledgeOf_67 (by decide) ?_
          refine lv_iload hx hb dX1_ledgeOf_6 (lv_at hl 0 rfl) ?_
          refine li_iconst hx hb dX1_ledgeOf_8 ?_
          refine li_icmp_ge (tgt := 70) hx hb ⟨by decide, by decide⟩ ⟨by decide, by decide⟩ dX1_ledgeOf_9 (by decide) (fun c9 => ?_) (fun c9 => ?_)
          · exact absurd c9 (by decide)
          · refine lv_iload_n hx hb dX1_ledgeOf_12 rfl (lv_at hl 3 rfl) ?_
            refine lv_iload hx hb dX1_ledgeOf_13 (lv_at hl 0 rfl) ?_
            refine lv_ishr hx hb dX1_ledgeOf_15 ?_
            refine li_topx (z := st / 4) (ii_shr2 (by omega) (by omega)) ?_
            refine li_iconst hx hb dX1_ledgeOf_16 ?_
            refine lv_iand hx hb dX1_ledgeOf_17 ?_
            refine li_topx (z := (st / 4) % 2) (ii_and1 (by omega) (by omega)) ?_
            refine li_if_ne (tgt := 24) hx hb ⟨by omega, by omega⟩ dX1_ledgeOf_18 (by decide) (fun c18 => ?_) (fun c18 => ?_)
            · refine lv_iload hx hb dX1_ledgeOf_24 (lv_at hl 0 rfl) ?_
              refine lv_aload_n hx hb dX1_ledgeOf_26 rfl (lv_at hl 2 rfl) ?_
              refine va_get (D := G) (ci := 0) (v := .ref (ad 1)) (C := RX1) (T := TX1) (N := 21) hx hb hts in_X1 hown hK hP 0 (aD_0 _ _ _ _ _ _ _) rfl 0 (by decide) (hts _ q977) (fun _ h9 => h9) rfl dX1_ledgeOf_27 ?_
              refine va_get (D := G) (ci := 1) (v := .int (ii (σ 9 0))) (C := RX2) (T := TX2) (N := 13) hx hb hts in_X2 hown hK hP 1 (aD_1 _ _ _ _ _ _ _) rfl 6 (by decide) (hts _ q790) (fun _ h9 => h9) rfl dX1_ledgeOf_30 ?_
              refine li_icmp_ge (tgt := 53) hx hb ⟨by decide, by decide⟩ (rgi h9a h9b) dX1_ledgeOf_33 (by decide) (fun c33 => ?_) (fun c33 => ?_)
              · refine li_bipush hx hb dX1_ledgeOf_53 (by decide) ?_
                exact eRi hQ hx hb hr hlk dX1_ledgeOf_55 (⟨_, rfl, by omega, fun fr h0 a1 a2 a3 => by unfold goP at a1 a2 a3; omega⟩)
              · refine lv_iload_n hx hb dX1_ledgeOf_36 rfl (lv_at hl 1 rfl) ?_
                refine li_bipush hx hb dX1_ledgeOf_37 (by decide) ?_
                refine li_icmp_eq (tgt := 56) hx hb ⟨by decide, by decide⟩ ⟨by decide, by decide⟩ dX1_ledgeOf_39 (by decide) (fun c39 => ?_) (fun c39 => ?_)
                · refine lv_aload_n hx hb dX1_ledgeOf_56 rfl (lv_at hl 4 rfl) ?_
                  refine va_get (D := G) (ci := 2) (v := .ref (ad 9)) (C := RX3) (T := TX3) (N := 2) hx hb hts in_X3 hown hK hP 8 (aD_8 _ _ _ _ _ _ _) rfl 0 (by decide) (hts _ q657) (fun _ h9 => h9) rfl dX1_ledgeOf_57 ?_
                  refine lv_iload hx hb dX1_ledgeOf_60 (lv_at hl 0 rfl) ?_
                  refine li_iald (g := (σ 6)) hx hb hK hP 9 0 (aD_9 _ _ _ _ _ _ _) rfl (by decide) (by decide) (by decide) dX1_ledgeOf_62 ?_
                  have r63 := hs0 2
                  refine lv_istore_n (lv' := [(3, .int (ii (σ 6 2))), (4, .int (ii 2)), (0, .ref (ad 0)), (1, .int (ii st)), (2, .ref (ad 8))]) hx hb dX1_ledgeOf_63 rfl hl (by decide) rfl (fun ls hl => ?_)
                  refine li_iinc (a := 2) (lv' := [(4, .int (ii 3)), (3, .int (ii (σ 6 2))), (0, .ref (ad 0)), (1, .int (ii st)), (2, .ref (ad 8))]) hx hb dX1_ledgeOf_64 hl (k := 1) rfl (by decide) rfl (fun ls hl => ?_)
                  refine lv_goto (tgt := 6) hx hb dX1_ledgeOf_67 (by decide) ?_
                  refine lv_iload hx hb dX1_ledgeOf_6 (lv_at hl 0 rfl) ?_
                  refine li_iconst hx hb dX1_ledgeOf_8 ?_
                  refine li_icmp_ge (tgt := 70) hx hb ⟨by decide, by decide⟩ ⟨by decide, by decide⟩ dX1_ledgeOf_9 (by decide) (fun c9 => ?_) (fun c9 => ?_)
                  · refine lv_iload_n hx hb dX1_ledgeOf_70 rfl (lv_at hl 1 rfl) ?_
                    exact eRi hQ hx hb hr hlk dX1_ledgeOf_71 (⟨_, rfl, by omega, fun fr h0 a1 a2 a3 => by unfold goP at a1 a2 a3; omega⟩)
                  · exact absurd c9 (by decide)
                · exact absurd c39 (by decide)
            · refine lv_goto (tgt := 64) hx hb dX1_ledgeOf_21 (by decide) ?_
              refine li_iinc (a := 2) (lv' := [(4, .int (ii 3)), (3, .int (ii (-4))), (0, .ref (ad 0)), (1, .int (ii st)), (2, .ref (ad 8))]) hx hb dX1_ledgeOf_64 hl (k := 0) rfl (by decide) rfl (fun ls hl => ?_)
              refine lv_goto (tgt := 6) hx hb dX1_ledgeOf_67 (by decide) ?_
              refine lv_iload hx hb dX1_ledgeOf_6 (lv_at hl 0 rfl) ?_
              refine li_iconst hx hb dX1_ledgeOf_8 ?_
              refine li_icmp_ge (tgt := 70) hx hb ⟨by decide, by decide⟩ ⟨by decide, by decide⟩ dX1_ledgeOf_9 (by decide) (fun c9 => ?_) (fun c9 => ?_)
              · refine lv_iload_n hx hb dX1_ledgeOf_70 rfl (lv_at hl 1 rfl) ?_
                exact eRi hQ hx hb hr hlk dX1_ledgeOf_71 (⟨_, rfl, by omega, fun fr h0 a1 a2 a3 => by unfold goP at a1 a2 a3; omega⟩)
              · exact absurd c9 (by decide)
