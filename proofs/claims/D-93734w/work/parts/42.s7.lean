/-! the model reads a text (written by gen/s7.py) -/
set_option maxRecDepth 100000
theorem tk_same {am : Nat → Nat} {ty : Nat → ClassId} {cs : va_W} (τ ρ : mem) : wM am ty τ (up (up ρ 18 (sc 1)) 17 (sc (ρ 17 0 + 0))) ++ cs = wM am ty τ (up ρ 18 (sc 1)) ++ cs := by
  have e : wM am ty τ (up (up ρ 18 (sc 1)) 17 (sc (ρ 17 0 + 0))) = wM am ty τ (up ρ 18 (sc 1)) := by
    rw [Int.add_zero]
    rfl
  rw [e]
theorem nmV_rg {u : Int → Int} {a : Int} (h : 48 ≤ u a ∧ u a ≤ 57) : rg (nmV u a) := by have := nmV_b h; exact ⟨by omega, by omega⟩
set_option maxHeartbeats 4000000 in
theorem m_hereM (l : Launch) (G : va_G) (am : Nat → Nat) (ty : Nat → ClassId) (τ ρ : mem) (cs : va_W)  (u : Int → Int) (hu : u = hrd (fun x => (τ 50) ((ρ 15 0) + x)) (ρ 16 0)) (hat : 0 ≤ (ρ 17 0) ∧ (ρ 17 0) ≤ 110) (hbe : 0 ≤ (ρ 15 0) ∧ (ρ 15 0) ≤ 700 ∧ 0 ≤ (ρ 16 0) ∧ (ρ 16 0) ≤ 100) : cR l yX12_here (ws_ yX12_here cX12_here 1 (some .int)) (rm4 0 0 0 0) G ty (wM am ty τ ρ ++ cs) [.ref (am 0)] (fun r => r = some (.int (ii (u (ρ 17 0)))) ∧ (-1 ≤ u (ρ 17 0) ∧ u (ρ 17 0) ≤ 255) ∧ (0 ≤ u (ρ 17 0) → (ρ 17 0) < (ρ 16 0))) := by
  refine cR.of (by decide) (Nat.le_of_ble_eq_true rfl) ?_
  intro p e s m args below meth c Q hQ hx hb hr hml hown hlk hts hK hP hD hX ls hl
  have hl : lv_has ls 1 [(0, .ref (am 0))] := hl
  obtain ⟨hat0, hat1⟩ := id hat
  obtain ⟨hbe0, hbe1, hbe3, hbe2⟩ := id hbe
  refine lv_aload_n hx hb dX12_here_0 rfl (lv_at hl 0 rfl) ?_
  refine va_get (D := G) (ci := 11) (v := .int (ii (ρ 17 0))) (C := RX12) (T := TX12) (N := 52) hx hb hts in_X12 hown hK hP 0 (aM_0 _ _ _ _ _) rfl 17 (by decide) (hts _ q1282) (fun _ h9 => h9) rfl dX12_here_1 ?_
  refine lv_aload_n hx hb dX12_here_4 rfl (lv_at hl 0 rfl) ?_
  refine va_get (D := G) (ci := 11) (v := .int (ii (ρ 16 0))) (C := RX12) (T := TX12) (N := 52) hx hb hts in_X12 hown hK hP 0 (aM_0 _ _ _ _ _) rfl 16 (by decide) (hts _ q1281) (fun _ h9 => h9) rfl dX12_here_5 ?_
  refine li_icmp_lt (tgt := 15) hx hb ⟨by omega, by omega⟩ ⟨by omega, by omega⟩ dX12_here_8 (by decide) (fun c8 => ?_) (fun c8 => ?_)
  · refine lv_aload_n hx hb dX12_here_15 rfl (lv_at hl 0 rfl) ?_
    refine va_get (D := G) (ci := 11) (v := .ref (am 32)) (C := RX12) (T := TX12) (N := 52) hx hb hts in_X12 hown hK hP 0 (aM_0 _ _ _ _ _) rfl 50 (by decide) (hts _ q1315) (fun _ h9 => h9) rfl dX12_here_16 ?_
    refine lv_aload_n hx hb dX12_here_19 rfl (lv_at hl 0 rfl) ?_
    refine va_get (D := G) (ci := 11) (v := .int (ii (ρ 15 0))) (C := RX12) (T := TX12) (N := 52) hx hb hts in_X12 hown hK hP 0 (aM_0 _ _ _ _ _) rfl 15 (by decide) (hts _ q1280) (fun _ h9 => h9) rfl dX12_here_20 ?_
    refine lv_aload_n hx hb dX12_here_23 rfl (lv_at hl 0 rfl) ?_
    refine va_get (D := G) (ci := 11) (v := .int (ii (ρ 17 0))) (C := RX12) (T := TX12) (N := 52) hx hb hts in_X12 hown hK hP 0 (aM_0 _ _ _ _ _) rfl 17 (by decide) (hts _ q1282) (fun _ h9 => h9) rfl dX12_here_24 ?_
    refine li_add hx hb dX12_here_27 ?_
    refine li_lald (g := (τ 50)) hx hb hK hP 32 4 (aM_32 _ _ _ _ _) rfl (by omega) (by omega) (by decide) dX12_here_28 ?_
    refine lv_l2i (v := ii (τ 50 (ρ 15 0 + (ρ 17 0)))) hx hb dX12_here_29 (ii_l _) ?_
    refine li_sipush hx hb dX12_here_30 (by decide) ?_
    refine lv_iand hx hb dX12_here_33 ?_
    refine li_topx (z := (τ 50 (ρ 15 0 + (ρ 17 0))) % 256) (ii_and255 _) ?_
    exact eRi hQ hx hb hr hlk dX12_here_34 (⟨by rw [hu]; exact congrArg (fun x => some (Value.int (ii x))) (show _ = hrd (fun x => τ 50 (ρ 15 0 + x)) (ρ 16 0) (ρ 17 0) by unfold hrd; rw [if_neg (by omega)]), by rw [hu]; exact hrd_b _ _ _, fun q => by rw [hu] at q; exact hrd_lt q⟩)
  · refine li_iconst hx hb dX12_here_11 ?_
    refine lv_goto (tgt := 34) hx hb dX12_here_12 (by decide) ?_
    exact eRi hQ hx hb hr hlk dX12_here_34 (⟨by rw [hu]; exact congrArg (fun x => some (Value.int (ii x))) (show _ = hrd (fun x => τ 50 (ρ 15 0 + x)) (ρ 16 0) (ρ 17 0) by unfold hrd; rw [if_pos (by omega)]), by rw [hu]; exact hrd_b _ _ _, fun q => by rw [hu] at q; exact hrd_lt q⟩)
set_option maxHeartbeats 4000000 in
theorem m_takeM0 (l : Launch) (G : va_G) (am : Nat → Nat) (ty : Nat → ClassId) (τ ρ : mem) (cs : va_W) (c1 : Int) (u : Int → Int) (hu : u = hrd (fun x => (τ 50) ((ρ 15 0) + x)) (ρ 16 0)) (hat : 0 ≤ (ρ 17 0) ∧ (ρ 17 0) ≤ 110) (hbe : 0 ≤ (ρ 15 0) ∧ (ρ 15 0) ≤ 700 ∧ 0 ≤ (ρ 16 0) ∧ (ρ 16 0) ≤ 100) (hc1 : rg c1) (hb0 : (ρ 18 0) = 0) : cM l yX12_take (ws_ yX12_take cX12_take 2 none) (rm4 1 0 0 20) G ty (wM am ty τ ρ ++ cs) [.ref (am 0), .int (ii c1)] 0 0 (fun r W' => ∃ (b : Int) (a : Int), r = none ∧ W' = wM am ty τ (up (up ρ 18 (sc (b))) 17 (sc (a))) ++ cs ∧ ((u (ρ 17 0) = c1 ∧ b = 0 ∧ a = (ρ 17 0) + 1) ∨ (¬ u (ρ 17 0) = c1 ∧ b = 1 ∧ a = (ρ 17 0)))) := by
  refine cM.of (by decide) (Nat.le_of_ble_eq_true rfl) ?_
  intro p e s m args below meth c A Q H locs hQ hx hb hr hml hown hlk hname hts hK hP hD hS hA hX ls hl
  have hl : lv_has ls 2 [(0, .ref (am 0)), (1, .int (ii c1))] := hl
  obtain ⟨hat0, hat1⟩ := id hat
  obtain ⟨hbe0, hbe1, hbe3, hbe2⟩ := id hbe
  refine lv_aload_n hx hb dX12_take_0 rfl (lv_at hl 0 rfl) ?_
  refine lv_aload_n hx hb dX12_take_1 rfl (lv_at hl 0 rfl) ?_
  refine va_get (D := G) (ci := 11) (v := .int (ii (ρ 18 0))) (C := RX12) (T := TX12) (N := 52) hx hb hts in_X12 hown hK hP 0 (aM_0 _ _ _ _ _) rfl 18 (by decide) (hts _ q1283) (fun _ h9 => h9) rfl dX12_take_2 ?_
  refine li_if_ne (tgt := 16) hx hb ⟨by omega, by omega⟩ dX12_take_5 (by decide) (fun c5 => ?_) (fun c5 => ?_)
  · exfalso
    omega
  · refine lv_aload_n hx hb dX12_take_8 rfl (lv_at hl 0 rfl) ?_
    refine kR (va_runV (As := []) (rest := [.ref (am 0)]) ⟨hx, hb, hml, hown, hts⟩ (m_hereM l G am ty τ ρ cs _ hu (show 0 ≤ (ρ 17 0) ∧ (ρ 17 0) ≤ 110 from hat) (show 0 ≤ (ρ 15 0) ∧ (ρ 15 0) ≤ 700 ∧ 0 ≤ (ρ 16 0) ∧ (ρ 16 0) ≤ 100 from hbe)) (cwV 0 hts (lw_V q1443 q1445 qs39 q87 q1446) rfl rfl rfl (by decide +kernel) ⟨Nat.le_of_ble_eq_true rfl, Nat.le_of_ble_eq_true rfl⟩) (pvR (r := (RX12, TX12, 52)) hK hP hD hX 0 (aM_0 _ _ _ _ _) rfl) rfl rfl hl.1 rfl (lv_room (Nat.le_of_ble_eq_true rfl)) dX12_take_9 ⟨Nat.le_of_ble_eq_true rfl, Nat.le_of_ble_eq_true rfl⟩) (fun v hv => ?_)
    obtain ⟨rfl, hzb9, hzl9⟩ := hv
    have hzb9 : -1 ≤ u (ρ 17 0) ∧ u (ρ 17 0) ≤ 255 := hzb9
    have hzl9 : 0 ≤ u (ρ 17 0) → (ρ 17 0) < (ρ 16 0) := hzl9
    refine li_top (b := (u (ρ 17 0))) rfl ?_
    refine lv_iload_n hx hb dX12_take_12 rfl (lv_at hl 1 rfl) ?_
    refine li_icmp_eq (tgt := 20) hx hb ⟨Int.le_trans (by decide) hzb9.1, Int.le_trans hzb9.2 (by decide)⟩ hc1 dX12_take_13 (by decide) (fun c13 => ?_) (fun c13 => ?_)
    · refine li_iconst hx hb dX12_take_20 ?_
      refine va_put (D := G) (ci := 11) (v := .int (ii 0)) (ty := .boolean) (C := RX12) (T := TX12) (N := 52) hx hb hts in_X12 tyX12 tyX12_ok nmX12 hown hK hP hD hS 0 (aM_0 _ _ _ _ _) rfl 18 (by decide) (hts _ q1283) (fun _ h9 => h9) rfl (tyX12_ok 18 (by decide)) (nrw_z (by omega)) (fit_z (by omega)) (Nat.le_of_ble_eq_true rfl) dX12_take_21 (fun H locs hP hD hS => ?_)
      have hP : va_P G gcl (wM am ty τ (up ρ 18 (sc (0))) ++ cs) H := hP
      have hD : va_D A (wM am ty τ (up ρ 18 (sc (0))) ++ cs) := hD
      refine lv_aload_n hx hb dX12_take_24 rfl (lv_at hl 0 rfl) ?_
      refine lv_dup hx hb dX12_take_25 rfl ?_
      refine va_get (D := G) (ci := 11) (v := .int (ii (ρ 17 0))) (C := RX12) (T := TX12) (N := 52) hx hb hts in_X12 hown hK hP 0 (aM_0 _ _ _ _ _) rfl 17 (by decide) (hts _ q1282) (fun _ h9 => h9) rfl dX12_take_26 ?_
      refine lv_aload_n hx hb dX12_take_29 rfl (lv_at hl 0 rfl) ?_
      refine va_get (D := G) (ci := 11) (v := .int (ii 0)) (C := RX12) (T := TX12) (N := 52) hx hb hts in_X12 hown hK hP 0 (aM_0 _ _ _ _ _) rfl 18 (by decide) (hts _ q1283) (fun _ h9 => h9) rfl dX12_take_30 ?_
      refine li_if_eq (tgt := 40) hx hb ⟨by decide, by decide⟩ dX12_take_33 (by decide) (fun c33 => ?_) (fun c33 => ?_)
      · refine li_iconst hx hb dX12_take_40 ?_
        refine li_add hx hb dX12_take_41 ?_
        refine va_put (D := G) (ci := 11) (v := .int (ii (ρ 17 0 + 1))) (ty := .int) (C := RX12) (T := TX12) (N := 52) hx hb hts in_X12 tyX12 tyX12_ok nmX12 hown hK hP hD hS 0 (aM_0 _ _ _ _ _) rfl 17 (by decide) (hts _ q1282) (fun _ h9 => h9) rfl (tyX12_ok 17 (by decide)) rfl rfl (Nat.le_of_ble_eq_true rfl) dX12_take_42 (fun H locs hP hD hS => ?_)
        have hP : va_P G gcl (wM am ty τ (up (up ρ 18 (sc (0))) 17 (sc (ρ 17 0 + 1))) ++ cs) H := hP
        have hD : va_D A (wM am ty τ (up (up ρ 18 (sc (0))) 17 (sc (ρ 17 0 + 1))) ++ cs) := hD
        exact eMv hQ hx hb hr hlk hP hD hS (Nat.le_of_ble_eq_true rfl) (Nat.le_of_ble_eq_true rfl) dX12_take_45 (⟨0, ρ 17 0 + 1, rfl, by first | rfl | exact congrArg (fun x => wM am ty τ (up (up ρ 18 (sc 1)) 17 (sc x)) ++ cs) (Int.add_zero _), .inl ⟨c13, rfl, rfl⟩⟩)
      · exact absurd c33 (by decide)
    · refine li_iconst hx hb dX12_take_16 ?_
      refine lv_goto (tgt := 21) hx hb dX12_take_17 (by decide) ?_
      refine va_put (D := G) (ci := 11) (v := .int (ii 1)) (ty := .boolean) (C := RX12) (T := TX12) (N := 52) hx hb hts in_X12 tyX12 tyX12_ok nmX12 hown hK hP hD hS 0 (aM_0 _ _ _ _ _) rfl 18 (by decide) (hts _ q1283) (fun _ h9 => h9) rfl (tyX12_ok 18 (by decide)) (nrw_z (by omega)) (fit_z (by omega)) (Nat.le_of_ble_eq_true rfl) dX12_take_21 (fun H locs hP hD hS => ?_)
      have hP : va_P G gcl (wM am ty τ (up ρ 18 (sc (1))) ++ cs) H := hP
      have hD : va_D A (wM am ty τ (up ρ 18 (sc (1))) ++ cs) := hD
      refine lv_aload_n hx hb dX12_take_24 rfl (lv_at hl 0 rfl) ?_
      refine lv_dup hx hb dX12_take_25 rfl ?_
      refine va_get (D := G) (ci := 11) (v := .int (ii (ρ 17 0))) (C := RX12) (T := TX12) (N := 52) hx hb hts in_X12 hown hK hP 0 (aM_0 _ _ _ _ _) rfl 17 (by decide) (hts _ q1282) (fun _ h9 => h9) rfl dX12_take_26 ?_
      refine lv_aload_n hx hb dX12_take_29 rfl (lv_at hl 0 rfl) ?_
      refine va_get (D := G) (ci := 11) (v := .int (ii 1)) (C := RX12) (T := TX12) (N := 52) hx hb hts in_X12 hown hK hP 0 (aM_0 _ _ _ _ _) rfl 18 (by decide) (hts _ q1283) (fun _ h9 => h9) rfl dX12_take_30 ?_
      refine li_if_eq (tgt := 40) hx hb ⟨by decide, by decide⟩ dX12_take_33 (by decide) (fun c33 => ?_) (fun c33 => ?_)
      · exact absurd c33 (by decide)
      · refine li_iconst hx hb dX12_take_36 ?_
        refine lv_goto (tgt := 41) hx hb dX12_take_37 (by decide) ?_
        refine li_add hx hb dX12_take_41 ?_
        refine va_put (D := G) (ci := 11) (v := .int (ii (ρ 17 0 + 0))) (ty := .int) (C := RX12) (T := TX12) (N := 52) hx hb hts in_X12 tyX12 tyX12_ok nmX12 hown hK hP hD hS 0 (aM_0 _ _ _ _ _) rfl 17 (by decide) (hts _ q1282) (fun _ h9 => h9) rfl (tyX12_ok 17 (by decide)) rfl rfl (Nat.le_of_ble_eq_true rfl) dX12_take_42 (fun H locs hP hD hS => ?_)
        have hP : va_P G gcl (wM am ty τ (up (up ρ 18 (sc (1))) 17 (sc (ρ 17 0 + 0))) ++ cs) H := hP
        have hD : va_D A (wM am ty τ (up (up ρ 18 (sc (1))) 17 (sc (ρ 17 0 + 0))) ++ cs) := hD
        exact eMv hQ hx hb hr hlk hP hD hS (Nat.le_of_ble_eq_true rfl) (Nat.le_of_ble_eq_true rfl) dX12_take_45 (⟨1, ρ 17 0 + 0, rfl, by first | rfl | exact congrArg (fun x => wM am ty τ (up (up ρ 18 (sc 1)) 17 (sc x)) ++ cs) (Int.add_zero _), .inr ⟨c13, rfl, Int.add_zero _⟩⟩)
set_option maxHeartbeats 4000000 in
theorem m_takeM1 (l : Launch) (G : va_G) (am : Nat → Nat) (ty : Nat → ClassId) (τ ρ : mem) (cs : va_W) (c1 : Int)  (hb1 : (ρ 18 0) = 1) : cM l yX12_take (ws_ yX12_take cX12_take 2 none) (rm4 0 0 0 0) G ty (wM am ty τ ρ ++ cs) [.ref (am 0), .int (ii c1)] 0 0 (fun r W' => r = none ∧ W' = wM am ty τ (up ρ 18 (sc (1))) ++ cs) := by
  refine cM.of (by decide) (Nat.le_of_ble_eq_true rfl) ?_
  intro p e s m args below meth c A Q H locs hQ hx hb hr hml hown hlk hname hts hK hP hD hS hA hX ls hl
  have hl : lv_has ls 2 [(0, .ref (am 0)), (1, .int (ii c1))] := hl
  refine lv_aload_n hx hb dX12_take_0 rfl (lv_at hl 0 rfl) ?_
  refine lv_aload_n hx hb dX12_take_1 rfl (lv_at hl 0 rfl) ?_
  refine va_get (D := G) (ci := 11) (v := .int (ii (ρ 18 0))) (C := RX12) (T := TX12) (N := 52) hx hb hts in_X12 hown hK hP 0 (aM_0 _ _ _ _ _) rfl 18 (by decide) (hts _ q1283) (fun _ h9 => h9) rfl dX12_take_2 ?_
  refine li_if_ne (tgt := 16) hx hb ⟨by omega, by omega⟩ dX12_take_5 (by decide) (fun c5 => ?_) (fun c5 => ?_)
  · refine li_iconst hx hb dX12_take_16 ?_
    refine lv_goto (tgt := 21) hx hb dX12_take_17 (by decide) ?_
    refine va_put (D := G) (ci := 11) (v := .int (ii 1)) (ty := .boolean) (C := RX12) (T := TX12) (N := 52) hx hb hts in_X12 tyX12 tyX12_ok nmX12 hown hK hP hD hS 0 (aM_0 _ _ _ _ _) rfl 18 (by decide) (hts _ q1283) (fun _ h9 => h9) rfl (tyX12_ok 18 (by decide)) (nrw_z (by omega)) (fit_z (by omega)) (Nat.le_of_ble_eq_true rfl) dX12_take_21 (fun H locs hP hD hS => ?_)
    have hP : va_P G gcl (wM am ty τ (up ρ 18 (sc (1))) ++ cs) H := hP
    have hD : va_D A (wM am ty τ (up ρ 18 (sc (1))) ++ cs) := hD
    refine lv_aload_n hx hb dX12_take_24 rfl (lv_at hl 0 rfl) ?_
    refine lv_dup hx hb dX12_take_25 rfl ?_
    refine va_get (D := G) (ci := 11) (v := .int (ii (ρ 17 0))) (C := RX12) (T := TX12) (N := 52) hx hb hts in_X12 hown hK hP 0 (aM_0 _ _ _ _ _) rfl 17 (by decide) (hts _ q1282) (fun _ h9 => h9) rfl dX12_take_26 ?_
    refine lv_aload_n hx hb dX12_take_29 rfl (lv_at hl 0 rfl) ?_
    refine va_get (D := G) (ci := 11) (v := .int (ii 1)) (C := RX12) (T := TX12) (N := 52) hx hb hts in_X12 hown hK hP 0 (aM_0 _ _ _ _ _) rfl 18 (by decide) (hts _ q1283) (fun _ h9 => h9) rfl dX12_take_30 ?_
    refine li_if_eq (tgt := 40) hx hb ⟨by decide, by decide⟩ dX12_take_33 (by decide) (fun c33 => ?_) (fun c33 => ?_)
    · exact absurd c33 (by decide)
    · refine li_iconst hx hb dX12_take_36 ?_
      refine lv_goto (tgt := 41) hx hb dX12_take_37 (by decide) ?_
      refine li_add hx hb dX12_take_41 ?_
      refine va_put (D := G) (ci := 11) (v := .int (ii (ρ 17 0 + 0))) (ty := .int) (C := RX12) (T := TX12) (N := 52) hx hb hts in_X12 tyX12 tyX12_ok nmX12 hown hK hP hD hS 0 (aM_0 _ _ _ _ _) rfl 17 (by decide) (hts _ q1282) (fun _ h9 => h9) rfl (tyX12_ok 17 (by decide)) rfl rfl (Nat.le_of_ble_eq_true rfl) dX12_take_42 (fun H locs hP hD hS => ?_)
      have hP : va_P G gcl (wM am ty τ (up (up ρ 18 (sc (1))) 17 (sc (ρ 17 0 + 0))) ++ cs) H := hP
      have hD : va_D A (wM am ty τ (up (up ρ 18 (sc (1))) 17 (sc (ρ 17 0 + 0))) ++ cs) := hD
      exact eMv hQ hx hb hr hlk hP hD hS (Nat.le_of_ble_eq_true rfl) (Nat.le_of_ble_eq_true rfl) dX12_take_45 (⟨rfl, tk_same _ _⟩)
  · exfalso
    omega
set_option maxHeartbeats 4000000 in
theorem m_readDigitM (l : Launch) (G : va_G) (am : Nat → Nat) (ty : Nat → ClassId) (τ ρ : mem) (cs : va_W)  (u : Int → Int) (hu : u = hrd (fun x => (τ 50) ((ρ 15 0) + x)) (ρ 16 0)) (hat : 0 ≤ (ρ 17 0) ∧ (ρ 17 0) ≤ 110) (hbe : 0 ≤ (ρ 15 0) ∧ (ρ 15 0) ≤ 700 ∧ 0 ≤ (ρ 16 0) ∧ (ρ 16 0) ≤ 100) (hby : ∀ x, 0 ≤ x → x < (ρ 16 0) → -128 ≤ (τ 50) ((ρ 15 0) + x) ∧ (τ 50) ((ρ 15 0) + x) ≤ 127) (hb0 : (ρ 18 0) = 0) : cM l yX12_readDigit (ws_ yX12_readDigit cX12_readDigit 1 (some .int)) (rm4 1 0 0 25) G ty (wM am ty τ ρ ++ cs) [.ref (am 0)] 0 0 (fun r W' => ∃ (z : Int) (b : Int) (a : Int), r = some (.int (ii z)) ∧ W' = wM am ty τ (up (up ρ 18 (sc (b))) 17 (sc (a))) ++ cs ∧ (((48 ≤ u (ρ 17 0) ∧ u (ρ 17 0) ≤ 57) ∧ z = u (ρ 17 0) - 48 ∧ b = 0 ∧ a = (ρ 17 0) + 1) ∨ (¬ (48 ≤ u (ρ 17 0) ∧ u (ρ 17 0) ≤ 57) ∧ z = 0 ∧ b = 1 ∧ a = (ρ 17 0)))) := by
  refine cM.of (by decide) (Nat.le_of_ble_eq_true rfl) ?_
  intro p e s m args below meth c A Q H locs hQ hx hb hr hml hown hlk hname hts hK hP hD hS hA hX ls hl
  have hl : lv_has ls 1 [(0, .ref (am 0))] := hl
  obtain ⟨hat0, hat1⟩ := id hat
  obtain ⟨hbe0, hbe1, hbe3, hbe2⟩ := id hbe
  refine lv_aload_n hx hb dX12_readDigit_0 rfl (lv_at hl 0 rfl) ?_
  refine lv_aload_n hx hb dX12_readDigit_1 rfl (lv_at hl 0 rfl) ?_
  refine va_get (D := G) (ci := 11) (v := .int (ii (ρ 18 0))) (C := RX12) (T := TX12) (N := 52) hx hb hts in_X12 hown hK hP 0 (aM_0 _ _ _ _ _) rfl 18 (by decide) (hts _ q1283) (fun _ h9 => h9) rfl dX12_readDigit_2 ?_
  refine li_if_ne (tgt := 25) hx hb ⟨by omega, by omega⟩ dX12_readDigit_5 (by decide) (fun c5 => ?_) (fun c5 => ?_)
  · exfalso
    omega
  · refine lv_aload_n hx hb dX12_readDigit_8 rfl (lv_at hl 0 rfl) ?_
    refine kR (va_runV (As := []) (rest := [.ref (am 0)]) ⟨hx, hb, hml, hown, hts⟩ (m_hereM l G am ty τ ρ cs _ hu (show 0 ≤ (ρ 17 0) ∧ (ρ 17 0) ≤ 110 from hat) (show 0 ≤ (ρ 15 0) ∧ (ρ 15 0) ≤ 700 ∧ 0 ≤ (ρ 16 0) ∧ (ρ 16 0) ≤ 100 from hbe)) (cwV 0 hts (lw_V q1443 q1445 qs39 q87 q1446) rfl rfl rfl (by decide +kernel) ⟨Nat.le_of_ble_eq_true rfl, Nat.le_of_ble_eq_true rfl⟩) (pvR (r := (RX12, TX12, 52)) hK hP hD hX 0 (aM_0 _ _ _ _ _) rfl) rfl rfl hl.1 rfl (lv_room (Nat.le_of_ble_eq_true rfl)) dX12_readDigit_9 ⟨Nat.le_of_ble_eq_true rfl, Nat.le_of_ble_eq_true rfl⟩) (fun v hv => ?_)
    obtain ⟨rfl, hzb9, hzl9⟩ := hv
    have hzb9 : -1 ≤ u (ρ 17 0) ∧ u (ρ 17 0) ≤ 255 := hzb9
    have hzl9 : 0 ≤ u (ρ 17 0) → (ρ 17 0) < (ρ 16 0) := hzl9
    refine li_top (b := (u (ρ 17 0))) rfl ?_
    refine lv_i2l (v := ll (u (ρ 17 0))) hx hb dX12_readDigit_12 (ll_i ⟨Int.le_trans (by decide) hzb9.1, Int.le_trans hzb9.2 (by decide)⟩) ?_
    refine lv_ldc2 (v := ll 48) hx hb hown (hts _ q1451) dX12_readDigit_13 ?_
    refine lv_ldc2 (v := ll 57) hx hb hown (hts _ q1452) dX12_readDigit_16 ?_
    refine kR (va_runS (As := [.long (ll (u (ρ 17 0))), .long (ll (48)), .long (ll (57))]) (rest := [.ref (am 0)]) ⟨hx, hb, hml, hown, hts⟩ (m_inM l G ty (wM am ty τ ρ ++ cs) (u (ρ 17 0)) 48 57 ⟨by omega, by omega⟩ ⟨by decide, by decide⟩ ⟨by decide, by decide⟩) (va_cwS 3 hts (lw_S q1436 q1437 q87 q1438) rfl rfl rfl (by decide +kernel) ⟨Nat.le_of_ble_eq_true rfl, Nat.le_of_ble_eq_true rfl⟩) (psR hK hP hD hX) rfl rfl hl.1 rfl (lv_room (Nat.le_of_ble_eq_true rfl)) dX12_readDigit_19 ⟨Nat.le_of_ble_eq_true rfl, Nat.le_of_ble_eq_true rfl⟩) (fun v hv => ?_)
    obtain ⟨z19, rfl, ⟨rfl, h19⟩ | ⟨rfl, h19⟩⟩ := hv
    · refine li_if_ne (tgt := 29) hx hb ⟨by decide, by decide⟩ dX12_readDigit_22 (by decide) (fun c22 => ?_) (fun c22 => ?_)
      · refine li_iconst hx hb dX12_readDigit_29 ?_
        refine va_put (D := G) (ci := 11) (v := .int (ii 0)) (ty := .boolean) (C := RX12) (T := TX12) (N := 52) hx hb hts in_X12 tyX12 tyX12_ok nmX12 hown hK hP hD hS 0 (aM_0 _ _ _ _ _) rfl 18 (by decide) (hts _ q1283) (fun _ h9 => h9) rfl (tyX12_ok 18 (by decide)) (nrw_z (by omega)) (fit_z (by omega)) (Nat.le_of_ble_eq_true rfl) dX12_readDigit_30 (fun H locs hP hD hS => ?_)
        have hP : va_P G gcl (wM am ty τ (up ρ 18 (sc (0))) ++ cs) H := hP
        have hD : va_D A (wM am ty τ (up ρ 18 (sc (0))) ++ cs) := hD
        refine lv_aload_n hx hb dX12_readDigit_33 rfl (lv_at hl 0 rfl) ?_
        refine va_get (D := G) (ci := 11) (v := .int (ii 0)) (C := RX12) (T := TX12) (N := 52) hx hb hts in_X12 hown hK hP 0 (aM_0 _ _ _ _ _) rfl 18 (by decide) (hts _ q1283) (fun _ h9 => h9) rfl dX12_readDigit_34 ?_
        refine li_if_eq (tgt := 42) hx hb ⟨by decide, by decide⟩ dX12_readDigit_37 (by decide) (fun c37 => ?_) (fun c37 => ?_)
        · have hlt := hzl9 (by omega)
          have hbx := hby (ρ 17 0) (by omega) hlt
          have hgu : τ 50 (ρ 15 0 + ρ 17 0) = u (ρ 17 0) := by rw [hu]; exact hrd_eq (g := fun x => τ 50 (ρ 15 0 + x)) hlt hbx.1 hbx.2 (by rw [← hu]; omega) (by rw [← hu]; omega)
          refine lv_aload_n hx hb dX12_readDigit_42 rfl (lv_at hl 0 rfl) ?_
          refine lv_dup hx hb dX12_readDigit_43 rfl ?_
          refine va_get (D := G) (ci := 11) (v := .int (ii (ρ 17 0))) (C := RX12) (T := TX12) (N := 52) hx hb hts in_X12 hown hK hP 0 (aM_0 _ _ _ _ _) rfl 17 (by decide) (hts _ q1282) (fun _ h9 => h9) rfl dX12_readDigit_44 ?_
          refine li_iconst hx hb dX12_readDigit_47 ?_
          refine li_add hx hb dX12_readDigit_48 ?_
          refine va_put (D := G) (ci := 11) (v := .int (ii (ρ 17 0 + 1))) (ty := .int) (C := RX12) (T := TX12) (N := 52) hx hb hts in_X12 tyX12 tyX12_ok nmX12 hown hK hP hD hS 0 (aM_0 _ _ _ _ _) rfl 17 (by decide) (hts _ q1282) (fun _ h9 => h9) rfl (tyX12_ok 17 (by decide)) rfl rfl (Nat.le_of_ble_eq_true rfl) dX12_readDigit_49 (fun H locs hP hD hS => ?_)
          have hP : va_P G gcl (wM am ty τ (up (up ρ 18 (sc (0))) 17 (sc (ρ 17 0 + 1))) ++ cs) H := hP
          have hD : va_D A (wM am ty τ (up (up ρ 18 (sc (0))) 17 (sc (ρ 17 0 + 1))) ++ cs) := hD
          refine lv_aload_n hx hb dX12_readDigit_52 rfl (lv_at hl 0 rfl) ?_
          refine va_get (D := G) (ci := 11) (v := .ref (am 32)) (C := RX12) (T := TX12) (N := 52) hx hb hts in_X12 hown hK hP 0 (aM_0 _ _ _ _ _) rfl 50 (by decide) (hts _ q1315) (fun _ h9 => h9) rfl dX12_readDigit_53 ?_
          refine lv_aload_n hx hb dX12_readDigit_56 rfl (lv_at hl 0 rfl) ?_
          refine va_get (D := G) (ci := 11) (v := .int (ii (ρ 15 0))) (C := RX12) (T := TX12) (N := 52) hx hb hts in_X12 hown hK hP 0 (aM_0 _ _ _ _ _) rfl 15 (by decide) (hts _ q1280) (fun _ h9 => h9) rfl dX12_readDigit_57 ?_
          refine lv_aload_n hx hb dX12_readDigit_60 rfl (lv_at hl 0 rfl) ?_
          refine va_get (D := G) (ci := 11) (v := .int (ii (ρ 17 0 + 1))) (C := RX12) (T := TX12) (N := 52) hx hb hts in_X12 hown hK hP 0 (aM_0 _ _ _ _ _) rfl 17 (by decide) (hts _ q1282) (fun _ h9 => h9) rfl dX12_readDigit_61 ?_
          refine li_add hx hb dX12_readDigit_64 ?_
          refine li_iconst hx hb dX12_readDigit_65 ?_
          refine li_sub hx hb dX12_readDigit_66 ?_
          refine li_lald (g := (τ 50)) hx hb hK hP 32 4 (aM_32 _ _ _ _ _) rfl (by omega) (by omega) (by decide) dX12_readDigit_67 ?_
          refine lv_l2i (v := ii (τ 50 (ρ 15 0 + (ρ 17 0 + 1) - 1))) hx hb dX12_readDigit_68 (ii_l _) ?_
          refine li_bipush hx hb dX12_readDigit_69 (by decide) ?_
          refine li_sub hx hb dX12_readDigit_71 ?_
          exact eMi hQ hx hb hr hlk hP hD hS (Nat.le_of_ble_eq_true rfl) (Nat.le_of_ble_eq_true rfl) dX12_readDigit_72 (⟨τ 50 (ρ 15 0 + (ρ 17 0 + 1) - 1) - 48, 0, ρ 17 0 + 1, rfl, rfl, .inl ⟨⟨by omega, by omega⟩, by rw [show ρ 15 0 + (ρ 17 0 + 1) - 1 = ρ 15 0 + ρ 17 0 by omega, hgu], rfl, rfl⟩⟩)
        · exact absurd c37 (by decide)
      · exact absurd c22 (by decide)
    · refine li_if_ne (tgt := 29) hx hb ⟨by decide, by decide⟩ dX12_readDigit_22 (by decide) (fun c22 => ?_) (fun c22 => ?_)
      · exact absurd c22 (by decide)
      · refine li_iconst hx hb dX12_readDigit_25 ?_
        refine lv_goto (tgt := 30) hx hb dX12_readDigit_26 (by decide) ?_
        refine va_put (D := G) (ci := 11) (v := .int (ii 1)) (ty := .boolean) (C := RX12) (T := TX12) (N := 52) hx hb hts in_X12 tyX12 tyX12_ok nmX12 hown hK hP hD hS 0 (aM_0 _ _ _ _ _) rfl 18 (by decide) (hts _ q1283) (fun _ h9 => h9) rfl (tyX12_ok 18 (by decide)) (nrw_z (by omega)) (fit_z (by omega)) (Nat.le_of_ble_eq_true rfl) dX12_readDigit_30 (fun H locs hP hD hS => ?_)
        have hP : va_P G gcl (wM am ty τ (up ρ 18 (sc (1))) ++ cs) H := hP
        have hD : va_D A (wM am ty τ (up ρ 18 (sc (1))) ++ cs) := hD
        refine lv_aload_n hx hb dX12_readDigit_33 rfl (lv_at hl 0 rfl) ?_
        refine va_get (D := G) (ci := 11) (v := .int (ii 1)) (C := RX12) (T := TX12) (N := 52) hx hb hts in_X12 hown hK hP 0 (aM_0 _ _ _ _ _) rfl 18 (by decide) (hts _ q1283) (fun _ h9 => h9) rfl dX12_readDigit_34 ?_
        refine li_if_eq (tgt := 42) hx hb ⟨by decide, by decide⟩ dX12_readDigit_37 (by decide) (fun c37 => ?_) (fun c37 => ?_)
        · exact absurd c37 (by decide)
        · refine li_iconst hx hb dX12_readDigit_40 ?_
          exact eMi hQ hx hb hr hlk hP hD hS (Nat.le_of_ble_eq_true rfl) (Nat.le_of_ble_eq_true rfl) dX12_readDigit_41 (⟨0, 1, ρ 17 0, rfl, rfl, .inr ⟨by omega, rfl, rfl, rfl⟩⟩)
set_option maxHeartbeats 4000000 in
theorem m_readNumberM (l : Launch) (G : va_G) (am : Nat → Nat) (ty : Nat → ClassId) (τ ρ : mem) (cs : va_W)  (u : Int → Int) (hu : u = hrd (fun x => (τ 50) ((ρ 15 0) + x)) (ρ 16 0)) (hat : 0 ≤ (ρ 17 0) ∧ (ρ 17 0) ≤ 110) (hbe : 0 ≤ (ρ 15 0) ∧ (ρ 15 0) ≤ 700 ∧ 0 ≤ (ρ 16 0) ∧ (ρ 16 0) ≤ 100) (hby : ∀ x, 0 ≤ x → x < (ρ 16 0) → -128 ≤ (τ 50) ((ρ 15 0) + x) ∧ (τ 50) ((ρ 15 0) + x) ≤ 127) (hat2 : (ρ 17 0) ≤ 107) (hb0 : (ρ 18 0) = 0) : cM l yX12_readNumber (ws_ yX12_readNumber cX12_readNumber 3 (some .int)) (rm4 2 0 0 45) G ty (wM am ty τ ρ ++ cs) [.ref (am 0)] 0 0 (fun r W' => ∃ (z : Int) (b : Int) (a : Int), r = some (.int (ii z)) ∧ W' = wM am ty τ (up (up ρ 18 (sc (b))) 17 (sc (a))) ++ cs ∧ (((48 ≤ u (ρ 17 0) ∧ u (ρ 17 0) ≤ 57) ∧ z = nmV u (ρ 17 0) ∧ b = 0 ∧ a = nmE u (ρ 17 0)) ∨ (¬ (48 ≤ u (ρ 17 0) ∧ u (ρ 17 0) ≤ 57) ∧ z = 0 ∧ b = 1 ∧ a = (ρ 17 0)))) := by
  refine cM.of (by decide) (Nat.le_of_ble_eq_true rfl) ?_
  intro p e s m args below meth c A Q H locs hQ hx hb hr hml hown hlk hname hts hK hP hD hS hA hX ls hl
  have hl : lv_has ls 3 [(0, .ref (am 0))] := hl
  obtain ⟨hat0, hat1⟩ := id hat
  obtain ⟨hbe0, hbe1, hbe3, hbe2⟩ := id hbe
  refine lv_aload_n hx hb dX12_readNumber_0 rfl (lv_at hl 0 rfl) ?_
  refine kM (va_runV (As := []) (rest := []) ⟨hx, hb, hml, hown, hts⟩ ((m_readDigitM l G am ty τ ρ cs _ hu (show 0 ≤ (ρ 17 0) ∧ (ρ 17 0) ≤ 110 from ⟨by omega, by omega⟩) (show 0 ≤ (ρ 15 0) ∧ (ρ 15 0) ≤ 700 ∧ 0 ≤ (ρ 16 0) ∧ (ρ 16 0) ≤ 100 from hbe) (show ∀ x, 0 ≤ x → x < (ρ 16 0) → -128 ≤ (τ 50) ((ρ 15 0) + x) ∧ (τ 50) ((ρ 15 0) + x) ≤ 127 from hby) (show (ρ 18 0) = 0 from hb0)) H.size) (cwV 0 hts (lw_V q1447 q1449 qs40 q87 q1450) rfl rfl rfl (by decide +kernel) ⟨Nat.le_of_ble_eq_true rfl, Nat.le_of_ble_eq_true rfl⟩) (pvM (r := (RX12, TX12, 52)) hK hP hD hX 0 (aM_0 _ _ _ _ _) rfl) rfl rfl hl.1 rfl (lv_room (Nat.le_of_ble_eq_true rfl)) dX12_readNumber_1 ⟨Nat.le_of_ble_eq_true rfl, Nat.le_of_ble_eq_true rfl⟩) hD hS hA (fun v ws1 H locs hv hP hD hS => ?_)
  obtain ⟨z1, b1, a1, rfl, rfl, ⟨h1, rfl, rfl, rfl⟩ | ⟨h1, rfl, rfl, rfl⟩⟩ := hv
  · have hP : va_P G gcl (wM am ty τ (up (up ρ 18 (sc (0))) 17 (sc ((ρ 17 0) + 1))) ++ cs) H := hP
    have hD : va_D A (wM am ty τ (up (up ρ 18 (sc (0))) 17 (sc ((ρ 17 0) + 1))) ++ cs) := hD
    have h1 : 48 ≤ u (ρ 17 0) ∧ u (ρ 17 0) ≤ 57 := h1
    refine lv_istore_n (lv' := [(1, .int (ii (u (ρ 17 0) - 48))), (0, .ref (am 0))]) hx hb dX12_readNumber_4 rfl hl (by decide) rfl (fun ls hl => ?_)
    refine li_iconst hx hb dX12_readNumber_5 ?_
    refine lv_istore_n (lv' := [(2, .int (ii 1)), (1, .int (ii (u (ρ 17 0) - 48))), (0, .ref (am 0))]) hx hb dX12_readNumber_6 rfl hl (by decide) rfl (fun ls hl => ?_)
    refine lv_iload_n hx hb dX12_readNumber_7 rfl (lv_at hl 0 rfl) ?_
    refine li_iconst hx hb dX12_readNumber_8 ?_
    refine li_icmp_ge (tgt := 69) hx hb ⟨by decide, by decide⟩ ⟨by decide, by decide⟩ dX12_readNumber_9 (by decide) (fun c9 => ?_) (fun c9 => ?_)
    · exact absurd c9 (by decide)
    · refine lv_iload_n hx hb dX12_readNumber_12 rfl (lv_at hl 1 rfl) ?_
      refine li_if_le (tgt := 69) hx hb ⟨by omega, by omega⟩ dX12_readNumber_13 (by decide) (fun c13 => ?_) (fun c13 => ?_)
      · refine lv_iload_n hx hb dX12_readNumber_69 rfl (lv_at hl 1 rfl) ?_
        exact eMi hQ hx hb hr hlk hP hD hS (Nat.le_of_ble_eq_true rfl) (Nat.le_of_ble_eq_true rfl) dX12_readNumber_70 (⟨u (ρ 17 0) - 48, 0, (ρ 17 0) + 1, rfl, rfl, .inl ⟨h1, by unfold nmV; omega, rfl, by unfold nmE; omega⟩⟩)
      · refine lv_aload_n hx hb dX12_readNumber_16 rfl (lv_at hl 2 rfl) ?_
        refine va_get (D := G) (ci := 11) (v := .int (ii 0)) (C := RX12) (T := TX12) (N := 52) hx hb hts in_X12 hown hK hP 0 (aM_0 _ _ _ _ _) rfl 18 (by decide) (hts _ q1283) (fun _ h9 => h9) rfl dX12_readNumber_17 ?_
        refine li_if_ne (tgt := 69) hx hb ⟨by decide, by decide⟩ dX12_readNumber_20 (by decide) (fun c20 => ?_) (fun c20 => ?_)
        · exact absurd c20 (by decide)
        · refine lv_aload_n hx hb dX12_readNumber_23 rfl (lv_at hl 2 rfl) ?_
          refine kR (va_runV (As := []) (rest := []) ⟨hx, hb, hml, hown, hts⟩ (m_hereM l G am ty τ (up (up ρ 18 (sc (0))) 17 (sc ((ρ 17 0) + 1))) cs _ hu (show 0 ≤ ((ρ 17 0) + 1) ∧ ((ρ 17 0) + 1) ≤ 110 from ⟨by omega, by omega⟩) (show 0 ≤ (ρ 15 0) ∧ (ρ 15 0) ≤ 700 ∧ 0 ≤ (ρ 16 0) ∧ (ρ 16 0) ≤ 100 from hbe)) (cwV 0 hts (lw_V q1443 q1445 qs39 q87 q1446) rfl rfl rfl (by decide +kernel) ⟨Nat.le_of_ble_eq_true rfl, Nat.le_of_ble_eq_true rfl⟩) (pvR (r := (RX12, TX12, 52)) hK hP hD hX 0 (aM_0 _ _ _ _ _) rfl) rfl rfl hl.1 rfl (lv_room (Nat.le_of_ble_eq_true rfl)) dX12_readNumber_24 ⟨Nat.le_of_ble_eq_true rfl, Nat.le_of_ble_eq_true rfl⟩) (fun v hv => ?_)
          obtain ⟨rfl, hzb24, hzl24⟩ := hv
          have hzb24 : -1 ≤ u ((ρ 17 0) + 1) ∧ u ((ρ 17 0) + 1) ≤ 255 := hzb24
          have hzl24 : 0 ≤ u ((ρ 17 0) + 1) → ((ρ 17 0) + 1) < (ρ 16 0) := hzl24
          refine li_top (b := (u ((ρ 17 0) + 1))) rfl ?_
          refine lv_i2l (v := ll (u ((ρ 17 0) + 1))) hx hb dX12_readNumber_27 (ll_i ⟨Int.le_trans (by decide) hzb24.1, Int.le_trans hzb24.2 (by decide)⟩) ?_
          refine lv_ldc2 (v := ll 48) hx hb hown (hts _ q1451) dX12_readNumber_28 ?_
          refine lv_ldc2 (v := ll 57) hx hb hown (hts _ q1452) dX12_readNumber_31 ?_
          refine kR (va_runS (As := [.long (ll (u ((ρ 17 0) + 1))), .long (ll (48)), .long (ll (57))]) (rest := []) ⟨hx, hb, hml, hown, hts⟩ (m_inM l G ty (wM am ty τ (up (up ρ 18 (sc (0))) 17 (sc ((ρ 17 0) + 1))) ++ cs) (u ((ρ 17 0) + 1)) 48 57 ⟨by omega, by omega⟩ ⟨by decide, by decide⟩ ⟨by decide, by decide⟩) (va_cwS 3 hts (lw_S q1436 q1437 q87 q1438) rfl rfl rfl (by decide +kernel) ⟨Nat.le_of_ble_eq_true rfl, Nat.le_of_ble_eq_true rfl⟩) (psR hK hP hD hX) rfl rfl hl.1 rfl (lv_room (Nat.le_of_ble_eq_true rfl)) dX12_readNumber_34 ⟨Nat.le_of_ble_eq_true rfl, Nat.le_of_ble_eq_true rfl⟩) (fun v hv => ?_)
          obtain ⟨z34, rfl, ⟨rfl, h34⟩ | ⟨rfl, h34⟩⟩ := hv
          · refine li_if_eq (tgt := 69) hx hb ⟨by decide, by decide⟩ dX12_readNumber_37 (by decide) (fun c37 => ?_) (fun c37 => ?_)
            · exact absurd c37 (by decide)
            · refine li_bipush hx hb dX12_readNumber_40 (by decide) ?_
              refine lv_iload_n hx hb dX12_readNumber_42 rfl (lv_at hl 1 rfl) ?_
              refine li_mul hx hb dX12_readNumber_43 ?_
              refine lv_aload_n hx hb dX12_readNumber_44 rfl (lv_at hl 2 rfl) ?_
              refine kR (va_runV (As := []) (rest := [.int (ii (10 * (u (ρ 17 0) - 48)))]) ⟨hx, hb, hml, hown, hts⟩ (m_hereM l G am ty τ (up (up ρ 18 (sc (0))) 17 (sc ((ρ 17 0) + 1))) cs _ hu (show 0 ≤ ((ρ 17 0) + 1) ∧ ((ρ 17 0) + 1) ≤ 110 from ⟨by omega, by omega⟩) (show 0 ≤ (ρ 15 0) ∧ (ρ 15 0) ≤ 700 ∧ 0 ≤ (ρ 16 0) ∧ (ρ 16 0) ≤ 100 from hbe)) (cwV 0 hts (lw_V q1443 q1445 qs39 q87 q1446) rfl rfl rfl (by decide +kernel) ⟨Nat.le_of_ble_eq_true rfl, Nat.le_of_ble_eq_true rfl⟩) (pvR (r := (RX12, TX12, 52)) hK hP hD hX 0 (aM_0 _ _ _ _ _) rfl) rfl rfl hl.1 rfl (lv_room (Nat.le_of_ble_eq_true rfl)) dX12_readNumber_45 ⟨Nat.le_of_ble_eq_true rfl, Nat.le_of_ble_eq_true rfl⟩) (fun v hv => ?_)
              obtain ⟨rfl, hzb45, hzl45⟩ := hv
              have hzb45 : -1 ≤ u ((ρ 17 0) + 1) ∧ u ((ρ 17 0) + 1) ≤ 255 := hzb45
              have hzl45 : 0 ≤ u ((ρ 17 0) + 1) → ((ρ 17 0) + 1) < (ρ 16 0) := hzl45
              refine li_top (b := (u ((ρ 17 0) + 1))) rfl ?_
              refine li_add hx hb dX12_readNumber_48 ?_
              refine li_bipush hx hb dX12_readNumber_49 (by decide) ?_
              refine li_sub hx hb dX12_readNumber_51 ?_
              refine lv_istore_n (lv' := [(1, .int (ii (10 * (u (ρ 17 0) - 48) + (u ((ρ 17 0) + 1)) - 48))), (2, .int (ii 1)), (0, .ref (am 0))]) hx hb dX12_readNumber_52 rfl hl (by decide) rfl (fun ls hl => ?_)
              refine lv_aload_n hx hb dX12_readNumber_53 rfl (lv_at hl 2 rfl) ?_
              refine lv_dup hx hb dX12_readNumber_54 rfl ?_
              refine va_get (D := G) (ci := 11) (v := .int (ii ((ρ 17 0) + 1))) (C := RX12) (T := TX12) (N := 52) hx hb hts in_X12 hown hK hP 0 (aM_0 _ _ _ _ _) rfl 17 (by decide) (hts _ q1282) (fun _ h9 => h9) rfl dX12_readNumber_55 ?_
              refine li_iconst hx hb dX12_readNumber_58 ?_
              refine li_add hx hb dX12_readNumber_59 ?_
              refine va_put (D := G) (ci := 11) (v := .int (ii ((ρ 17 0) + 1 + 1))) (ty := .int) (C := RX12) (T := TX12) (N := 52) hx hb hts in_X12 tyX12 tyX12_ok nmX12 hown hK hP hD hS 0 (aM_0 _ _ _ _ _) rfl 17 (by decide) (hts _ q1282) (fun _ h9 => h9) rfl (tyX12_ok 17 (by decide)) rfl rfl (Nat.le_of_ble_eq_true rfl) dX12_readNumber_60 (fun H locs hP hD hS => ?_)
              have hP : va_P G gcl (wM am ty τ (up (up ρ 18 (sc (0))) 17 (sc ((ρ 17 0) + 1 + 1))) ++ cs) H := hP
              have hD : va_D A (wM am ty τ (up (up ρ 18 (sc (0))) 17 (sc ((ρ 17 0) + 1 + 1))) ++ cs) := hD
              refine li_iinc (a := 1) (lv' := [(2, .int (ii 2)), (1, .int (ii (10 * (u (ρ 17 0) - 48) + (u ((ρ 17 0) + 1)) - 48))), (0, .ref (am 0))]) hx hb dX12_readNumber_63 hl (k := 1) rfl (by decide) rfl (fun ls hl => ?_)
              refine lv_goto (tgt := 7) hx hb dX12_readNumber_66 (by decide) ?_
              refine lv_iload_n hx hb dX12_readNumber_7 rfl (lv_at hl 0 rfl) ?_
              refine li_iconst hx hb dX12_readNumber_8 ?_
              refine li_icmp_ge (tgt := 69) hx hb ⟨by decide, by decide⟩ ⟨by decide, by decide⟩ dX12_readNumber_9 (by decide) (fun c9 => ?_) (fun c9 => ?_)
              · exact absurd c9 (by decide)
              · refine lv_iload_n hx hb dX12_readNumber_12 rfl (lv_at hl 1 rfl) ?_
                refine li_if_le (tgt := 69) hx hb ⟨by omega, by omega⟩ dX12_readNumber_13 (by decide) (fun c13 => ?_) (fun c13 => ?_)
                · refine lv_iload_n hx hb dX12_readNumber_69 rfl (lv_at hl 1 rfl) ?_
                  exact eMi hQ hx hb hr hlk hP hD hS (Nat.le_of_ble_eq_true rfl) (Nat.le_of_ble_eq_true rfl) dX12_readNumber_70 (⟨10 * (u (ρ 17 0) - 48) + (u ((ρ 17 0) + 1)) - 48, 0, (ρ 17 0) + 1 + 1, rfl, rfl, .inl ⟨h1, by unfold nmV; omega, rfl, by unfold nmE; omega⟩⟩)
                · refine lv_aload_n hx hb dX12_readNumber_16 rfl (lv_at hl 2 rfl) ?_
                  refine va_get (D := G) (ci := 11) (v := .int (ii 0)) (C := RX12) (T := TX12) (N := 52) hx hb hts in_X12 hown hK hP 0 (aM_0 _ _ _ _ _) rfl 18 (by decide) (hts _ q1283) (fun _ h9 => h9) rfl dX12_readNumber_17 ?_
                  refine li_if_ne (tgt := 69) hx hb ⟨by decide, by decide⟩ dX12_readNumber_20 (by decide) (fun c20 => ?_) (fun c20 => ?_)
                  · exact absurd c20 (by decide)
                  · refine lv_aload_n hx hb dX12_readNumber_23 rfl (lv_at hl 2 rfl) ?_
                    refine kR (va_runV (As := []) (rest := []) ⟨hx, hb, hml, hown, hts⟩ (m_hereM l G am ty τ (up (up ρ 18 (sc (0))) 17 (sc ((ρ 17 0) + 1 + 1))) cs _ hu (show 0 ≤ ((ρ 17 0) + 1 + 1) ∧ ((ρ 17 0) + 1 + 1) ≤ 110 from ⟨by omega, by omega⟩) (show 0 ≤ (ρ 15 0) ∧ (ρ 15 0) ≤ 700 ∧ 0 ≤ (ρ 16 0) ∧ (ρ 16 0) ≤ 100 from hbe)) (cwV 0 hts (lw_V q1443 q1445 qs39 q87 q1446) rfl rfl rfl (by decide +kernel) ⟨Nat.le_of_ble_eq_true rfl, Nat.le_of_ble_eq_true rfl⟩) (pvR (r := (RX12, TX12, 52)) hK hP hD hX 0 (aM_0 _ _ _ _ _) rfl) rfl rfl hl.1 rfl (lv_room (Nat.le_of_ble_eq_true rfl)) dX12_readNumber_24 ⟨Nat.le_of_ble_eq_true rfl, Nat.le_of_ble_eq_true rfl⟩) (fun v hv => ?_)
                    obtain ⟨rfl, hzb24_1, hzl24_1⟩ := hv
                    have hzb24_1 : -1 ≤ u ((ρ 17 0) + 1 + 1) ∧ u ((ρ 17 0) + 1 + 1) ≤ 255 := hzb24_1
                    have hzl24_1 : 0 ≤ u ((ρ 17 0) + 1 + 1) → ((ρ 17 0) + 1 + 1) < (ρ 16 0) := hzl24_1
                    refine li_top (b := (u ((ρ 17 0) + 1 + 1))) rfl ?_
                    refine lv_i2l (v := ll (u ((ρ 17 0) + 1 + 1))) hx hb dX12_readNumber_27 (ll_i ⟨Int.le_trans (by decide) hzb24_1.1, Int.le_trans hzb24_1.2 (by decide)⟩) ?_
                    refine lv_ldc2 (v := ll 48) hx hb hown (hts _ q1451) dX12_readNumber_28 ?_
                    refine lv_ldc2 (v := ll 57) hx hb hown (hts _ q1452) dX12_readNumber_31 ?_
                    refine kR (va_runS (As := [.long (ll (u ((ρ 17 0) + 1 + 1))), .long (ll (48)), .long (ll (57))]) (rest := []) ⟨hx, hb, hml, hown, hts⟩ (m_inM l G ty (wM am ty τ (up (up ρ 18 (sc (0))) 17 (sc ((ρ 17 0) + 1 + 1))) ++ cs) (u ((ρ 17 0) + 1 + 1)) 48 57 ⟨by omega, by omega⟩ ⟨by decide, by decide⟩ ⟨by decide, by decide⟩) (va_cwS 3 hts (lw_S q1436 q1437 q87 q1438) rfl rfl rfl (by decide +kernel) ⟨Nat.le_of_ble_eq_true rfl, Nat.le_of_ble_eq_true rfl⟩) (psR hK hP hD hX) rfl rfl hl.1 rfl (lv_room (Nat.le_of_ble_eq_true rfl)) dX12_readNumber_34 ⟨Nat.le_of_ble_eq_true rfl, Nat.le_of_ble_eq_true rfl⟩) (fun v hv => ?_)
                    obtain ⟨z34_1, rfl, ⟨rfl, h34_1⟩ | ⟨rfl, h34_1⟩⟩ := hv
                    · refine li_if_eq (tgt := 69) hx hb ⟨by decide, by decide⟩ dX12_readNumber_37 (by decide) (fun c37 => ?_) (fun c37 => ?_)
                      · exact absurd c37 (by decide)
                      · refine li_bipush hx hb dX12_readNumber_40 (by decide) ?_
                        refine lv_iload_n hx hb dX12_readNumber_42 rfl (lv_at hl 1 rfl) ?_
                        refine li_mul hx hb dX12_readNumber_43 ?_
                        refine lv_aload_n hx hb dX12_readNumber_44 rfl (lv_at hl 2 rfl) ?_
                        refine kR (va_runV (As := []) (rest := [.int (ii (10 * (10 * (u (ρ 17 0) - 48) + (u ((ρ 17 0) + 1)) - 48)))]) ⟨hx, hb, hml, hown, hts⟩ (m_hereM l G am ty τ (up (up ρ 18 (sc (0))) 17 (sc ((ρ 17 0) + 1 + 1))) cs _ hu (show 0 ≤ ((ρ 17 0) + 1 + 1) ∧ ((ρ 17 0) + 1 + 1) ≤ 110 from ⟨by omega, by omega⟩) (show 0 ≤ (ρ 15 0) ∧ (ρ 15 0) ≤ 700 ∧ 0 ≤ (ρ 16 0) ∧ (ρ 16 0) ≤ 100 from hbe)) (cwV 0 hts (lw_V q1443 q1445 qs39 q87 q1446) rfl rfl rfl (by decide +kernel) ⟨Nat.le_of_ble_eq_true rfl, Nat.le_of_ble_eq_true rfl⟩) (pvR (r := (RX12, TX12, 52)) hK hP hD hX 0 (aM_0 _ _ _ _ _) rfl) rfl rfl hl.1 rfl (lv_room (Nat.le_of_ble_eq_true rfl)) dX12_readNumber_45 ⟨Nat.le_of_ble_eq_true rfl, Nat.le_of_ble_eq_true rfl⟩) (fun v hv => ?_)
                        obtain ⟨rfl, hzb45_1, hzl45_1⟩ := hv
                        have hzb45_1 : -1 ≤ u ((ρ 17 0) + 1 + 1) ∧ u ((ρ 17 0) + 1 + 1) ≤ 255 := hzb45_1
                        have hzl45_1 : 0 ≤ u ((ρ 17 0) + 1 + 1) → ((ρ 17 0) + 1 + 1) < (ρ 16 0) := hzl45_1
                        refine li_top (b := (u ((ρ 17 0) + 1 + 1))) rfl ?_
                        refine li_add hx hb dX12_readNumber_48 ?_
                        refine li_bipush hx hb dX12_readNumber_49 (by decide) ?_
                        refine li_sub hx hb dX12_readNumber_51 ?_
                        refine lv_istore_n (lv' := [(1, .int (ii (10 * (10 * (u (ρ 17 0) - 48) + (u ((ρ 17 0) + 1)) - 48) + (u ((ρ 17 0) + 1 + 1)) - 48))), (2, .int (ii 2)), (0, .ref (am 0))]) hx hb dX12_readNumber_52 rfl hl (by decide) rfl (fun ls hl => ?_)
                        refine lv_aload_n hx hb dX12_readNumber_53 rfl (lv_at hl 2 rfl) ?_
                        refine lv_dup hx hb dX12_readNumber_54 rfl ?_
                        refine va_get (D := G) (ci := 11) (v := .int (ii ((ρ 17 0) + 1 + 1))) (C := RX12) (T := TX12) (N := 52) hx hb hts in_X12 hown hK hP 0 (aM_0 _ _ _ _ _) rfl 17 (by decide) (hts _ q1282) (fun _ h9 => h9) rfl dX12_readNumber_55 ?_
                        refine li_iconst hx hb dX12_readNumber_58 ?_
                        refine li_add hx hb dX12_readNumber_59 ?_
                        refine va_put (D := G) (ci := 11) (v := .int (ii ((ρ 17 0) + 1 + 1 + 1))) (ty := .int) (C := RX12) (T := TX12) (N := 52) hx hb hts in_X12 tyX12 tyX12_ok nmX12 hown hK hP hD hS 0 (aM_0 _ _ _ _ _) rfl 17 (by decide) (hts _ q1282) (fun _ h9 => h9) rfl (tyX12_ok 17 (by decide)) rfl rfl (Nat.le_of_ble_eq_true rfl) dX12_readNumber_60 (fun H locs hP hD hS => ?_)
                        have hP : va_P G gcl (wM am ty τ (up (up ρ 18 (sc (0))) 17 (sc ((ρ 17 0) + 1 + 1 + 1))) ++ cs) H := hP
                        have hD : va_D A (wM am ty τ (up (up ρ 18 (sc (0))) 17 (sc ((ρ 17 0) + 1 + 1 + 1))) ++ cs) := hD
                        refine li_iinc (a := 2) (lv' := [(2, .int (ii 3)), (1, .int (ii (10 * (10 * (u (ρ 17 0) - 48) + (u ((ρ 17 0) + 1)) - 48) + (u ((ρ 17 0) + 1 + 1)) - 48))), (0, .ref (am 0))]) hx hb dX12_readNumber_63 hl (k := 1) rfl (by decide) rfl (fun ls hl => ?_)
                        refine lv_goto (tgt := 7) hx hb dX12_readNumber_66 (by decide) ?_
                        refine lv_iload_n hx hb dX12_readNumber_7 rfl (lv_at hl 0 rfl) ?_
                        refine li_iconst hx hb dX12_readNumber_8 ?_
                        refine li_icmp_ge (tgt := 69) hx hb ⟨by decide, by decide⟩ ⟨by decide, by decide⟩ dX12_readNumber_9 (by decide) (fun c9 => ?_) (fun c9 => ?_)
                        · refine lv_iload_n hx hb dX12_readNumber_69 rfl (lv_at hl 1 rfl) ?_
                          exact eMi hQ hx hb hr hlk hP hD hS (Nat.le_of_ble_eq_true rfl) (Nat.le_of_ble_eq_true rfl) dX12_readNumber_70 (⟨10 * (10 * (u (ρ 17 0) - 48) + (u ((ρ 17 0) + 1)) - 48) + (u ((ρ 17 0) + 1 + 1)) - 48, 0, (ρ 17 0) + 1 + 1 + 1, rfl, rfl, .inl ⟨h1, by unfold nmV; omega, rfl, by unfold nmE; omega⟩⟩)
                        · exact absurd c9 (by decide)
                    · refine li_if_eq (tgt := 69) hx hb ⟨by decide, by decide⟩ dX12_readNumber_37 (by decide) (fun c37 => ?_) (fun c37 => ?_)
                      · refine lv_iload_n hx hb dX12_readNumber_69 rfl (lv_at hl 1 rfl) ?_
                        exact eMi hQ hx hb hr hlk hP hD hS (Nat.le_of_ble_eq_true rfl) (Nat.le_of_ble_eq_true rfl) dX12_readNumber_70 (⟨10 * (u (ρ 17 0) - 48) + (u ((ρ 17 0) + 1)) - 48, 0, (ρ 17 0) + 1 + 1, rfl, rfl, .inl ⟨h1, by unfold nmV; omega, rfl, by unfold nmE; omega⟩⟩)
                      · exact absurd c37 (by decide)
          · refine li_if_eq (tgt := 69) hx hb ⟨by decide, by decide⟩ dX12_readNumber_37 (by decide) (fun c37 => ?_) (fun c37 => ?_)
            · refine lv_iload_n hx hb dX12_readNumber_69 rfl (lv_at hl 1 rfl) ?_
              exact eMi hQ hx hb hr hlk hP hD hS (Nat.le_of_ble_eq_true rfl) (Nat.le_of_ble_eq_true rfl) dX12_readNumber_70 (⟨u (ρ 17 0) - 48, 0, (ρ 17 0) + 1, rfl, rfl, .inl ⟨h1, by unfold nmV; omega, rfl, by unfold nmE; omega⟩⟩)
            · exact absurd c37 (by decide)
  · have hP : va_P G gcl (wM am ty τ (up (up ρ 18 (sc (1))) 17 (sc ((ρ 17 0)))) ++ cs) H := hP
    have hD : va_D A (wM am ty τ (up (up ρ 18 (sc (1))) 17 (sc ((ρ 17 0)))) ++ cs) := hD
    have h1 : ¬ (48 ≤ u (ρ 17 0) ∧ u (ρ 17 0) ≤ 57) := h1
    refine lv_istore_n (lv' := [(1, .int (ii 0)), (0, .ref (am 0))]) hx hb dX12_readNumber_4 rfl hl (by decide) rfl (fun ls hl => ?_)
    refine li_iconst hx hb dX12_readNumber_5 ?_
    refine lv_istore_n (lv' := [(2, .int (ii 1)), (1, .int (ii 0)), (0, .ref (am 0))]) hx hb dX12_readNumber_6 rfl hl (by decide) rfl (fun ls hl => ?_)
    refine lv_iload_n hx hb dX12_readNumber_7 rfl (lv_at hl 0 rfl) ?_
    refine li_iconst hx hb dX12_readNumber_8 ?_
    refine li_icmp_ge (tgt := 69) hx hb ⟨by decide, by decide⟩ ⟨by decide, by decide⟩ dX12_readNumber_9 (by decide) (fun c9 => ?_) (fun c9 => ?_)
    · exact absurd c9 (by decide)
    · refine lv_iload_n hx hb dX12_readNumber_12 rfl (lv_at hl 1 rfl) ?_
      refine li_if_le (tgt := 69) hx hb ⟨by decide, by decide⟩ dX12_readNumber_13 (by decide) (fun c13 => ?_) (fun c13 => ?_)
      · refine lv_iload_n hx hb dX12_readNumber_69 rfl (lv_at hl 1 rfl) ?_
        exact eMi hQ hx hb hr hlk hP hD hS (Nat.le_of_ble_eq_true rfl) (Nat.le_of_ble_eq_true rfl) dX12_readNumber_70 (⟨0, 1, (ρ 17 0), rfl, rfl, .inr ⟨h1, rfl, rfl, rfl⟩⟩)
      · exact absurd c13 (by decide)
