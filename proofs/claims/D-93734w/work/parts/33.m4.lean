/-! DownRopeModel: seekNow, soonestNow, leftWithin and what they answer (written by gen/m4.py) -/
set_option maxRecDepth 100000
set_option maxHeartbeats 4000000 in
theorem m_seekNowM (l : Launch) (G : va_G) (am : Nat → Nat) (ty : Nat → ClassId) (τ ρ : mem) (cs : va_W)  (F : mem) (hF : okF F) (hSm : Sim F τ) (hSt : wfS (ρ 27) (ρ 28)) (hZ : zerF F) (hci : CIx F (ρ 36 0) (ρ 37 0) (ρ 31) (ρ 32) (ρ 33 0) (ρ 29) (ρ 30 0) (ρ 39)) : cM l yX12_seekNow (ws_ yX12_seekNow cX12_seekNow 1 none) (rm4 4 0 0 110) G ty (wM am ty τ ρ ++ cs) [.ref (am 0)] 0 0 (fun r W' => ∃ (wT : Int → Int) (qT : Int → Int) (gm : Int → Int) (nm : Int) (la : Int → Int) (me : Int → Int) (n8 : Int) (qu : Int → Int) (qd : Int → Int) (is : Int) (il : Int), r = none ∧ W' = wM am ty τ (up (up (up (up (up (up (up (up (up (up (up ρ 27 wT) 28 qT) 29 gm) 30 (sc (nm))) 31 la) 32 me) 33 (sc (n8))) 34 qu) 35 qd) 36 (sc (is))) 37 (sc (il))) ++ cs ∧ (wfS wT qT) ∧ (Sought (EF F) (cdv (F 6) (F 7)) la me n8) ∧ (LL (cand F) gm nm 70000) ∧ (0 ≤ nm ∧ nm ≤ 2400) ∧ (CIx F is il la me n8 gm nm (ρ 39)) ∧ (is = 1) ∧ (il = 0 ∨ il = 1)) := by
  refine cM.of (by decide) (Nat.le_of_ble_eq_true rfl) ?_
  intro p e s m args below meth c A Q H locs hQ hx hb hr hml hown hlk hname hts hK hP hD hS hA hX ls hl
  have hl : lv_has ls 1 [(0, .ref (am 0))] := hl
  obtain ⟨hW, hWS, hlg⟩ := id hF
  obtain ⟨hw0, hw1, hw2, hw3, hw4, hw5, h8a, h8b, h9a, h9b, h10a, h10b⟩ := id hW
  obtain ⟨mL, mP, mR, mC, mK, mM, mA, mB, mD⟩ := id hSm
  have his := hci.1
  refine lv_aload_n hx hb dX12_seekNow_0 rfl (lv_at hl 0 rfl) ?_
  refine va_get (D := G) (ci := 11) (v := .int (ii (ρ 36 0))) (C := RX12) (T := TX12) (N := 52) hx hb hts in_X12 hown hK hP 0 (aM_0 _ _ _ _ _) rfl 36 (by decide) (hts _ q1301) (fun _ h9 => h9) rfl dX12_seekNow_1 ?_
  refine li_if_ne (tgt := 22) hx hb ⟨by omega, by omega⟩ dX12_seekNow_4 (by decide) (fun c4 => ?_) (fun c4 => ?_)
  · exact eMv hQ hx hb hr hlk hP hD hS (Nat.le_of_ble_eq_true rfl) (Nat.le_of_ble_eq_true rfl) dX12_seekNow_22 (⟨(ρ 27), (ρ 28), (ρ 29), ρ 30 0, (ρ 31), (ρ 32), ρ 33 0, (ρ 34), (ρ 35), ρ 36 0, ρ 37 0, rfl, rfl, hSt, (hci.2.2 (by omega)).1, (hci.2.2 (by omega)).2.1, (hci.2.2 (by omega)).2.2.1, hci, by omega, hci.2.1⟩)
  · refine lv_aload_n hx hb dX12_seekNow_7 rfl (lv_at hl 0 rfl) ?_
    refine li_iconst hx hb dX12_seekNow_8 ?_
    refine kM (va_runV (As := [.int (ii 0)]) (rest := []) ⟨hx, hb, hml, hown, hts⟩ ((m_seekM0 l G am ty τ ρ cs _ (show okF F from hF) (show Sim F τ from hSm) (show wfS (ρ 27) (ρ 28) from hSt) (show zerF F from hZ)) H.size) (cwV 1 hts (lw_V q1594 q1596 qs60 q87 q1597) rfl rfl rfl (by decide +kernel) ⟨Nat.le_of_ble_eq_true rfl, Nat.le_of_ble_eq_true rfl⟩) (pvM (r := (RX12, TX12, 52)) hK hP hD hX 0 (aM_0 _ _ _ _ _) rfl) rfl rfl hl.1 rfl (lv_room (Nat.le_of_ble_eq_true rfl)) dX12_seekNow_9 ⟨Nat.le_of_ble_eq_true rfl, Nat.le_of_ble_eq_true rfl⟩) hD hS hA (fun v ws1 H locs hv hP hD hS => ?_)
    obtain ⟨wT9, qT9, gm9, nm9, la9, me9, n89, qu9, qd9, rfl, rfl, hSt9, hSo9, hCL9, hnm9⟩ := hv
    have hP : va_P G gcl (wM am ty τ (up (up (up (up (up (up (up (up (up ρ 27 wT9) 28 qT9) 29 gm9) 30 (sc (nm9))) 31 la9) 32 me9) 33 (sc (n89))) 34 qu9) 35 qd9) ++ cs) H := hP
    have hD : va_D A (wM am ty τ (up (up (up (up (up (up (up (up (up ρ 27 wT9) 28 qT9) 29 gm9) 30 (sc (nm9))) 31 la9) 32 me9) 33 (sc (n89))) 34 qu9) 35 qd9) ++ cs) := hD
    have hSt9 : wfS wT9 qT9 := hSt9
    have hSo9 : Sought (EF F) (cdv (F 6) (F 7)) la9 me9 n89 := hSo9
    have hCL9 : LL (cand F) gm9 nm9 70000 := hCL9
    have hnm9 : 0 ≤ nm9 ∧ nm9 ≤ 2400 := hnm9
    refine lv_aload_n hx hb dX12_seekNow_12 rfl (lv_at hl 0 rfl) ?_
    refine li_iconst hx hb dX12_seekNow_13 ?_
    refine va_put (D := G) (ci := 11) (v := .int (ii 1)) (ty := .boolean) (C := RX12) (T := TX12) (N := 52) hx hb hts in_X12 tyX12 tyX12_ok nmX12 hown hK hP hD hS 0 (aM_0 _ _ _ _ _) rfl 36 (by decide) (hts _ q1301) (fun _ h9 => h9) rfl (tyX12_ok 36 (by decide)) (nrw_z (by omega)) (fit_z (by omega)) (Nat.le_of_ble_eq_true rfl) dX12_seekNow_14 (fun H locs hP hD hS => ?_)
    have hP : va_P G gcl (wM am ty τ (up (up (up (up (up (up (up (up (up (up ρ 27 wT9) 28 qT9) 29 gm9) 30 (sc (nm9))) 31 la9) 32 me9) 33 (sc (n89))) 34 qu9) 35 qd9) 36 (sc (1))) ++ cs) H := hP
    have hD : va_D A (wM am ty τ (up (up (up (up (up (up (up (up (up (up ρ 27 wT9) 28 qT9) 29 gm9) 30 (sc (nm9))) 31 la9) 32 me9) 33 (sc (n89))) 34 qu9) 35 qd9) 36 (sc (1))) ++ cs) := hD
    refine lv_aload_n hx hb dX12_seekNow_17 rfl (lv_at hl 0 rfl) ?_
    refine li_iconst hx hb dX12_seekNow_18 ?_
    refine va_put (D := G) (ci := 11) (v := .int (ii 0)) (ty := .boolean) (C := RX12) (T := TX12) (N := 52) hx hb hts in_X12 tyX12 tyX12_ok nmX12 hown hK hP hD hS 0 (aM_0 _ _ _ _ _) rfl 37 (by decide) (hts _ q1302) (fun _ h9 => h9) rfl (tyX12_ok 37 (by decide)) (nrw_z (by omega)) (fit_z (by omega)) (Nat.le_of_ble_eq_true rfl) dX12_seekNow_19 (fun H locs hP hD hS => ?_)
    have hP : va_P G gcl (wM am ty τ (up (up (up (up (up (up (up (up (up (up (up ρ 27 wT9) 28 qT9) 29 gm9) 30 (sc (nm9))) 31 la9) 32 me9) 33 (sc (n89))) 34 qu9) 35 qd9) 36 (sc (1))) 37 (sc (0))) ++ cs) H := hP
    have hD : va_D A (wM am ty τ (up (up (up (up (up (up (up (up (up (up (up ρ 27 wT9) 28 qT9) 29 gm9) 30 (sc (nm9))) 31 la9) 32 me9) 33 (sc (n89))) 34 qu9) 35 qd9) 36 (sc (1))) 37 (sc (0))) ++ cs) := hD
    exact eMv hQ hx hb hr hlk hP hD hS (Nat.le_of_ble_eq_true rfl) (Nat.le_of_ble_eq_true rfl) dX12_seekNow_22 (⟨wT9, qT9, gm9, nm9, la9, me9, n89, qu9, qd9, 1, 0, rfl, rfl, hSt9, hSo9, hCL9, hnm9, CIx_1 hSo9 hCL9 hnm9, rfl, .inl rfl⟩)
set_option maxHeartbeats 4000000 in
theorem m_isDownStateM (l : Launch) (G : va_G) (am : Nat → Nat) (ty : Nat → ClassId) (τ ρ : mem) (cs : va_W) (c1 : Int) (F : mem) (hF : okF F) (hSm : Sim F τ) (hSt : wfS (ρ 27) (ρ 28)) (hc : inSt c1) : cM l yX12_isDownState (ws_ yX12_isDownState cX12_isDownState 2 (some .boolean)) (rm4 1 0 0 22) G ty (wM am ty τ ρ ++ cs) [.ref (am 0), .int (ii c1)] 0 0 (fun r W' => ∃ (z : Int) (wT : Int → Int) (qT : Int → Int), r = some (.int (ii z)) ∧ W' = wM am ty τ (up (up ρ 27 wT) 28 qT) ++ cs ∧ (wfS wT qT) ∧ ((z = 1 ∧ (dn F c1)) ∨ (z = 0 ∧ (¬ dn F c1)))) := by
  refine cM.of (by decide) (Nat.le_of_ble_eq_true rfl) ?_
  intro p e s m args below meth c A Q H locs hQ hx hb hr hml hown hlk hname hts hK hP hD hS hA hX ls hl
  have hl : lv_has ls 2 [(0, .ref (am 0)), (1, .int (ii c1))] := hl
  obtain ⟨hW, hWS, hlg⟩ := id hF
  obtain ⟨hw0, hw1, hw2, hw3, hw4, hw5, h8a, h8b, h9a, h9b, h10a, h10b⟩ := id hW
  obtain ⟨mL, mP, mR, mC, mK, mM, mA, mB, mD⟩ := id hSm
  have hS2 : wfS (dcw c1 (ρ 27)) (dcq c1 (ρ 28)) := ⟨dcw_b hSt.1, dcq_b hSt.2⟩
  refine lv_aload_n hx hb dX12_isDownState_0 rfl (lv_at hl 0 rfl) ?_
  refine lv_iload_n hx hb dX12_isDownState_1 rfl (lv_at hl 1 rfl) ?_
  refine kM (va_runV (As := [.int (ii c1)]) (rest := []) ⟨hx, hb, hml, hown, hts⟩ ((m_openM l G am ty τ ρ cs c1 (show inSt c1 from hc)) H.size) (cwV 1 hts (lw_V q1518 q1520 qs47 q87 q1521) rfl rfl rfl (by decide +kernel) ⟨Nat.le_of_ble_eq_true rfl, Nat.le_of_ble_eq_true rfl⟩) (pvM (r := (RX12, TX12, 52)) hK hP hD hX 0 (aM_0 _ _ _ _ _) rfl) rfl rfl hl.1 rfl (lv_room (Nat.le_of_ble_eq_true rfl)) dX12_isDownState_2 ⟨Nat.le_of_ble_eq_true rfl, Nat.le_of_ble_eq_true rfl⟩) hD hS hA (fun v ws1 H locs hv hP hD hS => ?_)
  obtain ⟨rfl, rfl, hal2⟩ := hv
  have hP : va_P G gcl (wM am ty τ (up (up ρ 27 (dcw c1 (ρ 27))) 28 (dcq c1 (ρ 28))) ++ cs) H := hP
  have hD : va_D A (wM am ty τ (up (up ρ 27 (dcw c1 (ρ 27))) 28 (dcq c1 (ρ 28))) ++ cs) := hD
  have hal2 : alike (dcw c1 (ρ 27)) (dcq c1 (ρ 28)) (stW c1) (stQ c1) := hal2
  refine lv_aload_n hx hb dX12_isDownState_5 rfl (lv_at hl 0 rfl) ?_
  refine kR (va_runV (As := []) (rest := []) ⟨hx, hb, hml, hown, hts⟩ (m_isDownM l G am ty τ (up (up ρ 27 (dcw c1 (ρ 27))) 28 (dcq c1 (ρ 28))) cs _ (show okF F from hF) (show Sim F τ from hSm) (show wfS (dcw c1 (ρ 27)) (dcq c1 (ρ 28)) from hS2)) (cwV 0 hts (lw_V q1570 q1572 qs56 q87 q1573) rfl rfl rfl (by decide +kernel) ⟨Nat.le_of_ble_eq_true rfl, Nat.le_of_ble_eq_true rfl⟩) (pvR (r := (RX12, TX12, 52)) hK hP hD hX 0 (aM_0 _ _ _ _ _) rfl) rfl rfl hl.1 rfl (lv_room (Nat.le_of_ble_eq_true rfl)) dX12_isDownState_6 ⟨Nat.le_of_ble_eq_true rfl, Nat.le_of_ble_eq_true rfl⟩) (fun v hv => ?_)
  obtain ⟨z6, rfl, ⟨rfl, hb6⟩ | ⟨rfl, hb6⟩⟩ := hv
  · have hb6 : dnW F (dcw c1 (ρ 27)) := hb6
    exact eMz hQ hx hb hr hlk hP hD hS (Nat.le_of_ble_eq_true rfl) (Nat.le_of_ble_eq_true rfl) dX12_isDownState_9 (.inr rfl) (⟨1, (dcw c1 (ρ 27)), (dcq c1 (ρ 28)), rfl, rfl, hS2, .inl ⟨rfl, (dnW_al hal2).mp hb6⟩⟩)
  · have hb6 : ¬ dnW F (dcw c1 (ρ 27)) := hb6
    exact eMz hQ hx hb hr hlk hP hD hS (Nat.le_of_ble_eq_true rfl) (Nat.le_of_ble_eq_true rfl) dX12_isDownState_9 (.inl rfl) (⟨0, (dcw c1 (ρ 27)), (dcq c1 (ρ 28)), rfl, rfl, hS2, .inr ⟨rfl, fun q => hb6 ((dnW_al hal2).mpr q)⟩⟩)
set_option maxHeartbeats 4000000 in
theorem m_soonestNowM (l : Launch) (G : va_G) (am : Nat → Nat) (ty : Nat → ClassId) (τ ρ : mem) (cs : va_W)  (F : mem) (hF : okF F) (hSm : Sim F τ) (hSt : wfS (ρ 27) (ρ 28)) (hZ : zerF F) (hci : CIx F (ρ 36 0) (ρ 37 0) (ρ 31) (ρ 32) (ρ 33 0) (ρ 29) (ρ 30 0) (ρ 39)) : cM l yX12_soonestNow (ws_ yX12_soonestNow cX12_soonestNow 4 (some .int)) (rm4 5 0 0 130) G ty (wM am ty τ ρ ++ cs) [.ref (am 0)] 0 0 (fun r W' => ∃ (z : Int) (wT : Int → Int) (qT : Int → Int) (gm : Int → Int) (nm : Int) (la : Int → Int) (me : Int → Int) (n8 : Int) (qu : Int → Int) (qd : Int → Int) (is : Int) (il : Int), r = some (.int (ii z)) ∧ W' = wM am ty τ (up (up (up (up (up (up (up (up (up (up (up ρ 27 wT) 28 qT) 29 gm) 30 (sc (nm))) 31 la) 32 me) 33 (sc (n8))) 34 qu) 35 qd) 36 (sc (is))) 37 (sc (il))) ++ cs ∧ (wfS wT qT) ∧ (Sought (EF F) (cdv (F 6) (F 7)) la me n8) ∧ (LL (cand F) gm nm 70000) ∧ (0 ≤ nm ∧ nm ≤ 2400) ∧ (CIx F is il la me n8 gm nm (ρ 39)) ∧ (is = 1) ∧ (il = 0 ∨ il = 1) ∧ (soonP (dn F) la z) ∧ (-4 ≤ z ∧ z ≤ 1000000000)) := by
  refine cM.of (by decide) (Nat.le_of_ble_eq_true rfl) ?_
  intro p e s m args below meth c A Q H locs hQ hx hb hr hml hown hlk hname hts hK hP hD hS hA hX ls hl
  have hl : lv_has ls 4 [(0, .ref (am 0))] := hl
  obtain ⟨hW, hWS, hlg⟩ := id hF
  obtain ⟨hw0, hw1, hw2, hw3, hw4, hw5, h8a, h8b, h9a, h9b, h10a, h10b⟩ := id hW
  obtain ⟨mL, mP, mR, mC, mK, mM, mA, mB, mD⟩ := id hSm
  refine lv_aload_n hx hb dX12_soonestNow_0 rfl (lv_at hl 0 rfl) ?_
  refine kM (va_runV (As := []) (rest := []) ⟨hx, hb, hml, hown, hts⟩ ((m_seekNowM l G am ty τ ρ cs _ (show okF F from hF) (show Sim F τ from hSm) (show wfS (ρ 27) (ρ 28) from hSt) (show zerF F from hZ) (show CIx F (ρ 36 0) (ρ 37 0) (ρ 31) (ρ 32) (ρ 33 0) (ρ 29) (ρ 30 0) (ρ 39) from hci)) H.size) (cwV 0 hts (lw_V q1590 q1592 qs59 q87 q1593) rfl rfl rfl (by decide +kernel) ⟨Nat.le_of_ble_eq_true rfl, Nat.le_of_ble_eq_true rfl⟩) (pvM (r := (RX12, TX12, 52)) hK hP hD hX 0 (aM_0 _ _ _ _ _) rfl) rfl rfl hl.1 rfl (lv_room (Nat.le_of_ble_eq_true rfl)) dX12_soonestNow_1 ⟨Nat.le_of_ble_eq_true rfl, Nat.le_of_ble_eq_true rfl⟩) hD hS hA (fun v ws1 H locs hv hP hD hS => ?_)
  obtain ⟨wT1, qT1, gm1, nm1, la1, me1, n81, qu1, qd1, is1, il1, rfl, rfl, hSt1, hSo1, hCL1, hnm1, hci1, hi11, hil1⟩ := hv
  have hP : va_P G gcl (wM am ty τ (up (up (up (up (up (up (up (up (up (up (up ρ 27 wT1) 28 qT1) 29 gm1) 30 (sc (nm1))) 31 la1) 32 me1) 33 (sc (n81))) 34 qu1) 35 qd1) 36 (sc (is1))) 37 (sc (il1))) ++ cs) H := hP
  have hD : va_D A (wM am ty τ (up (up (up (up (up (up (up (up (up (up (up ρ 27 wT1) 28 qT1) 29 gm1) 30 (sc (nm1))) 31 la1) 32 me1) 33 (sc (n81))) 34 qu1) 35 qd1) 36 (sc (is1))) 37 (sc (il1))) ++ cs) := hD
  have hSt1 : wfS wT1 qT1 := hSt1
  have hSo1 : Sought (EF F) (cdv (F 6) (F 7)) la1 me1 n81 := hSo1
  have hCL1 : LL (cand F) gm1 nm1 70000 := hCL1
  have hnm1 : 0 ≤ nm1 ∧ nm1 ≤ 2400 := hnm1
  have hci1 : CIx F is1 il1 la1 me1 n81 gm1 nm1 (ρ 39) := hci1
  have hi11 : is1 = 1 := hi11
  have hil1 : il1 = 0 ∨ il1 = 1 := hil1
  have hn1 := hSo1.n1
  have hn2 := hSo1.toMet.n2
  refine li_bipush hx hb dX12_soonestNow_4 (by decide) ?_
  refine lv_istore_n (lv' := [(1, .int (ii (-4))), (0, .ref (am 0))]) hx hb dX12_soonestNow_6 rfl hl (by decide) rfl (fun ls hl => ?_)
  refine li_iconst hx hb dX12_soonestNow_7 ?_
  refine lv_istore_n (lv' := [(2, .int (ii 0)), (1, .int (ii (-4))), (0, .ref (am 0))]) hx hb dX12_soonestNow_8 rfl hl (by decide) rfl (fun ls hl => ?_)
  have L9 : ∀ (n : Nat) (k1 : Int) (b1 : Int) (wT : Int → Int) (qT : Int → Int) (_ : wfS wT qT) (_ : 0 ≤ k1) (_ : k1 ≤ n81) (_ : -4 ≤ b1 ∧ b1 ≤ 1000000000) (_ : soonM (dn F) la1 me1 k1 b1) (_ : (n81 - k1).toNat < n) (H : Heap) (locs : List Loc) (_ : va_P G gcl (wM am ty τ (up (up (up (up (up (up (up (up (up (up (up ρ 29 gm1) 30 (sc (nm1))) 31 la1) 32 me1) 33 (sc (n81))) 34 qu1) 35 qd1) 36 (sc (is1))) 37 (sc (il1))) 27 wT) 28 qT) ++ cs) H) (_ : va_D A (wM am ty τ (up (up (up (up (up (up (up (up (up (up (up ρ 29 gm1) 30 (sc (nm1))) 31 la1) 32 me1) 33 (sc (n81))) 34 qu1) 35 qd1) 36 (sc (is1))) 37 (sc (il1))) 27 wT) 28 qT) ++ cs)) (_ : va_S A s.heap H locs) (ls : Array Slot), lv_has ls 4 [(2, .int (ii k1)), (1, .int (ii b1)), (0, .ref (am 0))] → W p l e (rm4 5 0 0 130) s m args below meth c H locs 0 0 Q (F0 m 9 ls []) := by
    intro n
    induction n with
    | zero =>
      intro k1 b1 wT qT hSt hk0 hk1 hbr hbs hm
      exact absurd hm (Nat.not_lt_zero _)
    | succ n ih =>
      intro k1 b1 wT qT hSt hk0 hk1 hbr hbs hm H locs hP hD hS ls hl
      refine lv_iload_n hx hb dX12_soonestNow_9 rfl (lv_at hl 0 rfl) ?_
      refine lv_aload_n hx hb dX12_soonestNow_10 rfl (lv_at hl 2 rfl) ?_
      refine va_get (D := G) (ci := 11) (v := .int (ii n81)) (C := RX12) (T := TX12) (N := 52) hx hb hts in_X12 hown hK hP 0 (aM_0 _ _ _ _ _) rfl 33 (by decide) (hts _ q1298) (fun _ h9 => h9) rfl dX12_soonestNow_11 ?_
      refine li_icmp_ge (tgt := 81) hx hb ⟨by omega, by omega⟩ ⟨by omega, by omega⟩ dX12_soonestNow_14 (by decide) (fun c14 => ?_) (fun c14 => ?_)
      · refine lv_iload_n hx hb dX12_soonestNow_81 rfl (lv_at hl 1 rfl) ?_
        exact eMi hQ hx hb hr hlk hP hD hS (Nat.le_of_ble_eq_true rfl) (Nat.le_of_ble_eq_true rfl) dX12_soonestNow_82 (⟨b1, wT, qT, gm1, nm1, la1, me1, n81, qu1, qd1, is1, il1, rfl, rfl, hSt, hSo1, hCL1, hnm1, hci1, hi11, hil1, soonM_e hSo1.toMet hbs hk1 (by omega), hbr⟩)
      · have hmk := (hSo1.mt k1 hk0 c14).1
        obtain ⟨hmk0, hmk1⟩ := id hmk
        have hmr := hSo1.toMet.rg hmk
        refine lv_iload_n hx hb dX12_soonestNow_17 rfl (lv_at hl 1 rfl) ?_
        refine li_if_lt (tgt := 36) hx hb ⟨by omega, by omega⟩ dX12_soonestNow_18 (by decide) (fun c18 => ?_) (fun c18 => ?_)
        · refine li_iconst hx hb dX12_soonestNow_36 ?_
          refine lv_goto (tgt := 41) hx hb dX12_soonestNow_37 (by decide) ?_
          refine lv_istore_n (lv' := [(3, .int (ii 1)), (2, .int (ii k1)), (1, .int (ii b1)), (0, .ref (am 0))]) hx hb dX12_soonestNow_41 rfl hl (by decide) rfl (fun ls hl => ?_)
          refine lv_iload_n hx hb dX12_soonestNow_42 rfl (lv_at hl 0 rfl) ?_
          refine li_if_eq (tgt := 73) hx hb ⟨by decide, by decide⟩ dX12_soonestNow_43 (by decide) (fun c43 => ?_) (fun c43 => ?_)
          · exact absurd c43 (by decide)
          · refine lv_aload_n hx hb dX12_soonestNow_46 rfl (lv_at hl 3 rfl) ?_
            refine lv_aload_n hx hb dX12_soonestNow_47 rfl (lv_at hl 3 rfl) ?_
            refine va_get (D := G) (ci := 11) (v := .ref (am 20)) (C := RX12) (T := TX12) (N := 52) hx hb hts in_X12 hown hK hP 0 (aM_0 _ _ _ _ _) rfl 32 (by decide) (hts _ q1297) (fun _ h9 => h9) rfl dX12_soonestNow_48 ?_
            refine lv_iload_n hx hb dX12_soonestNow_51 rfl (lv_at hl 1 rfl) ?_
            refine li_iald (g := me1) hx hb hK hP 20 0 (aM_20 _ _ _ _ _) rfl (by omega) (by omega) (by decide) dX12_soonestNow_52 ?_
            refine kM (va_runV (As := [.int (ii (me1 k1))]) (rest := []) ⟨hx, hb, hml, hown, hts⟩ ((m_isDownStateM l G am ty τ (up (up (up (up (up (up (up (up (up (up (up ρ 29 gm1) 30 (sc (nm1))) 31 la1) 32 me1) 33 (sc (n81))) 34 qu1) 35 qd1) 36 (sc (is1))) 37 (sc (il1))) 27 wT) 28 qT) cs (me1 k1) _ (show okF F from hF) (show Sim F τ from hSm) (show wfS wT qT from hSt) (show inSt (me1 k1) from hmk)) H.size) (cwV 1 hts (lw_V q1603 q1605 qs62 q87 q1606) rfl rfl rfl (by decide +kernel) ⟨Nat.le_of_ble_eq_true rfl, Nat.le_of_ble_eq_true rfl⟩) (pvM (r := (RX12, TX12, 52)) hK hP hD hX 0 (aM_0 _ _ _ _ _) rfl) rfl rfl hl.1 rfl (lv_room (Nat.le_of_ble_eq_true rfl)) dX12_soonestNow_53 ⟨Nat.le_of_ble_eq_true rfl, Nat.le_of_ble_eq_true rfl⟩) hD hS hA (fun v ws1 H locs hv hP hD hS => ?_)
            obtain ⟨z53, wT53, qT53, rfl, rfl, hSt53, ⟨rfl, hb53⟩ | ⟨rfl, hb53⟩⟩ := hv
            · have hP : va_P G gcl (wM am ty τ (up (up (up (up (up (up (up (up (up (up (up ρ 29 gm1) 30 (sc (nm1))) 31 la1) 32 me1) 33 (sc (n81))) 34 qu1) 35 qd1) 36 (sc (is1))) 37 (sc (il1))) 27 wT53) 28 qT53) ++ cs) H := hP
              have hD : va_D A (wM am ty τ (up (up (up (up (up (up (up (up (up (up (up ρ 29 gm1) 30 (sc (nm1))) 31 la1) 32 me1) 33 (sc (n81))) 34 qu1) 35 qd1) 36 (sc (is1))) 37 (sc (il1))) 27 wT53) 28 qT53) ++ cs) := hD
              have hSt53 : wfS wT53 qT53 := hSt53
              have hb53 : dn F (me1 k1) := hb53
              refine li_if_eq (tgt := 73) hx hb ⟨by decide, by decide⟩ dX12_soonestNow_56 (by decide) (fun c56 => ?_) (fun c56 => ?_)
              · exact absurd c56 (by decide)
              · refine lv_aload_n hx hb dX12_soonestNow_59 rfl (lv_at hl 3 rfl) ?_
                refine va_get (D := G) (ci := 11) (v := .ref (am 19)) (C := RX12) (T := TX12) (N := 52) hx hb hts in_X12 hown hK hP 0 (aM_0 _ _ _ _ _) rfl 31 (by decide) (hts _ q1296) (fun _ h9 => h9) rfl dX12_soonestNow_60 ?_
                refine lv_aload_n hx hb dX12_soonestNow_63 rfl (lv_at hl 3 rfl) ?_
                refine va_get (D := G) (ci := 11) (v := .ref (am 20)) (C := RX12) (T := TX12) (N := 52) hx hb hts in_X12 hown hK hP 0 (aM_0 _ _ _ _ _) rfl 32 (by decide) (hts _ q1297) (fun _ h9 => h9) rfl dX12_soonestNow_64 ?_
                refine lv_iload_n hx hb dX12_soonestNow_67 rfl (lv_at hl 1 rfl) ?_
                refine li_iald (g := me1) hx hb hK hP 20 0 (aM_20 _ _ _ _ _) rfl (by omega) (by omega) (by decide) dX12_soonestNow_68 ?_
                refine li_iald (g := la1) hx hb hK hP 19 0 (aM_19 _ _ _ _ _) rfl (by omega) (by omega) (by decide) dX12_soonestNow_69 ?_
                refine lv_goto (tgt := 74) hx hb dX12_soonestNow_70 (by decide) ?_
                refine lv_istore_n (lv' := [(1, .int (ii (la1 (me1 k1)))), (3, .int (ii 1)), (2, .int (ii k1)), (0, .ref (am 0))]) hx hb dX12_soonestNow_74 rfl hl (by decide) rfl (fun ls hl => ?_)
                refine li_iinc (a := k1) (lv' := [(2, .int (ii (k1 + 1))), (1, .int (ii (la1 (me1 k1)))), (3, .int (ii 1)), (0, .ref (am 0))]) hx hb dX12_soonestNow_75 hl (k := 2) rfl (by decide) rfl (fun ls hl => ?_)
                refine lv_goto (tgt := 9) hx hb dX12_soonestNow_78 (by decide) ?_
                exact ih (k1 + 1) (la1 (me1 k1)) wT53 qT53 (hSt53) (by omega) (by omega) (by omega) (soonM_new hbs hk0 hb53 (by omega)) (by omega) H locs hP hD hS ls (lv_sub hl [0, 1, 3] rfl)
            · have hP : va_P G gcl (wM am ty τ (up (up (up (up (up (up (up (up (up (up (up ρ 29 gm1) 30 (sc (nm1))) 31 la1) 32 me1) 33 (sc (n81))) 34 qu1) 35 qd1) 36 (sc (is1))) 37 (sc (il1))) 27 wT53) 28 qT53) ++ cs) H := hP
              have hD : va_D A (wM am ty τ (up (up (up (up (up (up (up (up (up (up (up ρ 29 gm1) 30 (sc (nm1))) 31 la1) 32 me1) 33 (sc (n81))) 34 qu1) 35 qd1) 36 (sc (is1))) 37 (sc (il1))) 27 wT53) 28 qT53) ++ cs) := hD
              have hSt53 : wfS wT53 qT53 := hSt53
              have hb53 : ¬ dn F (me1 k1) := hb53
              refine li_if_eq (tgt := 73) hx hb ⟨by decide, by decide⟩ dX12_soonestNow_56 (by decide) (fun c56 => ?_) (fun c56 => ?_)
              · refine lv_iload_n hx hb dX12_soonestNow_73 rfl (lv_at hl 2 rfl) ?_
                refine lv_istore_n (lv' := [(1, .int (ii b1)), (3, .int (ii 1)), (2, .int (ii k1)), (0, .ref (am 0))]) hx hb dX12_soonestNow_74 rfl hl (by decide) rfl (fun ls hl => ?_)
                refine li_iinc (a := k1) (lv' := [(2, .int (ii (k1 + 1))), (1, .int (ii b1)), (3, .int (ii 1)), (0, .ref (am 0))]) hx hb dX12_soonestNow_75 hl (k := 2) rfl (by decide) rfl (fun ls hl => ?_)
                refine lv_goto (tgt := 9) hx hb dX12_soonestNow_78 (by decide) ?_
                exact ih (k1 + 1) b1 wT53 qT53 (hSt53) (by omega) (by omega) (by omega) (soonM_n hbs hb53) (by omega) H locs hP hD hS ls (lv_sub hl [0, 1, 3] rfl)
              · exact absurd c56 (by decide)
        · refine lv_aload_n hx hb dX12_soonestNow_21 rfl (lv_at hl 2 rfl) ?_
          refine va_get (D := G) (ci := 11) (v := .ref (am 19)) (C := RX12) (T := TX12) (N := 52) hx hb hts in_X12 hown hK hP 0 (aM_0 _ _ _ _ _) rfl 31 (by decide) (hts _ q1296) (fun _ h9 => h9) rfl dX12_soonestNow_22 ?_
          refine lv_aload_n hx hb dX12_soonestNow_25 rfl (lv_at hl 2 rfl) ?_
          refine va_get (D := G) (ci := 11) (v := .ref (am 20)) (C := RX12) (T := TX12) (N := 52) hx hb hts in_X12 hown hK hP 0 (aM_0 _ _ _ _ _) rfl 32 (by decide) (hts _ q1297) (fun _ h9 => h9) rfl dX12_soonestNow_26 ?_
          refine lv_iload_n hx hb dX12_soonestNow_29 rfl (lv_at hl 0 rfl) ?_
          refine li_iald (g := me1) hx hb hK hP 20 0 (aM_20 _ _ _ _ _) rfl (by omega) (by omega) (by decide) dX12_soonestNow_30 ?_
          refine li_iald (g := la1) hx hb hK hP 19 0 (aM_19 _ _ _ _ _) rfl (by omega) (by omega) (by decide) dX12_soonestNow_31 ?_
          refine lv_iload_n hx hb dX12_soonestNow_32 rfl (lv_at hl 1 rfl) ?_
          refine li_icmp_ge (tgt := 40) hx hb ⟨by omega, by omega⟩ ⟨by omega, by omega⟩ dX12_soonestNow_33 (by decide) (fun c33 => ?_) (fun c33 => ?_)
          · refine li_iconst hx hb dX12_soonestNow_40 ?_
            refine lv_istore_n (lv' := [(3, .int (ii 0)), (2, .int (ii k1)), (1, .int (ii b1)), (0, .ref (am 0))]) hx hb dX12_soonestNow_41 rfl hl (by decide) rfl (fun ls hl => ?_)
            refine lv_iload_n hx hb dX12_soonestNow_42 rfl (lv_at hl 0 rfl) ?_
            refine li_if_eq (tgt := 73) hx hb ⟨by decide, by decide⟩ dX12_soonestNow_43 (by decide) (fun c43 => ?_) (fun c43 => ?_)
            · refine lv_iload_n hx hb dX12_soonestNow_73 rfl (lv_at hl 2 rfl) ?_
              refine lv_istore_n (lv' := [(1, .int (ii b1)), (3, .int (ii 0)), (2, .int (ii k1)), (0, .ref (am 0))]) hx hb dX12_soonestNow_74 rfl hl (by decide) rfl (fun ls hl => ?_)
              refine li_iinc (a := k1) (lv' := [(2, .int (ii (k1 + 1))), (1, .int (ii b1)), (3, .int (ii 0)), (0, .ref (am 0))]) hx hb dX12_soonestNow_75 hl (k := 2) rfl (by decide) rfl (fun ls hl => ?_)
              refine lv_goto (tgt := 9) hx hb dX12_soonestNow_78 (by decide) ?_
              exact ih (k1 + 1) b1 wT qT (hSt) (by omega) (by omega) (by omega) (soonM_keep hbs (by omega) (by omega)) (by omega) H locs hP hD hS ls (lv_sub hl [0, 1, 3] rfl)
            · exact absurd c43 (by decide)
          · refine li_iconst hx hb dX12_soonestNow_36 ?_
            refine lv_goto (tgt := 41) hx hb dX12_soonestNow_37 (by decide) ?_
            refine lv_istore_n (lv' := [(3, .int (ii 1)), (2, .int (ii k1)), (1, .int (ii b1)), (0, .ref (am 0))]) hx hb dX12_soonestNow_41 rfl hl (by decide) rfl (fun ls hl => ?_)
            refine lv_iload_n hx hb dX12_soonestNow_42 rfl (lv_at hl 0 rfl) ?_
            refine li_if_eq (tgt := 73) hx hb ⟨by decide, by decide⟩ dX12_soonestNow_43 (by decide) (fun c43 => ?_) (fun c43 => ?_)
            · exact absurd c43 (by decide)
            · refine lv_aload_n hx hb dX12_soonestNow_46 rfl (lv_at hl 3 rfl) ?_
              refine lv_aload_n hx hb dX12_soonestNow_47 rfl (lv_at hl 3 rfl) ?_
              refine va_get (D := G) (ci := 11) (v := .ref (am 20)) (C := RX12) (T := TX12) (N := 52) hx hb hts in_X12 hown hK hP 0 (aM_0 _ _ _ _ _) rfl 32 (by decide) (hts _ q1297) (fun _ h9 => h9) rfl dX12_soonestNow_48 ?_
              refine lv_iload_n hx hb dX12_soonestNow_51 rfl (lv_at hl 1 rfl) ?_
              refine li_iald (g := me1) hx hb hK hP 20 0 (aM_20 _ _ _ _ _) rfl (by omega) (by omega) (by decide) dX12_soonestNow_52 ?_
              refine kM (va_runV (As := [.int (ii (me1 k1))]) (rest := []) ⟨hx, hb, hml, hown, hts⟩ ((m_isDownStateM l G am ty τ (up (up (up (up (up (up (up (up (up (up (up ρ 29 gm1) 30 (sc (nm1))) 31 la1) 32 me1) 33 (sc (n81))) 34 qu1) 35 qd1) 36 (sc (is1))) 37 (sc (il1))) 27 wT) 28 qT) cs (me1 k1) _ (show okF F from hF) (show Sim F τ from hSm) (show wfS wT qT from hSt) (show inSt (me1 k1) from hmk)) H.size) (cwV 1 hts (lw_V q1603 q1605 qs62 q87 q1606) rfl rfl rfl (by decide +kernel) ⟨Nat.le_of_ble_eq_true rfl, Nat.le_of_ble_eq_true rfl⟩) (pvM (r := (RX12, TX12, 52)) hK hP hD hX 0 (aM_0 _ _ _ _ _) rfl) rfl rfl hl.1 rfl (lv_room (Nat.le_of_ble_eq_true rfl)) dX12_soonestNow_53 ⟨Nat.le_of_ble_eq_true rfl, Nat.le_of_ble_eq_true rfl⟩) hD hS hA (fun v ws1 H locs hv hP hD hS => ?_)
              obtain ⟨z53, wT53, qT53, rfl, rfl, hSt53, ⟨rfl, hb53⟩ | ⟨rfl, hb53⟩⟩ := hv
              · have hP : va_P G gcl (wM am ty τ (up (up (up (up (up (up (up (up (up (up (up ρ 29 gm1) 30 (sc (nm1))) 31 la1) 32 me1) 33 (sc (n81))) 34 qu1) 35 qd1) 36 (sc (is1))) 37 (sc (il1))) 27 wT53) 28 qT53) ++ cs) H := hP
                have hD : va_D A (wM am ty τ (up (up (up (up (up (up (up (up (up (up (up ρ 29 gm1) 30 (sc (nm1))) 31 la1) 32 me1) 33 (sc (n81))) 34 qu1) 35 qd1) 36 (sc (is1))) 37 (sc (il1))) 27 wT53) 28 qT53) ++ cs) := hD
                have hSt53 : wfS wT53 qT53 := hSt53
                have hb53 : dn F (me1 k1) := hb53
                refine li_if_eq (tgt := 73) hx hb ⟨by decide, by decide⟩ dX12_soonestNow_56 (by decide) (fun c56 => ?_) (fun c56 => ?_)
                · exact absurd c56 (by decide)
                · refine lv_aload_n hx hb dX12_soonestNow_59 rfl (lv_at hl 3 rfl) ?_
                  refine va_get (D := G) (ci := 11) (v := .ref (am 19)) (C := RX12) (T := TX12) (N := 52) hx hb hts in_X12 hown hK hP 0 (aM_0 _ _ _ _ _) rfl 31 (by decide) (hts _ q1296) (fun _ h9 => h9) rfl dX12_soonestNow_60 ?_
                  refine lv_aload_n hx hb dX12_soonestNow_63 rfl (lv_at hl 3 rfl) ?_
                  refine va_get (D := G) (ci := 11) (v := .ref (am 20)) (C := RX12) (T := TX12) (N := 52) hx hb hts in_X12 hown hK hP 0 (aM_0 _ _ _ _ _) rfl 32 (by decide) (hts _ q1297) (fun _ h9 => h9) rfl dX12_soonestNow_64 ?_
                  refine lv_iload_n hx hb dX12_soonestNow_67 rfl (lv_at hl 1 rfl) ?_
                  refine li_iald (g := me1) hx hb hK hP 20 0 (aM_20 _ _ _ _ _) rfl (by omega) (by omega) (by decide) dX12_soonestNow_68 ?_
                  refine li_iald (g := la1) hx hb hK hP 19 0 (aM_19 _ _ _ _ _) rfl (by omega) (by omega) (by decide) dX12_soonestNow_69 ?_
                  refine lv_goto (tgt := 74) hx hb dX12_soonestNow_70 (by decide) ?_
                  refine lv_istore_n (lv' := [(1, .int (ii (la1 (me1 k1)))), (3, .int (ii 1)), (2, .int (ii k1)), (0, .ref (am 0))]) hx hb dX12_soonestNow_74 rfl hl (by decide) rfl (fun ls hl => ?_)
                  refine li_iinc (a := k1) (lv' := [(2, .int (ii (k1 + 1))), (1, .int (ii (la1 (me1 k1)))), (3, .int (ii 1)), (0, .ref (am 0))]) hx hb dX12_soonestNow_75 hl (k := 2) rfl (by decide) rfl (fun ls hl => ?_)
                  refine lv_goto (tgt := 9) hx hb dX12_soonestNow_78 (by decide) ?_
                  exact ih (k1 + 1) (la1 (me1 k1)) wT53 qT53 (hSt53) (by omega) (by omega) (by omega) (soonM_new hbs hk0 hb53 (by omega)) (by omega) H locs hP hD hS ls (lv_sub hl [0, 1, 3] rfl)
              · have hP : va_P G gcl (wM am ty τ (up (up (up (up (up (up (up (up (up (up (up ρ 29 gm1) 30 (sc (nm1))) 31 la1) 32 me1) 33 (sc (n81))) 34 qu1) 35 qd1) 36 (sc (is1))) 37 (sc (il1))) 27 wT53) 28 qT53) ++ cs) H := hP
                have hD : va_D A (wM am ty τ (up (up (up (up (up (up (up (up (up (up (up ρ 29 gm1) 30 (sc (nm1))) 31 la1) 32 me1) 33 (sc (n81))) 34 qu1) 35 qd1) 36 (sc (is1))) 37 (sc (il1))) 27 wT53) 28 qT53) ++ cs) := hD
                have hSt53 : wfS wT53 qT53 := hSt53
                have hb53 : ¬ dn F (me1 k1) := hb53
                refine li_if_eq (tgt := 73) hx hb ⟨by decide, by decide⟩ dX12_soonestNow_56 (by decide) (fun c56 => ?_) (fun c56 => ?_)
                · refine lv_iload_n hx hb dX12_soonestNow_73 rfl (lv_at hl 2 rfl) ?_
                  refine lv_istore_n (lv' := [(1, .int (ii b1)), (3, .int (ii 1)), (2, .int (ii k1)), (0, .ref (am 0))]) hx hb dX12_soonestNow_74 rfl hl (by decide) rfl (fun ls hl => ?_)
                  refine li_iinc (a := k1) (lv' := [(2, .int (ii (k1 + 1))), (1, .int (ii b1)), (3, .int (ii 1)), (0, .ref (am 0))]) hx hb dX12_soonestNow_75 hl (k := 2) rfl (by decide) rfl (fun ls hl => ?_)
                  refine lv_goto (tgt := 9) hx hb dX12_soonestNow_78 (by decide) ?_
                  exact ih (k1 + 1) b1 wT53 qT53 (hSt53) (by omega) (by omega) (by omega) (soonM_n hbs hb53) (by omega) H locs hP hD hS ls (lv_sub hl [0, 1, 3] rfl)
                · exact absurd c56 (by decide)
  exact L9 _ 0 (-4) wT1 qT1 (hSt1) (by omega) (by omega) (⟨by decide, by decide⟩) (soonM_0 _ _ _) (Nat.lt_succ_self _) H locs hP hD hS ls (lv_sub hl [0, 1, 2] rfl)
set_option maxHeartbeats 4000000 in
theorem m_soonestM (l : Launch) (G : va_G) (am : Nat → Nat) (ty : Nat → ClassId) (τ ρ : mem) (cs : va_W)  (F : mem) (hF : okF F) (hSm : Sim F τ) (hSt : wfS (ρ 27) (ρ 28)) (hZ : zerF F) (hci : CIx F (ρ 36 0) (ρ 37 0) (ρ 31) (ρ 32) (ρ 33 0) (ρ 29) (ρ 30 0) (ρ 39)) : cM l yX12_soonest (ws_ yX12_soonest cX12_soonest 1 (some .int)) (rm4 6 0 0 153) G ty (wM am ty τ ρ ++ cs) [.ref (am 0)] 0 0 (fun r W' => ∃ (z : Int) (wT : Int → Int) (qT : Int → Int) (gm : Int → Int) (nm : Int) (la : Int → Int) (me : Int → Int) (n8 : Int) (qu : Int → Int) (qd : Int → Int) (is : Int) (il : Int), r = some (.int (ii z)) ∧ W' = wM am ty τ (up (up (up (up (up (up (up (up (up (up (up (up ρ 14 (sc (0))) 27 wT) 28 qT) 29 gm) 30 (sc (nm))) 31 la) 32 me) 33 (sc (n8))) 34 qu) 35 qd) 36 (sc (is))) 37 (sc (il))) ++ cs ∧ (wfS wT qT) ∧ (CIx F is il la me n8 gm nm (ρ 39)) ∧ (IsSoon F (cdv (F 6) (F 7)) z)) := by
  refine cM.of (by decide) (Nat.le_of_ble_eq_true rfl) ?_
  intro p e s m args below meth c A Q H locs hQ hx hb hr hml hown hlk hname hts hK hP hD hS hA hX ls hl
  have hl : lv_has ls 1 [(0, .ref (am 0))] := hl
  obtain ⟨hW, hWS, hlg⟩ := id hF
  obtain ⟨hw0, hw1, hw2, hw3, hw4, hw5, h8a, h8b, h9a, h9b, h10a, h10b⟩ := id hW
  obtain ⟨mL, mP, mR, mC, mK, mM, mA, mB, mD⟩ := id hSm
  refine lv_aload_n hx hb dX12_soonest_0 rfl (lv_at hl 0 rfl) ?_
  refine li_iconst hx hb dX12_soonest_1 ?_
  refine va_put (D := G) (ci := 11) (v := .int (ii 0)) (ty := .int) (C := RX12) (T := TX12) (N := 52) hx hb hts in_X12 tyX12 tyX12_ok nmX12 hown hK hP hD hS 0 (aM_0 _ _ _ _ _) rfl 14 (by decide) (hts _ q1279) (fun _ h9 => h9) rfl (tyX12_ok 14 (by decide)) rfl rfl (Nat.le_of_ble_eq_true rfl) dX12_soonest_2 (fun H locs hP hD hS => ?_)
  have hP : va_P G gcl (wM am ty τ (up ρ 14 (sc (0))) ++ cs) H := hP
  have hD : va_D A (wM am ty τ (up ρ 14 (sc (0))) ++ cs) := hD
  refine lv_aload_n hx hb dX12_soonest_5 rfl (lv_at hl 0 rfl) ?_
  refine kM (va_runV (As := []) (rest := []) ⟨hx, hb, hml, hown, hts⟩ ((m_soonestNowM l G am ty τ (up ρ 14 (sc (0))) cs _ (show okF F from hF) (show Sim F τ from hSm) (show wfS (ρ 27) (ρ 28) from hSt) (show zerF F from hZ) (show CIx F (ρ 36 0) (ρ 37 0) (ρ 31) (ρ 32) (ρ 33 0) (ρ 29) (ρ 30 0) (ρ 39) from hci)) H.size) (cwV 0 hts (lw_V q1586 q1588 qs58 q87 q1589) rfl rfl rfl (by decide +kernel) ⟨Nat.le_of_ble_eq_true rfl, Nat.le_of_ble_eq_true rfl⟩) (pvM (r := (RX12, TX12, 52)) hK hP hD hX 0 (aM_0 _ _ _ _ _) rfl) rfl rfl hl.1 rfl (lv_room (Nat.le_of_ble_eq_true rfl)) dX12_soonest_6 ⟨Nat.le_of_ble_eq_true rfl, Nat.le_of_ble_eq_true rfl⟩) hD hS hA (fun v ws1 H locs hv hP hD hS => ?_)
  obtain ⟨z6, wT6, qT6, gm6, nm6, la6, me6, n86, qu6, qd6, is6, il6, rfl, rfl, hSt6, hSo6, hCL6, hnm6, hci6, hi16, hil6, hz6, hzr6⟩ := hv
  have hP : va_P G gcl (wM am ty τ (up (up (up (up (up (up (up (up (up (up (up (up ρ 14 (sc (0))) 27 wT6) 28 qT6) 29 gm6) 30 (sc (nm6))) 31 la6) 32 me6) 33 (sc (n86))) 34 qu6) 35 qd6) 36 (sc (is6))) 37 (sc (il6))) ++ cs) H := hP
  have hD : va_D A (wM am ty τ (up (up (up (up (up (up (up (up (up (up (up (up ρ 14 (sc (0))) 27 wT6) 28 qT6) 29 gm6) 30 (sc (nm6))) 31 la6) 32 me6) 33 (sc (n86))) 34 qu6) 35 qd6) 36 (sc (is6))) 37 (sc (il6))) ++ cs) := hD
  have hSt6 : wfS wT6 qT6 := hSt6
  have hSo6 : Sought (EF F) (cdv (F 6) (F 7)) la6 me6 n86 := hSo6
  have hCL6 : LL (cand F) gm6 nm6 70000 := hCL6
  have hnm6 : 0 ≤ nm6 ∧ nm6 ≤ 2400 := hnm6
  have hci6 : CIx F is6 il6 la6 me6 n86 gm6 nm6 (ρ 39) := hci6
  have hi16 : is6 = 1 := hi16
  have hil6 : il6 = 0 ∨ il6 = 1 := hil6
  have hz6 : soonP (dn F) la6 z6 := hz6
  have hzr6 : -4 ≤ z6 ∧ z6 ≤ 1000000000 := hzr6
  exact eMi hQ hx hb hr hlk hP hD hS (Nat.le_of_ble_eq_true rfl) (Nat.le_of_ble_eq_true rfl) dX12_soonest_9 (⟨z6, wT6, qT6, gm6, nm6, la6, me6, n86, qu6, qd6, is6, il6, rfl, rfl, hSt6, hci6, ⟨_, _, _, hSo6, hz6⟩⟩)
set_option maxHeartbeats 4000000 in
theorem m_statesM (l : Launch) (G : va_G) (am : Nat → Nat) (ty : Nat → ClassId) (τ ρ : mem) (cs : va_W)  (F : mem) (hF : okF F) (hSm : Sim F τ) (hSt : wfS (ρ 27) (ρ 28)) (hZ : zerF F) (hci : CIx F (ρ 36 0) (ρ 37 0) (ρ 31) (ρ 32) (ρ 33 0) (ρ 29) (ρ 30 0) (ρ 39)) : cM l yX12_states (ws_ yX12_states cX12_states 1 (some .int)) (rm4 5 0 0 130) G ty (wM am ty τ ρ ++ cs) [.ref (am 0)] 0 0 (fun r W' => ∃ (z : Int) (wT : Int → Int) (qT : Int → Int) (gm : Int → Int) (nm : Int) (la : Int → Int) (me : Int → Int) (n8 : Int) (qu : Int → Int) (qd : Int → Int) (is : Int) (il : Int), r = some (.int (ii z)) ∧ W' = wM am ty τ (up (up (up (up (up (up (up (up (up (up (up (up ρ 14 (sc (0))) 27 wT) 28 qT) 29 gm) 30 (sc (nm))) 31 la) 32 me) 33 (sc (n8))) 34 qu) 35 qd) 36 (sc (is))) 37 (sc (il))) ++ cs ∧ (wfS wT qT) ∧ (CIx F is il la me n8 gm nm (ρ 39)) ∧ (IsStates F (cdv (F 6) (F 7)) z)) := by
  refine cM.of (by decide) (Nat.le_of_ble_eq_true rfl) ?_
  intro p e s m args below meth c A Q H locs hQ hx hb hr hml hown hlk hname hts hK hP hD hS hA hX ls hl
  have hl : lv_has ls 1 [(0, .ref (am 0))] := hl
  obtain ⟨hW, hWS, hlg⟩ := id hF
  obtain ⟨hw0, hw1, hw2, hw3, hw4, hw5, h8a, h8b, h9a, h9b, h10a, h10b⟩ := id hW
  obtain ⟨mL, mP, mR, mC, mK, mM, mA, mB, mD⟩ := id hSm
  refine lv_aload_n hx hb dX12_states_0 rfl (lv_at hl 0 rfl) ?_
  refine li_iconst hx hb dX12_states_1 ?_
  refine va_put (D := G) (ci := 11) (v := .int (ii 0)) (ty := .int) (C := RX12) (T := TX12) (N := 52) hx hb hts in_X12 tyX12 tyX12_ok nmX12 hown hK hP hD hS 0 (aM_0 _ _ _ _ _) rfl 14 (by decide) (hts _ q1279) (fun _ h9 => h9) rfl (tyX12_ok 14 (by decide)) rfl rfl (Nat.le_of_ble_eq_true rfl) dX12_states_2 (fun H locs hP hD hS => ?_)
  have hP : va_P G gcl (wM am ty τ (up ρ 14 (sc (0))) ++ cs) H := hP
  have hD : va_D A (wM am ty τ (up ρ 14 (sc (0))) ++ cs) := hD
  refine lv_aload_n hx hb dX12_states_5 rfl (lv_at hl 0 rfl) ?_
  refine kM (va_runV (As := []) (rest := []) ⟨hx, hb, hml, hown, hts⟩ ((m_seekNowM l G am ty τ (up ρ 14 (sc (0))) cs _ (show okF F from hF) (show Sim F τ from hSm) (show wfS (ρ 27) (ρ 28) from hSt) (show zerF F from hZ) (show CIx F (ρ 36 0) (ρ 37 0) (ρ 31) (ρ 32) (ρ 33 0) (ρ 29) (ρ 30 0) (ρ 39) from hci)) H.size) (cwV 0 hts (lw_V q1590 q1592 qs59 q87 q1593) rfl rfl rfl (by decide +kernel) ⟨Nat.le_of_ble_eq_true rfl, Nat.le_of_ble_eq_true rfl⟩) (pvM (r := (RX12, TX12, 52)) hK hP hD hX 0 (aM_0 _ _ _ _ _) rfl) rfl rfl hl.1 rfl (lv_room (Nat.le_of_ble_eq_true rfl)) dX12_states_6 ⟨Nat.le_of_ble_eq_true rfl, Nat.le_of_ble_eq_true rfl⟩) hD hS hA (fun v ws1 H locs hv hP hD hS => ?_)
  obtain ⟨wT6, qT6, gm6, nm6, la6, me6, n86, qu6, qd6, is6, il6, rfl, rfl, hSt6, hSo6, hCL6, hnm6, hci6, hi16, hil6⟩ := hv
  have hP : va_P G gcl (wM am ty τ (up (up (up (up (up (up (up (up (up (up (up (up ρ 14 (sc (0))) 27 wT6) 28 qT6) 29 gm6) 30 (sc (nm6))) 31 la6) 32 me6) 33 (sc (n86))) 34 qu6) 35 qd6) 36 (sc (is6))) 37 (sc (il6))) ++ cs) H := hP
  have hD : va_D A (wM am ty τ (up (up (up (up (up (up (up (up (up (up (up (up ρ 14 (sc (0))) 27 wT6) 28 qT6) 29 gm6) 30 (sc (nm6))) 31 la6) 32 me6) 33 (sc (n86))) 34 qu6) 35 qd6) 36 (sc (is6))) 37 (sc (il6))) ++ cs) := hD
  have hSt6 : wfS wT6 qT6 := hSt6
  have hSo6 : Sought (EF F) (cdv (F 6) (F 7)) la6 me6 n86 := hSo6
  have hCL6 : LL (cand F) gm6 nm6 70000 := hCL6
  have hnm6 : 0 ≤ nm6 ∧ nm6 ≤ 2400 := hnm6
  have hci6 : CIx F is6 il6 la6 me6 n86 gm6 nm6 (ρ 39) := hci6
  have hi16 : is6 = 1 := hi16
  have hil6 : il6 = 0 ∨ il6 = 1 := hil6
  refine lv_aload_n hx hb dX12_states_9 rfl (lv_at hl 0 rfl) ?_
  refine va_get (D := G) (ci := 11) (v := .int (ii n86)) (C := RX12) (T := TX12) (N := 52) hx hb hts in_X12 hown hK hP 0 (aM_0 _ _ _ _ _) rfl 33 (by decide) (hts _ q1298) (fun _ h9 => h9) rfl dX12_states_10 ?_
  exact eMi hQ hx hb hr hlk hP hD hS (Nat.le_of_ble_eq_true rfl) (Nat.le_of_ble_eq_true rfl) dX12_states_13 (⟨n86, wT6, qT6, gm6, nm6, la6, me6, n86, qu6, qd6, is6, il6, rfl, rfl, hSt6, hci6, ⟨_, _, hSo6⟩⟩)
set_option maxHeartbeats 4000000 in
theorem m_leftInM (l : Launch) (G : va_G) (am : Nat → Nat) (ty : Nat → ClassId) (τ ρ : mem) (cs : va_W) (c1 : Int) (F : mem) (hF : okF F) (hSm : Sim F τ) (hSt : wfS (ρ 27) (ρ 28)) (hc : inSt c1) : cM l yX12_leftIn (ws_ yX12_leftIn cX12_leftIn 4 (some .int)) (rm4 1 0 0 21) G ty (wM am ty τ ρ ++ cs) [.ref (am 0), .int (ii c1)] 0 0 (fun r W' => ∃ (z : Int) (wT : Int → Int) (qT : Int → Int), r = some (.int (ii z)) ∧ W' = wM am ty τ (up (up ρ 27 wT) 28 qT) ++ cs ∧ (wfS wT qT) ∧ (z = lf F c1)) := by
  refine cM.of (by decide) (Nat.le_of_ble_eq_true rfl) ?_
  intro p e s m args below meth c A Q H locs hQ hx hb hr hml hown hlk hname hts hK hP hD hS hA hX ls hl
  have hl : lv_has ls 4 [(0, .ref (am 0)), (1, .int (ii c1))] := hl
  obtain ⟨hW, hWS, hlg⟩ := id hF
  obtain ⟨hw0, hw1, hw2, hw3, hw4, hw5, h8a, h8b, h9a, h9b, h10a, h10b⟩ := id hW
  obtain ⟨mL, mP, mR, mC, mK, mM, mA, mB, mD⟩ := id hSm
  have hq0 := dcq_0 c1 (ρ 28)
  have hq1 := dcq_1 c1 (ρ 28)
  have hS2 : wfS (dcw c1 (ρ 27)) (dcq c1 (ρ 28)) := ⟨dcw_b hSt.1, dcq_b hSt.2⟩
  obtain ⟨hc0, hc1⟩ := id hc
  refine lv_aload_n hx hb dX12_leftIn_0 rfl (lv_at hl 0 rfl) ?_
  refine lv_iload_n hx hb dX12_leftIn_1 rfl (lv_at hl 1 rfl) ?_
  refine kM (va_runV (As := [.int (ii c1)]) (rest := []) ⟨hx, hb, hml, hown, hts⟩ ((m_openM l G am ty τ ρ cs c1 (show inSt c1 from hc)) H.size) (cwV 1 hts (lw_V q1518 q1520 qs47 q87 q1521) rfl rfl rfl (by decide +kernel) ⟨Nat.le_of_ble_eq_true rfl, Nat.le_of_ble_eq_true rfl⟩) (pvM (r := (RX12, TX12, 52)) hK hP hD hX 0 (aM_0 _ _ _ _ _) rfl) rfl rfl hl.1 rfl (lv_room (Nat.le_of_ble_eq_true rfl)) dX12_leftIn_2 ⟨Nat.le_of_ble_eq_true rfl, Nat.le_of_ble_eq_true rfl⟩) hD hS hA (fun v ws1 H locs hv hP hD hS => ?_)
  obtain ⟨rfl, rfl, hal2⟩ := hv
  have hP : va_P G gcl (wM am ty τ (up (up ρ 27 (dcw c1 (ρ 27))) 28 (dcq c1 (ρ 28))) ++ cs) H := hP
  have hD : va_D A (wM am ty τ (up (up ρ 27 (dcw c1 (ρ 27))) 28 (dcq c1 (ρ 28))) ++ cs) := hD
  have hal2 : alike (dcw c1 (ρ 27)) (dcq c1 (ρ 28)) (stW c1) (stQ c1) := hal2
  refine li_iconst hx hb dX12_leftIn_5 ?_
  refine lv_istore_n (lv' := [(2, .int (ii 0)), (0, .ref (am 0)), (1, .int (ii c1))]) hx hb dX12_leftIn_6 rfl hl (by decide) rfl (fun ls hl => ?_)
  refine li_iconst hx hb dX12_leftIn_7 ?_
  refine lv_istore_n (lv' := [(3, .int (ii 0)), (2, .int (ii 0)), (0, .ref (am 0)), (1, .int (ii c1))]) hx hb dX12_leftIn_8 rfl hl (by decide) rfl (fun ls hl => ?_)
  refine lv_iload_n hx hb dX12_leftIn_9 rfl (lv_at hl 0 rfl) ?_
  refine lv_aload_n hx hb dX12_leftIn_10 rfl (lv_at hl 2 rfl) ?_
  refine va_get (D := G) (ci := 11) (v := .int (ii (τ 7 0))) (C := RX12) (T := TX12) (N := 52) hx hb hts in_X12 hown hK hP 0 (aM_0 _ _ _ _ _) rfl 7 (by decide) (hts _ q1272) (fun _ h9 => h9) rfl dX12_leftIn_11 ?_
  refine li_icmp_ge (tgt := 41) hx hb ⟨by decide, by decide⟩ ⟨by omega, by omega⟩ dX12_leftIn_14 (by decide) (fun c14 => ?_) (fun c14 => ?_)
  · refine lv_iload_n hx hb dX12_leftIn_41 rfl (lv_at hl 1 rfl) ?_
    exact eMi hQ hx hb hr hlk hP hD hS (Nat.le_of_ble_eq_true rfl) (Nat.le_of_ble_eq_true rfl) dX12_leftIn_42 (⟨0, (dcw c1 (ρ 27)), (dcq c1 (ρ 28)), rfl, rfl, hS2, by unfold lf; omega⟩)
  · refine lv_iload_n hx hb dX12_leftIn_17 rfl (lv_at hl 1 rfl) ?_
    refine lv_aload_n hx hb dX12_leftIn_18 rfl (lv_at hl 2 rfl) ?_
    refine va_get (D := G) (ci := 11) (v := .ref (am 17)) (C := RX12) (T := TX12) (N := 52) hx hb hts in_X12 hown hK hP 0 (aM_0 _ _ _ _ _) rfl 28 (by decide) (hts _ q1293) (fun _ h9 => h9) rfl dX12_leftIn_19 ?_
    refine lv_iload_n hx hb dX12_leftIn_22 rfl (lv_at hl 0 rfl) ?_
    refine li_iald (g := (dcq c1 (ρ 28))) hx hb hK hP 17 0 (aM_17 _ _ _ _ _) rfl (by decide) (by decide) (by decide) dX12_leftIn_23 ?_
    refine li_iconst hx hb dX12_leftIn_24 ?_
    refine li_icmp_ne (tgt := 32) hx hb ⟨by omega, by omega⟩ ⟨by decide, by decide⟩ dX12_leftIn_25 (by decide) (fun c25 => ?_) (fun c25 => ?_)
    · refine li_iconst hx hb dX12_leftIn_32 ?_
      refine li_add hx hb dX12_leftIn_33 ?_
      refine li_top (b := 0) (by decide) ?_
      refine lv_istore_n (lv' := [(2, .int (ii 0)), (3, .int (ii 0)), (0, .ref (am 0)), (1, .int (ii c1))]) hx hb dX12_leftIn_34 rfl hl (by decide) rfl (fun ls hl => ?_)
      refine li_iinc (a := 0) (lv' := [(3, .int (ii 1)), (2, .int (ii 0)), (0, .ref (am 0)), (1, .int (ii c1))]) hx hb dX12_leftIn_35 hl (k := 1) rfl (by decide) rfl (fun ls hl => ?_)
      refine lv_goto (tgt := 9) hx hb dX12_leftIn_38 (by decide) ?_
      refine lv_iload_n hx hb dX12_leftIn_9 rfl (lv_at hl 0 rfl) ?_
      refine lv_aload_n hx hb dX12_leftIn_10 rfl (lv_at hl 2 rfl) ?_
      refine va_get (D := G) (ci := 11) (v := .int (ii (τ 7 0))) (C := RX12) (T := TX12) (N := 52) hx hb hts in_X12 hown hK hP 0 (aM_0 _ _ _ _ _) rfl 7 (by decide) (hts _ q1272) (fun _ h9 => h9) rfl dX12_leftIn_11 ?_
      refine li_icmp_ge (tgt := 41) hx hb ⟨by decide, by decide⟩ ⟨by omega, by omega⟩ dX12_leftIn_14 (by decide) (fun c14 => ?_) (fun c14 => ?_)
      · refine lv_iload_n hx hb dX12_leftIn_41 rfl (lv_at hl 1 rfl) ?_
        exact eMi hQ hx hb hr hlk hP hD hS (Nat.le_of_ble_eq_true rfl) (Nat.le_of_ble_eq_true rfl) dX12_leftIn_42 (⟨0, (dcw c1 (ρ 27)), (dcq c1 (ρ 28)), rfl, rfl, hS2, by unfold lf; omega⟩)
      · refine lv_iload_n hx hb dX12_leftIn_17 rfl (lv_at hl 1 rfl) ?_
        refine lv_aload_n hx hb dX12_leftIn_18 rfl (lv_at hl 2 rfl) ?_
        refine va_get (D := G) (ci := 11) (v := .ref (am 17)) (C := RX12) (T := TX12) (N := 52) hx hb hts in_X12 hown hK hP 0 (aM_0 _ _ _ _ _) rfl 28 (by decide) (hts _ q1293) (fun _ h9 => h9) rfl dX12_leftIn_19 ?_
        refine lv_iload_n hx hb dX12_leftIn_22 rfl (lv_at hl 0 rfl) ?_
        refine li_iald (g := (dcq c1 (ρ 28))) hx hb hK hP 17 0 (aM_17 _ _ _ _ _) rfl (by decide) (by decide) (by decide) dX12_leftIn_23 ?_
        refine li_iconst hx hb dX12_leftIn_24 ?_
        refine li_icmp_ne (tgt := 32) hx hb ⟨by omega, by omega⟩ ⟨by decide, by decide⟩ dX12_leftIn_25 (by decide) (fun c25 => ?_) (fun c25 => ?_)
        · refine li_iconst hx hb dX12_leftIn_32 ?_
          refine li_add hx hb dX12_leftIn_33 ?_
          refine li_top (b := 0) (by decide) ?_
          refine lv_istore_n (lv' := [(2, .int (ii 0)), (3, .int (ii 1)), (0, .ref (am 0)), (1, .int (ii c1))]) hx hb dX12_leftIn_34 rfl hl (by decide) rfl (fun ls hl => ?_)
          refine li_iinc (a := 1) (lv' := [(3, .int (ii 2)), (2, .int (ii 0)), (0, .ref (am 0)), (1, .int (ii c1))]) hx hb dX12_leftIn_35 hl (k := 1) rfl (by decide) rfl (fun ls hl => ?_)
          refine lv_goto (tgt := 9) hx hb dX12_leftIn_38 (by decide) ?_
          refine lv_iload_n hx hb dX12_leftIn_9 rfl (lv_at hl 0 rfl) ?_
          refine lv_aload_n hx hb dX12_leftIn_10 rfl (lv_at hl 2 rfl) ?_
          refine va_get (D := G) (ci := 11) (v := .int (ii (τ 7 0))) (C := RX12) (T := TX12) (N := 52) hx hb hts in_X12 hown hK hP 0 (aM_0 _ _ _ _ _) rfl 7 (by decide) (hts _ q1272) (fun _ h9 => h9) rfl dX12_leftIn_11 ?_
          refine li_icmp_ge (tgt := 41) hx hb ⟨by decide, by decide⟩ ⟨by omega, by omega⟩ dX12_leftIn_14 (by decide) (fun c14 => ?_) (fun c14 => ?_)
          · refine lv_iload_n hx hb dX12_leftIn_41 rfl (lv_at hl 1 rfl) ?_
            exact eMi hQ hx hb hr hlk hP hD hS (Nat.le_of_ble_eq_true rfl) (Nat.le_of_ble_eq_true rfl) dX12_leftIn_42 (⟨0, (dcw c1 (ρ 27)), (dcq c1 (ρ 28)), rfl, rfl, hS2, by unfold lf; omega⟩)
          · exfalso
            omega
        · refine li_iconst hx hb dX12_leftIn_28 ?_
          refine lv_goto (tgt := 33) hx hb dX12_leftIn_29 (by decide) ?_
          refine li_add hx hb dX12_leftIn_33 ?_
          refine li_top (b := 1) (by decide) ?_
          refine lv_istore_n (lv' := [(2, .int (ii 1)), (3, .int (ii 1)), (0, .ref (am 0)), (1, .int (ii c1))]) hx hb dX12_leftIn_34 rfl hl (by decide) rfl (fun ls hl => ?_)
          refine li_iinc (a := 1) (lv' := [(3, .int (ii 2)), (2, .int (ii 1)), (0, .ref (am 0)), (1, .int (ii c1))]) hx hb dX12_leftIn_35 hl (k := 1) rfl (by decide) rfl (fun ls hl => ?_)
          refine lv_goto (tgt := 9) hx hb dX12_leftIn_38 (by decide) ?_
          refine lv_iload_n hx hb dX12_leftIn_9 rfl (lv_at hl 0 rfl) ?_
          refine lv_aload_n hx hb dX12_leftIn_10 rfl (lv_at hl 2 rfl) ?_
          refine va_get (D := G) (ci := 11) (v := .int (ii (τ 7 0))) (C := RX12) (T := TX12) (N := 52) hx hb hts in_X12 hown hK hP 0 (aM_0 _ _ _ _ _) rfl 7 (by decide) (hts _ q1272) (fun _ h9 => h9) rfl dX12_leftIn_11 ?_
          refine li_icmp_ge (tgt := 41) hx hb ⟨by decide, by decide⟩ ⟨by omega, by omega⟩ dX12_leftIn_14 (by decide) (fun c14 => ?_) (fun c14 => ?_)
          · refine lv_iload_n hx hb dX12_leftIn_41 rfl (lv_at hl 1 rfl) ?_
            exact eMi hQ hx hb hr hlk hP hD hS (Nat.le_of_ble_eq_true rfl) (Nat.le_of_ble_eq_true rfl) dX12_leftIn_42 (⟨1, (dcw c1 (ρ 27)), (dcq c1 (ρ 28)), rfl, rfl, hS2, by unfold lf; omega⟩)
          · exfalso
            omega
    · refine li_iconst hx hb dX12_leftIn_28 ?_
      refine lv_goto (tgt := 33) hx hb dX12_leftIn_29 (by decide) ?_
      refine li_add hx hb dX12_leftIn_33 ?_
      refine li_top (b := 1) (by decide) ?_
      refine lv_istore_n (lv' := [(2, .int (ii 1)), (3, .int (ii 0)), (0, .ref (am 0)), (1, .int (ii c1))]) hx hb dX12_leftIn_34 rfl hl (by decide) rfl (fun ls hl => ?_)
      refine li_iinc (a := 0) (lv' := [(3, .int (ii 1)), (2, .int (ii 1)), (0, .ref (am 0)), (1, .int (ii c1))]) hx hb dX12_leftIn_35 hl (k := 1) rfl (by decide) rfl (fun ls hl => ?_)
      refine lv_goto (tgt := 9) hx hb dX12_leftIn_38 (by decide) ?_
      refine lv_iload_n hx hb dX12_leftIn_9 rfl (lv_at hl 0 rfl) ?_
      refine lv_aload_n hx hb dX12_leftIn_10 rfl (lv_at hl 2 rfl) ?_
      refine va_get (D := G) (ci := 11) (v := .int (ii (τ 7 0))) (C := RX12) (T := TX12) (N := 52) hx hb hts in_X12 hown hK hP 0 (aM_0 _ _ _ _ _) rfl 7 (by decide) (hts _ q1272) (fun _ h9 => h9) rfl dX12_leftIn_11 ?_
      refine li_icmp_ge (tgt := 41) hx hb ⟨by decide, by decide⟩ ⟨by omega, by omega⟩ dX12_leftIn_14 (by decide) (fun c14 => ?_) (fun c14 => ?_)
      · refine lv_iload_n hx hb dX12_leftIn_41 rfl (lv_at hl 1 rfl) ?_
        exact eMi hQ hx hb hr hlk hP hD hS (Nat.le_of_ble_eq_true rfl) (Nat.le_of_ble_eq_true rfl) dX12_leftIn_42 (⟨1, (dcw c1 (ρ 27)), (dcq c1 (ρ 28)), rfl, rfl, hS2, by unfold lf; omega⟩)
      · refine lv_iload_n hx hb dX12_leftIn_17 rfl (lv_at hl 1 rfl) ?_
        refine lv_aload_n hx hb dX12_leftIn_18 rfl (lv_at hl 2 rfl) ?_
        refine va_get (D := G) (ci := 11) (v := .ref (am 17)) (C := RX12) (T := TX12) (N := 52) hx hb hts in_X12 hown hK hP 0 (aM_0 _ _ _ _ _) rfl 28 (by decide) (hts _ q1293) (fun _ h9 => h9) rfl dX12_leftIn_19 ?_
        refine lv_iload_n hx hb dX12_leftIn_22 rfl (lv_at hl 0 rfl) ?_
        refine li_iald (g := (dcq c1 (ρ 28))) hx hb hK hP 17 0 (aM_17 _ _ _ _ _) rfl (by decide) (by decide) (by decide) dX12_leftIn_23 ?_
        refine li_iconst hx hb dX12_leftIn_24 ?_
        refine li_icmp_ne (tgt := 32) hx hb ⟨by omega, by omega⟩ ⟨by decide, by decide⟩ dX12_leftIn_25 (by decide) (fun c25 => ?_) (fun c25 => ?_)
        · refine li_iconst hx hb dX12_leftIn_32 ?_
          refine li_add hx hb dX12_leftIn_33 ?_
          refine li_top (b := 1) (by decide) ?_
          refine lv_istore_n (lv' := [(2, .int (ii 1)), (3, .int (ii 1)), (0, .ref (am 0)), (1, .int (ii c1))]) hx hb dX12_leftIn_34 rfl hl (by decide) rfl (fun ls hl => ?_)
          refine li_iinc (a := 1) (lv' := [(3, .int (ii 2)), (2, .int (ii 1)), (0, .ref (am 0)), (1, .int (ii c1))]) hx hb dX12_leftIn_35 hl (k := 1) rfl (by decide) rfl (fun ls hl => ?_)
          refine lv_goto (tgt := 9) hx hb dX12_leftIn_38 (by decide) ?_
          refine lv_iload_n hx hb dX12_leftIn_9 rfl (lv_at hl 0 rfl) ?_
          refine lv_aload_n hx hb dX12_leftIn_10 rfl (lv_at hl 2 rfl) ?_
          refine va_get (D := G) (ci := 11) (v := .int (ii (τ 7 0))) (C := RX12) (T := TX12) (N := 52) hx hb hts in_X12 hown hK hP 0 (aM_0 _ _ _ _ _) rfl 7 (by decide) (hts _ q1272) (fun _ h9 => h9) rfl dX12_leftIn_11 ?_
          refine li_icmp_ge (tgt := 41) hx hb ⟨by decide, by decide⟩ ⟨by omega, by omega⟩ dX12_leftIn_14 (by decide) (fun c14 => ?_) (fun c14 => ?_)
          · refine lv_iload_n hx hb dX12_leftIn_41 rfl (lv_at hl 1 rfl) ?_
            exact eMi hQ hx hb hr hlk hP hD hS (Nat.le_of_ble_eq_true rfl) (Nat.le_of_ble_eq_true rfl) dX12_leftIn_42 (⟨1, (dcw c1 (ρ 27)), (dcq c1 (ρ 28)), rfl, rfl, hS2, by unfold lf; omega⟩)
          · exfalso
            omega
        · refine li_iconst hx hb dX12_leftIn_28 ?_
          refine lv_goto (tgt := 33) hx hb dX12_leftIn_29 (by decide) ?_
          refine li_add hx hb dX12_leftIn_33 ?_
          refine li_top (b := 2) (by decide) ?_
          refine lv_istore_n (lv' := [(2, .int (ii 2)), (3, .int (ii 1)), (0, .ref (am 0)), (1, .int (ii c1))]) hx hb dX12_leftIn_34 rfl hl (by decide) rfl (fun ls hl => ?_)
          refine li_iinc (a := 1) (lv' := [(3, .int (ii 2)), (2, .int (ii 2)), (0, .ref (am 0)), (1, .int (ii c1))]) hx hb dX12_leftIn_35 hl (k := 1) rfl (by decide) rfl (fun ls hl => ?_)
          refine lv_goto (tgt := 9) hx hb dX12_leftIn_38 (by decide) ?_
          refine lv_iload_n hx hb dX12_leftIn_9 rfl (lv_at hl 0 rfl) ?_
          refine lv_aload_n hx hb dX12_leftIn_10 rfl (lv_at hl 2 rfl) ?_
          refine va_get (D := G) (ci := 11) (v := .int (ii (τ 7 0))) (C := RX12) (T := TX12) (N := 52) hx hb hts in_X12 hown hK hP 0 (aM_0 _ _ _ _ _) rfl 7 (by decide) (hts _ q1272) (fun _ h9 => h9) rfl dX12_leftIn_11 ?_
          refine li_icmp_ge (tgt := 41) hx hb ⟨by decide, by decide⟩ ⟨by omega, by omega⟩ dX12_leftIn_14 (by decide) (fun c14 => ?_) (fun c14 => ?_)
          · refine lv_iload_n hx hb dX12_leftIn_41 rfl (lv_at hl 1 rfl) ?_
            exact eMi hQ hx hb hr hlk hP hD hS (Nat.le_of_ble_eq_true rfl) (Nat.le_of_ble_eq_true rfl) dX12_leftIn_42 (⟨2, (dcw c1 (ρ 27)), (dcq c1 (ρ 28)), rfl, rfl, hS2, by unfold lf; omega⟩)
          · exfalso
            omega
set_option maxHeartbeats 4000000 in
theorem m_leftWithinM (l : Launch) (G : va_G) (am : Nat → Nat) (ty : Nat → ClassId) (τ ρ : mem) (cs : va_W) (w1 : Int) (t1 : Int) (F : mem) (hF : okF F) (hSm : Sim F τ) (hSt : wfS (ρ 27) (ρ 28)) (hZ : zerF F) (hci : CIx F (ρ 36 0) (ρ 37 0) (ρ 31) (ρ 32) (ρ 33 0) (ρ 29) (ρ 30 0) (ρ 39)) (hw : rg w1) (ht : rg t1) : cM l yX12_leftWithin (ws_ yX12_leftWithin cX12_leftWithin 8 (some .int)) (rm4 5 0 0 130) G ty (wM am ty τ ρ ++ cs) [.ref (am 0), .int (ii w1), .int (ii t1)] 0 0 (fun r W' => ∃ (z : Int) (wT : Int → Int) (qT : Int → Int) (gm : Int → Int) (nm : Int) (la : Int → Int) (me : Int → Int) (n8 : Int) (qu : Int → Int) (qd : Int → Int) (is : Int) (il : Int), r = some (.int (ii z)) ∧ W' = wM am ty τ (up (up (up (up (up (up (up (up (up (up (up ρ 27 wT) 28 qT) 29 gm) 30 (sc (nm))) 31 la) 32 me) 33 (sc (n8))) 34 qu) 35 qd) 36 (sc (is))) 37 (sc (il))) ++ cs ∧ (wfS wT qT) ∧ (Sought (EF F) (cdv (F 6) (F 7)) la me n8) ∧ (LL (cand F) gm nm 70000) ∧ (0 ≤ nm ∧ nm ≤ 2400) ∧ (CIx F is il la me n8 gm nm (ρ 39)) ∧ (is = 1) ∧ (il = 0 ∨ il = 1) ∧ (∃ f b, IsFew F (cdv (F 6) (F 7)) w1 f b ∧ (f = -4 → b = -4) ∧ z = if t1 = 0 then f else b)) := by
  refine cM.of (by decide) (Nat.le_of_ble_eq_true rfl) ?_
  intro p e s m args below meth c A Q H locs hQ hx hb hr hml hown hlk hname hts hK hP hD hS hA hX ls hl
  have hl : lv_has ls 8 [(0, .ref (am 0)), (1, .int (ii w1)), (2, .int (ii t1))] := hl
  obtain ⟨hW, hWS, hlg⟩ := id hF
  obtain ⟨hw0, hw1, hw2, hw3, hw4, hw5, h8a, h8b, h9a, h9b, h10a, h10b⟩ := id hW
  obtain ⟨mL, mP, mR, mC, mK, mM, mA, mB, mD⟩ := id hSm
  obtain ⟨hwa, hwb⟩ := id hw
  obtain ⟨hta, htb⟩ := id ht
  refine lv_aload_n hx hb dX12_leftWithin_0 rfl (lv_at hl 0 rfl) ?_
  refine kM (va_runV (As := []) (rest := []) ⟨hx, hb, hml, hown, hts⟩ ((m_seekNowM l G am ty τ ρ cs _ (show okF F from hF) (show Sim F τ from hSm) (show wfS (ρ 27) (ρ 28) from hSt) (show zerF F from hZ) (show CIx F (ρ 36 0) (ρ 37 0) (ρ 31) (ρ 32) (ρ 33 0) (ρ 29) (ρ 30 0) (ρ 39) from hci)) H.size) (cwV 0 hts (lw_V q1590 q1592 qs59 q87 q1593) rfl rfl rfl (by decide +kernel) ⟨Nat.le_of_ble_eq_true rfl, Nat.le_of_ble_eq_true rfl⟩) (pvM (r := (RX12, TX12, 52)) hK hP hD hX 0 (aM_0 _ _ _ _ _) rfl) rfl rfl hl.1 rfl (lv_room (Nat.le_of_ble_eq_true rfl)) dX12_leftWithin_1 ⟨Nat.le_of_ble_eq_true rfl, Nat.le_of_ble_eq_true rfl⟩) hD hS hA (fun v ws1 H locs hv hP hD hS => ?_)
  obtain ⟨wT1, qT1, gm1, nm1, la1, me1, n81, qu1, qd1, is1, il1, rfl, rfl, hSt1, hSo1, hCL1, hnm1, hci1, hi11, hil1⟩ := hv
  have hP : va_P G gcl (wM am ty τ (up (up (up (up (up (up (up (up (up (up (up ρ 27 wT1) 28 qT1) 29 gm1) 30 (sc (nm1))) 31 la1) 32 me1) 33 (sc (n81))) 34 qu1) 35 qd1) 36 (sc (is1))) 37 (sc (il1))) ++ cs) H := hP
  have hD : va_D A (wM am ty τ (up (up (up (up (up (up (up (up (up (up (up ρ 27 wT1) 28 qT1) 29 gm1) 30 (sc (nm1))) 31 la1) 32 me1) 33 (sc (n81))) 34 qu1) 35 qd1) 36 (sc (is1))) 37 (sc (il1))) ++ cs) := hD
  have hSt1 : wfS wT1 qT1 := hSt1
  have hSo1 : Sought (EF F) (cdv (F 6) (F 7)) la1 me1 n81 := hSo1
  have hCL1 : LL (cand F) gm1 nm1 70000 := hCL1
  have hnm1 : 0 ≤ nm1 ∧ nm1 ≤ 2400 := hnm1
  have hci1 : CIx F is1 il1 la1 me1 n81 gm1 nm1 (ρ 39) := hci1
  have hi11 : is1 = 1 := hi11
  have hil1 : il1 = 0 ∨ il1 = 1 := hil1
  have hn1 := hSo1.n1
  have hn2 := hSo1.toMet.n2
  refine li_bipush hx hb dX12_leftWithin_4 (by decide) ?_
  refine lv_istore_n (lv' := [(3, .int (ii (-4))), (0, .ref (am 0)), (1, .int (ii w1)), (2, .int (ii t1))]) hx hb dX12_leftWithin_6 rfl hl (by decide) rfl (fun ls hl => ?_)
  refine li_bipush hx hb dX12_leftWithin_7 (by decide) ?_
  refine lv_istore (lv' := [(4, .int (ii (-4))), (3, .int (ii (-4))), (0, .ref (am 0)), (1, .int (ii w1)), (2, .int (ii t1))]) hx hb dX12_leftWithin_9 hl (by decide) rfl (fun ls hl => ?_)
  refine li_iconst hx hb dX12_leftWithin_11 ?_
  refine lv_istore (lv' := [(5, .int (ii 0)), (4, .int (ii (-4))), (3, .int (ii (-4))), (0, .ref (am 0)), (1, .int (ii w1)), (2, .int (ii t1))]) hx hb dX12_leftWithin_12 hl (by decide) rfl (fun ls hl => ?_)
  have L14 : ∀ (n : Nat) (k1 : Int) (b1 : Int) (f1 : Int) (wT : Int → Int) (qT : Int → Int) (_ : wfS wT qT) (_ : 0 ≤ k1) (_ : k1 ≤ n81) (_ : -4 ≤ f1 ∧ f1 ≤ 2) (_ : (f1 = -4 ∧ b1 = -4) ∨ (0 ≤ f1 ∧ 0 ≤ b1 ∧ b1 ≤ 1000000000)) (_ : fewI (dn F) (lf F) la1 me1 w1 k1 f1 b1) (_ : (n81 - k1).toNat < n) (H : Heap) (locs : List Loc) (_ : va_P G gcl (wM am ty τ (up (up (up (up (up (up (up (up (up (up (up ρ 29 gm1) 30 (sc (nm1))) 31 la1) 32 me1) 33 (sc (n81))) 34 qu1) 35 qd1) 36 (sc (is1))) 37 (sc (il1))) 27 wT) 28 qT) ++ cs) H) (_ : va_D A (wM am ty τ (up (up (up (up (up (up (up (up (up (up (up ρ 29 gm1) 30 (sc (nm1))) 31 la1) 32 me1) 33 (sc (n81))) 34 qu1) 35 qd1) 36 (sc (is1))) 37 (sc (il1))) 27 wT) 28 qT) ++ cs)) (_ : va_S A s.heap H locs) (ls : Array Slot), lv_has ls 8 [(5, .int (ii k1)), (4, .int (ii b1)), (3, .int (ii f1)), (0, .ref (am 0)), (1, .int (ii w1)), (2, .int (ii t1))] → W p l e (rm4 5 0 0 130) s m args below meth c H locs 0 0 Q (F0 m 14 ls []) := by
    intro n
    induction n with
    | zero =>
      intro k1 b1 f1 wT qT hSt hk0 hk1 hfr hf4 hfw hm
      exact absurd hm (Nat.not_lt_zero _)
    | succ n ih =>
      intro k1 b1 f1 wT qT hSt hk0 hk1 hfr hf4 hfw hm H locs hP hD hS ls hl
      refine lv_iload hx hb dX12_leftWithin_14 (lv_at hl 0 rfl) ?_
      refine lv_aload_n hx hb dX12_leftWithin_16 rfl (lv_at hl 3 rfl) ?_
      refine va_get (D := G) (ci := 11) (v := .int (ii n81)) (C := RX12) (T := TX12) (N := 52) hx hb hts in_X12 hown hK hP 0 (aM_0 _ _ _ _ _) rfl 33 (by decide) (hts _ q1298) (fun _ h9 => h9) rfl dX12_leftWithin_17 ?_
      refine li_icmp_ge (tgt := 125) hx hb ⟨by omega, by omega⟩ ⟨by omega, by omega⟩ dX12_leftWithin_20 (by decide) (fun c20 => ?_) (fun c20 => ?_)
      · refine lv_iload_n hx hb dX12_leftWithin_125 rfl (lv_at hl 5 rfl) ?_
        refine li_if_ne (tgt := 133) hx hb ht dX12_leftWithin_126 (by decide) (fun c126 => ?_) (fun c126 => ?_)
        · refine lv_iload hx hb dX12_leftWithin_133 (lv_at hl 1 rfl) ?_
          exact eMi hQ hx hb hr hlk hP hD hS (Nat.le_of_ble_eq_true rfl) (Nat.le_of_ble_eq_true rfl) dX12_leftWithin_135 (⟨b1, wT, qT, gm1, nm1, la1, me1, n81, qu1, qd1, is1, il1, rfl, rfl, hSt, hSo1, hCL1, hnm1, hci1, hi11, hil1, ⟨_, _, ⟨_, _, _, hSo1, fewI_e hSo1.toMet hfw (by omega) hk1⟩, by omega, by rw [if_neg (by omega)]⟩⟩)
        · refine lv_iload_n hx hb dX12_leftWithin_129 rfl (lv_at hl 2 rfl) ?_
          refine lv_goto (tgt := 135) hx hb dX12_leftWithin_130 (by decide) ?_
          exact eMi hQ hx hb hr hlk hP hD hS (Nat.le_of_ble_eq_true rfl) (Nat.le_of_ble_eq_true rfl) dX12_leftWithin_135 (⟨f1, wT, qT, gm1, nm1, la1, me1, n81, qu1, qd1, is1, il1, rfl, rfl, hSt, hSo1, hCL1, hnm1, hci1, hi11, hil1, ⟨_, _, ⟨_, _, _, hSo1, fewI_e hSo1.toMet hfw (by omega) hk1⟩, by omega, by rw [if_pos (by omega)]⟩⟩)
      · have hmk := (hSo1.mt k1 hk0 c20).1
        obtain ⟨hmk0, hmk1⟩ := id hmk
        have hmr := hSo1.toMet.rg hmk
        refine lv_aload_n hx hb dX12_leftWithin_23 rfl (lv_at hl 3 rfl) ?_
        refine va_get (D := G) (ci := 11) (v := .ref (am 20)) (C := RX12) (T := TX12) (N := 52) hx hb hts in_X12 hown hK hP 0 (aM_0 _ _ _ _ _) rfl 32 (by decide) (hts _ q1297) (fun _ h9 => h9) rfl dX12_leftWithin_24 ?_
        refine lv_iload hx hb dX12_leftWithin_27 (lv_at hl 0 rfl) ?_
        refine li_iald (g := me1) hx hb hK hP 20 0 (aM_20 _ _ _ _ _) rfl (by omega) (by omega) (by decide) dX12_leftWithin_29 ?_
        refine lv_istore (lv' := [(6, .int (ii (me1 k1))), (5, .int (ii k1)), (4, .int (ii b1)), (3, .int (ii f1)), (0, .ref (am 0)), (1, .int (ii w1)), (2, .int (ii t1))]) hx hb dX12_leftWithin_30 hl (by decide) rfl (fun ls hl => ?_)
        refine lv_aload_n hx hb dX12_leftWithin_32 rfl (lv_at hl 4 rfl) ?_
        refine va_get (D := G) (ci := 11) (v := .ref (am 19)) (C := RX12) (T := TX12) (N := 52) hx hb hts in_X12 hown hK hP 0 (aM_0 _ _ _ _ _) rfl 31 (by decide) (hts _ q1296) (fun _ h9 => h9) rfl dX12_leftWithin_33 ?_
        refine lv_iload hx hb dX12_leftWithin_36 (lv_at hl 0 rfl) ?_
        refine li_iald (g := la1) hx hb hK hP 19 0 (aM_19 _ _ _ _ _) rfl (by omega) (by omega) (by decide) dX12_leftWithin_38 ?_
        refine lv_iload_n hx hb dX12_leftWithin_39 rfl (lv_at hl 5 rfl) ?_
        refine li_icmp_gt (tgt := 119) hx hb ⟨by omega, by omega⟩ hw dX12_leftWithin_40 (by decide) (fun c40 => ?_) (fun c40 => ?_)
        · refine li_iinc (a := k1) (lv' := [(5, .int (ii (k1 + 1))), (6, .int (ii (me1 k1))), (4, .int (ii b1)), (3, .int (ii f1)), (0, .ref (am 0)), (1, .int (ii w1)), (2, .int (ii t1))]) hx hb dX12_leftWithin_119 hl (k := 1) rfl (by decide) rfl (fun ls hl => ?_)
          refine lv_goto (tgt := 14) hx hb dX12_leftWithin_122 (by decide) ?_
          exact ih (k1 + 1) b1 f1 wT qT (hSt) (by omega) (by omega) (by omega) (by omega) (fewI_skip hfw (fun q => by have := q.1; omega)) (by omega) H locs hP hD hS ls (lv_sub hl [0, 2, 3, 4, 5, 6] rfl)
        · refine lv_aload_n hx hb dX12_leftWithin_43 rfl (lv_at hl 4 rfl) ?_
          refine lv_iload hx hb dX12_leftWithin_44 (lv_at hl 0 rfl) ?_
          refine kM (va_runV (As := [.int (ii (me1 k1))]) (rest := []) ⟨hx, hb, hml, hown, hts⟩ ((m_isDownStateM l G am ty τ (up (up (up (up (up (up (up (up (up (up (up ρ 29 gm1) 30 (sc (nm1))) 31 la1) 32 me1) 33 (sc (n81))) 34 qu1) 35 qd1) 36 (sc (is1))) 37 (sc (il1))) 27 wT) 28 qT) cs (me1 k1) _ (show okF F from hF) (show Sim F τ from hSm) (show wfS wT qT from hSt) (show inSt (me1 k1) from hmk)) H.size) (cwV 1 hts (lw_V q1603 q1605 qs62 q87 q1606) rfl rfl rfl (by decide +kernel) ⟨Nat.le_of_ble_eq_true rfl, Nat.le_of_ble_eq_true rfl⟩) (pvM (r := (RX12, TX12, 52)) hK hP hD hX 0 (aM_0 _ _ _ _ _) rfl) rfl rfl hl.1 rfl (lv_room (Nat.le_of_ble_eq_true rfl)) dX12_leftWithin_46 ⟨Nat.le_of_ble_eq_true rfl, Nat.le_of_ble_eq_true rfl⟩) hD hS hA (fun v ws1 H locs hv hP hD hS => ?_)
          obtain ⟨z46, wT46, qT46, rfl, rfl, hSt46, ⟨rfl, hb46⟩ | ⟨rfl, hb46⟩⟩ := hv
          · have hP : va_P G gcl (wM am ty τ (up (up (up (up (up (up (up (up (up (up (up ρ 29 gm1) 30 (sc (nm1))) 31 la1) 32 me1) 33 (sc (n81))) 34 qu1) 35 qd1) 36 (sc (is1))) 37 (sc (il1))) 27 wT46) 28 qT46) ++ cs) H := hP
            have hD : va_D A (wM am ty τ (up (up (up (up (up (up (up (up (up (up (up ρ 29 gm1) 30 (sc (nm1))) 31 la1) 32 me1) 33 (sc (n81))) 34 qu1) 35 qd1) 36 (sc (is1))) 37 (sc (il1))) 27 wT46) 28 qT46) ++ cs) := hD
            have hSt46 : wfS wT46 qT46 := hSt46
            have hb46 : dn F (me1 k1) := hb46
            refine li_if_eq (tgt := 119) hx hb ⟨by decide, by decide⟩ dX12_leftWithin_49 (by decide) (fun c49 => ?_) (fun c49 => ?_)
            · exact absurd c49 (by decide)
            · refine lv_aload_n hx hb dX12_leftWithin_52 rfl (lv_at hl 4 rfl) ?_
              refine lv_iload hx hb dX12_leftWithin_53 (lv_at hl 0 rfl) ?_
              refine kM (va_runV (As := [.int (ii (me1 k1))]) (rest := []) ⟨hx, hb, hml, hown, hts⟩ ((m_leftInM l G am ty τ (up (up (up (up (up (up (up (up (up (up (up ρ 29 gm1) 30 (sc (nm1))) 31 la1) 32 me1) 33 (sc (n81))) 34 qu1) 35 qd1) 36 (sc (is1))) 37 (sc (il1))) 27 wT46) 28 qT46) cs (me1 k1) _ (show okF F from hF) (show Sim F τ from hSm) (show wfS wT46 qT46 from hSt46) (show inSt (me1 k1) from hmk)) H.size) (cwV 1 hts (lw_V q1624 q1626 qs65 q87 q1627) rfl rfl rfl (by decide +kernel) ⟨Nat.le_of_ble_eq_true rfl, Nat.le_of_ble_eq_true rfl⟩) (pvM (r := (RX12, TX12, 52)) hK hP hD hX 0 (aM_0 _ _ _ _ _) rfl) rfl rfl hl.1 rfl (lv_room (Nat.le_of_ble_eq_true rfl)) dX12_leftWithin_55 ⟨Nat.le_of_ble_eq_true rfl, Nat.le_of_ble_eq_true rfl⟩) hD hS hA (fun v ws1 H locs hv hP hD hS => ?_)
              obtain ⟨z55, wT55, qT55, rfl, rfl, hSt55, hz55⟩ := hv
              have hP : va_P G gcl (wM am ty τ (up (up (up (up (up (up (up (up (up (up (up ρ 29 gm1) 30 (sc (nm1))) 31 la1) 32 me1) 33 (sc (n81))) 34 qu1) 35 qd1) 36 (sc (is1))) 37 (sc (il1))) 27 wT55) 28 qT55) ++ cs) H := hP
              have hD : va_D A (wM am ty τ (up (up (up (up (up (up (up (up (up (up (up ρ 29 gm1) 30 (sc (nm1))) 31 la1) 32 me1) 33 (sc (n81))) 34 qu1) 35 qd1) 36 (sc (is1))) 37 (sc (il1))) 27 wT55) 28 qT55) ++ cs) := hD
              have hSt55 : wfS wT55 qT55 := hSt55
              have hz55 : z55 = lf F (me1 k1) := hz55
              have hlf := lf_b F (me1 k1)
              refine lv_istore (lv' := [(7, .int (ii z55)), (6, .int (ii (me1 k1))), (5, .int (ii k1)), (4, .int (ii b1)), (3, .int (ii f1)), (0, .ref (am 0)), (1, .int (ii w1)), (2, .int (ii t1))]) hx hb dX12_leftWithin_58 hl (by decide) rfl (fun ls hl => ?_)
              refine lv_iload_n hx hb dX12_leftWithin_60 rfl (lv_at hl 4 rfl) ?_
              refine li_if_lt (tgt := 88) hx hb ⟨by omega, by omega⟩ dX12_leftWithin_61 (by decide) (fun c61 => ?_) (fun c61 => ?_)
              · refine lv_aload_n hx hb dX12_leftWithin_88 rfl (lv_at hl 5 rfl) ?_
                refine va_get (D := G) (ci := 11) (v := .ref (am 19)) (C := RX12) (T := TX12) (N := 52) hx hb hts in_X12 hown hK hP 0 (aM_0 _ _ _ _ _) rfl 31 (by decide) (hts _ q1296) (fun _ h9 => h9) rfl dX12_leftWithin_89 ?_
                refine lv_iload hx hb dX12_leftWithin_92 (lv_at hl 1 rfl) ?_
                refine li_iald (g := la1) hx hb hK hP 19 0 (aM_19 _ _ _ _ _) rfl (by omega) (by omega) (by decide) dX12_leftWithin_94 ?_
                refine lv_goto (tgt := 100) hx hb dX12_leftWithin_95 (by decide) ?_
                refine lv_istore (lv' := [(4, .int (ii (la1 (me1 k1)))), (7, .int (ii z55)), (6, .int (ii (me1 k1))), (5, .int (ii k1)), (3, .int (ii f1)), (0, .ref (am 0)), (1, .int (ii w1)), (2, .int (ii t1))]) hx hb dX12_leftWithin_100 hl (by decide) rfl (fun ls hl => ?_)
                refine lv_iload_n hx hb dX12_leftWithin_102 rfl (lv_at hl 4 rfl) ?_
                refine li_if_lt (tgt := 112) hx hb ⟨by omega, by omega⟩ dX12_leftWithin_103 (by decide) (fun c103 => ?_) (fun c103 => ?_)
                · refine lv_iload hx hb dX12_leftWithin_112 (lv_at hl 1 rfl) ?_
                  refine lv_goto (tgt := 118) hx hb dX12_leftWithin_114 (by decide) ?_
                  refine lv_istore_n (lv' := [(3, .int (ii z55)), (4, .int (ii (la1 (me1 k1)))), (7, .int (ii z55)), (6, .int (ii (me1 k1))), (5, .int (ii k1)), (0, .ref (am 0)), (1, .int (ii w1)), (2, .int (ii t1))]) hx hb dX12_leftWithin_118 rfl hl (by decide) rfl (fun ls hl => ?_)
                  refine li_iinc (a := k1) (lv' := [(5, .int (ii (k1 + 1))), (3, .int (ii z55)), (4, .int (ii (la1 (me1 k1)))), (7, .int (ii z55)), (6, .int (ii (me1 k1))), (0, .ref (am 0)), (1, .int (ii w1)), (2, .int (ii t1))]) hx hb dX12_leftWithin_119 hl (k := 4) rfl (by decide) rfl (fun ls hl => ?_)
                  refine lv_goto (tgt := 14) hx hb dX12_leftWithin_122 (by decide) ?_
                  exact ih (k1 + 1) (la1 (me1 k1)) z55 wT55 qT55 (hSt55) (by omega) (by omega) (by omega) (by omega) (fewI_new hfw (by omega) hb46 hk0 hz55 (by omega) (fun c => (lf_b F c).1)) (by omega) H locs hP hD hS ls (lv_sub hl [0, 2, 1, 5, 6, 7] rfl)
                · exfalso
                  omega
              · refine lv_iload hx hb dX12_leftWithin_64 (lv_at hl 0 rfl) ?_
                refine lv_iload_n hx hb dX12_leftWithin_66 rfl (lv_at hl 4 rfl) ?_
                refine li_icmp_lt (tgt := 88) hx hb (lf_rg hz55) ⟨by omega, by omega⟩ dX12_leftWithin_67 (by decide) (fun c67 => ?_) (fun c67 => ?_)
                · refine lv_aload_n hx hb dX12_leftWithin_88 rfl (lv_at hl 5 rfl) ?_
                  refine va_get (D := G) (ci := 11) (v := .ref (am 19)) (C := RX12) (T := TX12) (N := 52) hx hb hts in_X12 hown hK hP 0 (aM_0 _ _ _ _ _) rfl 31 (by decide) (hts _ q1296) (fun _ h9 => h9) rfl dX12_leftWithin_89 ?_
                  refine lv_iload hx hb dX12_leftWithin_92 (lv_at hl 1 rfl) ?_
                  refine li_iald (g := la1) hx hb hK hP 19 0 (aM_19 _ _ _ _ _) rfl (by omega) (by omega) (by decide) dX12_leftWithin_94 ?_
                  refine lv_goto (tgt := 100) hx hb dX12_leftWithin_95 (by decide) ?_
                  refine lv_istore (lv' := [(4, .int (ii (la1 (me1 k1)))), (7, .int (ii z55)), (6, .int (ii (me1 k1))), (5, .int (ii k1)), (3, .int (ii f1)), (0, .ref (am 0)), (1, .int (ii w1)), (2, .int (ii t1))]) hx hb dX12_leftWithin_100 hl (by decide) rfl (fun ls hl => ?_)
                  refine lv_iload_n hx hb dX12_leftWithin_102 rfl (lv_at hl 4 rfl) ?_
                  refine li_if_lt (tgt := 112) hx hb ⟨by omega, by omega⟩ dX12_leftWithin_103 (by decide) (fun c103 => ?_) (fun c103 => ?_)
                  · exfalso
                    omega
                  · refine lv_iload hx hb dX12_leftWithin_106 (lv_at hl 1 rfl) ?_
                    refine lv_iload_n hx hb dX12_leftWithin_108 rfl (lv_at hl 4 rfl) ?_
                    refine li_icmp_ge (tgt := 117) hx hb (lf_rg hz55) ⟨by omega, by omega⟩ dX12_leftWithin_109 (by decide) (fun c109 => ?_) (fun c109 => ?_)
                    · exfalso
                      omega
                    · refine lv_iload hx hb dX12_leftWithin_112 (lv_at hl 1 rfl) ?_
                      refine lv_goto (tgt := 118) hx hb dX12_leftWithin_114 (by decide) ?_
                      refine lv_istore_n (lv' := [(3, .int (ii z55)), (4, .int (ii (la1 (me1 k1)))), (7, .int (ii z55)), (6, .int (ii (me1 k1))), (5, .int (ii k1)), (0, .ref (am 0)), (1, .int (ii w1)), (2, .int (ii t1))]) hx hb dX12_leftWithin_118 rfl hl (by decide) rfl (fun ls hl => ?_)
                      refine li_iinc (a := k1) (lv' := [(5, .int (ii (k1 + 1))), (3, .int (ii z55)), (4, .int (ii (la1 (me1 k1)))), (7, .int (ii z55)), (6, .int (ii (me1 k1))), (0, .ref (am 0)), (1, .int (ii w1)), (2, .int (ii t1))]) hx hb dX12_leftWithin_119 hl (k := 4) rfl (by decide) rfl (fun ls hl => ?_)
                      refine lv_goto (tgt := 14) hx hb dX12_leftWithin_122 (by decide) ?_
                      exact ih (k1 + 1) (la1 (me1 k1)) z55 wT55 qT55 (hSt55) (by omega) (by omega) (by omega) (by omega) (fewI_new hfw (by omega) hb46 hk0 hz55 (by omega) (fun c => (lf_b F c).1)) (by omega) H locs hP hD hS ls (lv_sub hl [0, 2, 1, 5, 6, 7] rfl)
                · refine lv_iload hx hb dX12_leftWithin_70 (lv_at hl 0 rfl) ?_
                  refine lv_iload_n hx hb dX12_leftWithin_72 rfl (lv_at hl 4 rfl) ?_
                  refine li_icmp_ne (tgt := 98) hx hb (lf_rg hz55) ⟨by omega, by omega⟩ dX12_leftWithin_73 (by decide) (fun c73 => ?_) (fun c73 => ?_)
                  · refine lv_iload hx hb dX12_leftWithin_98 (lv_at hl 3 rfl) ?_
                    refine lv_istore (lv' := [(4, .int (ii b1)), (7, .int (ii z55)), (6, .int (ii (me1 k1))), (5, .int (ii k1)), (3, .int (ii f1)), (0, .ref (am 0)), (1, .int (ii w1)), (2, .int (ii t1))]) hx hb dX12_leftWithin_100 hl (by decide) rfl (fun ls hl => ?_)
                    refine lv_iload_n hx hb dX12_leftWithin_102 rfl (lv_at hl 4 rfl) ?_
                    refine li_if_lt (tgt := 112) hx hb ⟨by omega, by omega⟩ dX12_leftWithin_103 (by decide) (fun c103 => ?_) (fun c103 => ?_)
                    · exfalso
                      omega
                    · refine lv_iload hx hb dX12_leftWithin_106 (lv_at hl 1 rfl) ?_
                      refine lv_iload_n hx hb dX12_leftWithin_108 rfl (lv_at hl 4 rfl) ?_
                      refine li_icmp_ge (tgt := 117) hx hb (lf_rg hz55) ⟨by omega, by omega⟩ dX12_leftWithin_109 (by decide) (fun c109 => ?_) (fun c109 => ?_)
                      · refine lv_iload_n hx hb dX12_leftWithin_117 rfl (lv_at hl 4 rfl) ?_
                        refine lv_istore_n (lv' := [(3, .int (ii f1)), (4, .int (ii b1)), (7, .int (ii z55)), (6, .int (ii (me1 k1))), (5, .int (ii k1)), (0, .ref (am 0)), (1, .int (ii w1)), (2, .int (ii t1))]) hx hb dX12_leftWithin_118 rfl hl (by decide) rfl (fun ls hl => ?_)
                        refine li_iinc (a := k1) (lv' := [(5, .int (ii (k1 + 1))), (3, .int (ii f1)), (4, .int (ii b1)), (7, .int (ii z55)), (6, .int (ii (me1 k1))), (0, .ref (am 0)), (1, .int (ii w1)), (2, .int (ii t1))]) hx hb dX12_leftWithin_119 hl (k := 4) rfl (by decide) rfl (fun ls hl => ?_)
                        refine lv_goto (tgt := 14) hx hb dX12_leftWithin_122 (by decide) ?_
                        exact ih (k1 + 1) b1 f1 wT55 qT55 (hSt55) (by omega) (by omega) (by omega) (by omega) (fewI_keep hfw (by omega) (by omega)) (by omega) H locs hP hD hS ls (lv_sub hl [0, 2, 1, 5, 6, 7] rfl)
                      · exfalso
                        omega
                  · refine lv_aload_n hx hb dX12_leftWithin_76 rfl (lv_at hl 5 rfl) ?_
                    refine va_get (D := G) (ci := 11) (v := .ref (am 19)) (C := RX12) (T := TX12) (N := 52) hx hb hts in_X12 hown hK hP 0 (aM_0 _ _ _ _ _) rfl 31 (by decide) (hts _ q1296) (fun _ h9 => h9) rfl dX12_leftWithin_77 ?_
                    refine lv_iload hx hb dX12_leftWithin_80 (lv_at hl 1 rfl) ?_
                    refine li_iald (g := la1) hx hb hK hP 19 0 (aM_19 _ _ _ _ _) rfl (by omega) (by omega) (by decide) dX12_leftWithin_82 ?_
                    refine lv_iload hx hb dX12_leftWithin_83 (lv_at hl 3 rfl) ?_
                    refine li_icmp_ge (tgt := 98) hx hb ⟨by omega, by omega⟩ ⟨by omega, by omega⟩ dX12_leftWithin_85 (by decide) (fun c85 => ?_) (fun c85 => ?_)
                    · refine lv_iload hx hb dX12_leftWithin_98 (lv_at hl 3 rfl) ?_
                      refine lv_istore (lv' := [(4, .int (ii b1)), (7, .int (ii z55)), (6, .int (ii (me1 k1))), (5, .int (ii k1)), (3, .int (ii f1)), (0, .ref (am 0)), (1, .int (ii w1)), (2, .int (ii t1))]) hx hb dX12_leftWithin_100 hl (by decide) rfl (fun ls hl => ?_)
                      refine lv_iload_n hx hb dX12_leftWithin_102 rfl (lv_at hl 4 rfl) ?_
                      refine li_if_lt (tgt := 112) hx hb ⟨by omega, by omega⟩ dX12_leftWithin_103 (by decide) (fun c103 => ?_) (fun c103 => ?_)
                      · exfalso
                        omega
                      · refine lv_iload hx hb dX12_leftWithin_106 (lv_at hl 1 rfl) ?_
                        refine lv_iload_n hx hb dX12_leftWithin_108 rfl (lv_at hl 4 rfl) ?_
                        refine li_icmp_ge (tgt := 117) hx hb (lf_rg hz55) ⟨by omega, by omega⟩ dX12_leftWithin_109 (by decide) (fun c109 => ?_) (fun c109 => ?_)
                        · refine lv_iload_n hx hb dX12_leftWithin_117 rfl (lv_at hl 4 rfl) ?_
                          refine lv_istore_n (lv' := [(3, .int (ii f1)), (4, .int (ii b1)), (7, .int (ii z55)), (6, .int (ii (me1 k1))), (5, .int (ii k1)), (0, .ref (am 0)), (1, .int (ii w1)), (2, .int (ii t1))]) hx hb dX12_leftWithin_118 rfl hl (by decide) rfl (fun ls hl => ?_)
                          refine li_iinc (a := k1) (lv' := [(5, .int (ii (k1 + 1))), (3, .int (ii f1)), (4, .int (ii b1)), (7, .int (ii z55)), (6, .int (ii (me1 k1))), (0, .ref (am 0)), (1, .int (ii w1)), (2, .int (ii t1))]) hx hb dX12_leftWithin_119 hl (k := 4) rfl (by decide) rfl (fun ls hl => ?_)
                          refine lv_goto (tgt := 14) hx hb dX12_leftWithin_122 (by decide) ?_
                          exact ih (k1 + 1) b1 f1 wT55 qT55 (hSt55) (by omega) (by omega) (by omega) (by omega) (fewI_keep hfw (by omega) (by omega)) (by omega) H locs hP hD hS ls (lv_sub hl [0, 2, 1, 5, 6, 7] rfl)
                        · exfalso
                          omega
                    · refine lv_aload_n hx hb dX12_leftWithin_88 rfl (lv_at hl 5 rfl) ?_
                      refine va_get (D := G) (ci := 11) (v := .ref (am 19)) (C := RX12) (T := TX12) (N := 52) hx hb hts in_X12 hown hK hP 0 (aM_0 _ _ _ _ _) rfl 31 (by decide) (hts _ q1296) (fun _ h9 => h9) rfl dX12_leftWithin_89 ?_
                      refine lv_iload hx hb dX12_leftWithin_92 (lv_at hl 1 rfl) ?_
                      refine li_iald (g := la1) hx hb hK hP 19 0 (aM_19 _ _ _ _ _) rfl (by omega) (by omega) (by decide) dX12_leftWithin_94 ?_
                      refine lv_goto (tgt := 100) hx hb dX12_leftWithin_95 (by decide) ?_
                      refine lv_istore (lv' := [(4, .int (ii (la1 (me1 k1)))), (7, .int (ii z55)), (6, .int (ii (me1 k1))), (5, .int (ii k1)), (3, .int (ii f1)), (0, .ref (am 0)), (1, .int (ii w1)), (2, .int (ii t1))]) hx hb dX12_leftWithin_100 hl (by decide) rfl (fun ls hl => ?_)
                      refine lv_iload_n hx hb dX12_leftWithin_102 rfl (lv_at hl 4 rfl) ?_
                      refine li_if_lt (tgt := 112) hx hb ⟨by omega, by omega⟩ dX12_leftWithin_103 (by decide) (fun c103 => ?_) (fun c103 => ?_)
                      · exfalso
                        omega
                      · refine lv_iload hx hb dX12_leftWithin_106 (lv_at hl 1 rfl) ?_
                        refine lv_iload_n hx hb dX12_leftWithin_108 rfl (lv_at hl 4 rfl) ?_
                        refine li_icmp_ge (tgt := 117) hx hb (lf_rg hz55) ⟨by omega, by omega⟩ dX12_leftWithin_109 (by decide) (fun c109 => ?_) (fun c109 => ?_)
                        · refine lv_iload_n hx hb dX12_leftWithin_117 rfl (lv_at hl 4 rfl) ?_
                          refine lv_istore_n (lv' := [(3, .int (ii f1)), (4, .int (ii (la1 (me1 k1)))), (7, .int (ii z55)), (6, .int (ii (me1 k1))), (5, .int (ii k1)), (0, .ref (am 0)), (1, .int (ii w1)), (2, .int (ii t1))]) hx hb dX12_leftWithin_118 rfl hl (by decide) rfl (fun ls hl => ?_)
                          refine li_iinc (a := k1) (lv' := [(5, .int (ii (k1 + 1))), (3, .int (ii f1)), (4, .int (ii (la1 (me1 k1)))), (7, .int (ii z55)), (6, .int (ii (me1 k1))), (0, .ref (am 0)), (1, .int (ii w1)), (2, .int (ii t1))]) hx hb dX12_leftWithin_119 hl (k := 4) rfl (by decide) rfl (fun ls hl => ?_)
                          refine lv_goto (tgt := 14) hx hb dX12_leftWithin_122 (by decide) ?_
                          exact ih (k1 + 1) (la1 (me1 k1)) f1 wT55 qT55 (hSt55) (by omega) (by omega) (by omega) (by omega) (by have h := fewI_new hfw (z' := f1) (by omega) hb46 hk0 (by omega) (by omega) (fun c => (lf_b F c).1); exact h) (by omega) H locs hP hD hS ls (lv_sub hl [0, 2, 1, 5, 6, 7] rfl)
                        · exfalso
                          omega
          · have hP : va_P G gcl (wM am ty τ (up (up (up (up (up (up (up (up (up (up (up ρ 29 gm1) 30 (sc (nm1))) 31 la1) 32 me1) 33 (sc (n81))) 34 qu1) 35 qd1) 36 (sc (is1))) 37 (sc (il1))) 27 wT46) 28 qT46) ++ cs) H := hP
            have hD : va_D A (wM am ty τ (up (up (up (up (up (up (up (up (up (up (up ρ 29 gm1) 30 (sc (nm1))) 31 la1) 32 me1) 33 (sc (n81))) 34 qu1) 35 qd1) 36 (sc (is1))) 37 (sc (il1))) 27 wT46) 28 qT46) ++ cs) := hD
            have hSt46 : wfS wT46 qT46 := hSt46
            have hb46 : ¬ dn F (me1 k1) := hb46
            refine li_if_eq (tgt := 119) hx hb ⟨by decide, by decide⟩ dX12_leftWithin_49 (by decide) (fun c49 => ?_) (fun c49 => ?_)
            · refine li_iinc (a := k1) (lv' := [(5, .int (ii (k1 + 1))), (6, .int (ii (me1 k1))), (4, .int (ii b1)), (3, .int (ii f1)), (0, .ref (am 0)), (1, .int (ii w1)), (2, .int (ii t1))]) hx hb dX12_leftWithin_119 hl (k := 1) rfl (by decide) rfl (fun ls hl => ?_)
              refine lv_goto (tgt := 14) hx hb dX12_leftWithin_122 (by decide) ?_
              exact ih (k1 + 1) b1 f1 wT46 qT46 (hSt46) (by omega) (by omega) (by omega) (by omega) (fewI_skip hfw (fun q => hb46 q.2)) (by omega) H locs hP hD hS ls (lv_sub hl [0, 2, 3, 4, 5, 6] rfl)
            · exact absurd c49 (by decide)
  exact L14 _ 0 (-4) (-4) wT1 qT1 (hSt1) (by omega) (by omega) (⟨by decide, by decide⟩) (.inl ⟨rfl, rfl⟩) (fewI_0 _ _ _ _ _ _) (Nat.lt_succ_self _) H locs hP hD hS ls (lv_sub hl [0, 1, 2, 3, 4, 5] rfl)
set_option maxHeartbeats 4000000 in
theorem m_leftM (l : Launch) (G : va_G) (am : Nat → Nat) (ty : Nat → ClassId) (τ ρ : mem) (cs : va_W) (w1 : Int) (t1 : Int) (F : mem) (hF : okF F) (hSm : Sim F τ) (hSt : wfS (ρ 27) (ρ 28)) (hZ : zerF F) (hci : CIx F (ρ 36 0) (ρ 37 0) (ρ 31) (ρ 32) (ρ 33 0) (ρ 29) (ρ 30 0) (ρ 39)) (hw : rg w1) (ht : rg t1) : cM l yX12_left (ws_ yX12_left cX12_left 3 (some .int)) (rm4 6 0 0 157) G ty (wM am ty τ ρ ++ cs) [.ref (am 0), .int (ii w1), .int (ii t1)] 0 0 (fun r W' => ∃ (z : Int) (wT : Int → Int) (qT : Int → Int) (gm : Int → Int) (nm : Int) (la : Int → Int) (me : Int → Int) (n8 : Int) (qu : Int → Int) (qd : Int → Int) (is : Int) (il : Int), r = some (.int (ii z)) ∧ W' = wM am ty τ (up (up (up (up (up (up (up (up (up (up (up (up ρ 14 (sc (0))) 27 wT) 28 qT) 29 gm) 30 (sc (nm))) 31 la) 32 me) 33 (sc (n8))) 34 qu) 35 qd) 36 (sc (is))) 37 (sc (il))) ++ cs ∧ (wfS wT qT) ∧ (CIx F is il la me n8 gm nm (ρ 39)) ∧ ((¬ ((0 ≤ w1 ∧ w1 ≤ 9999) ∧ 0 ≤ t1 ∧ t1 ≤ 1) ∧ z = -1) ∨ (((0 ≤ w1 ∧ w1 ≤ 9999) ∧ 0 ≤ t1 ∧ t1 ≤ 1) ∧ ∃ f b, IsFew F (cdv (F 6) (F 7)) w1 f b ∧ (f = -4 → b = -4) ∧ z = if t1 = 0 then f else b))) := by
  refine cM.of (by decide) (Nat.le_of_ble_eq_true rfl) ?_
  intro p e s m args below meth c A Q H locs hQ hx hb hr hml hown hlk hname hts hK hP hD hS hA hX ls hl
  have hl : lv_has ls 3 [(0, .ref (am 0)), (1, .int (ii w1)), (2, .int (ii t1))] := hl
  obtain ⟨hW, hWS, hlg⟩ := id hF
  obtain ⟨hw0, hw1, hw2, hw3, hw4, hw5, h8a, h8b, h9a, h9b, h10a, h10b⟩ := id hW
  obtain ⟨mL, mP, mR, mC, mK, mM, mA, mB, mD⟩ := id hSm
  obtain ⟨hwa, hwb⟩ := id hw
  obtain ⟨hta, htb⟩ := id ht
  refine lv_aload_n hx hb dX12_left_0 rfl (lv_at hl 0 rfl) ?_
  refine li_iconst hx hb dX12_left_1 ?_
  refine va_put (D := G) (ci := 11) (v := .int (ii 0)) (ty := .int) (C := RX12) (T := TX12) (N := 52) hx hb hts in_X12 tyX12 tyX12_ok nmX12 hown hK hP hD hS 0 (aM_0 _ _ _ _ _) rfl 14 (by decide) (hts _ q1279) (fun _ h9 => h9) rfl (tyX12_ok 14 (by decide)) rfl rfl (Nat.le_of_ble_eq_true rfl) dX12_left_2 (fun H locs hP hD hS => ?_)
  have hP : va_P G gcl (wM am ty τ (up ρ 14 (sc (0))) ++ cs) H := hP
  have hD : va_D A (wM am ty τ (up ρ 14 (sc (0))) ++ cs) := hD
  refine lv_iload_n hx hb dX12_left_5 rfl (lv_at hl 1 rfl) ?_
  refine lv_i2l (v := ll w1) hx hb dX12_left_6 (ll_i hw) ?_
  refine lv_lconst (v := ll 0) hx hb dX12_left_7 (by decide) ?_
  refine lv_ldc2 (v := ll 9999) hx hb hown (hts _ q1619) dX12_left_8 ?_
  refine kR (va_runS (As := [.long (ll (w1)), .long (ll (0)), .long (ll (9999))]) (rest := []) ⟨hx, hb, hml, hown, hts⟩ (m_inM l G ty (wM am ty τ (up ρ 14 (sc (0))) ++ cs) w1 0 9999 (rg_rl hw) ⟨by decide, by decide⟩ ⟨by decide, by decide⟩) (va_cwS 3 hts (lw_S q1436 q1437 q87 q1438) rfl rfl rfl (by decide +kernel) ⟨Nat.le_of_ble_eq_true rfl, Nat.le_of_ble_eq_true rfl⟩) (psR hK hP hD hX) rfl rfl hl.1 rfl (lv_room (Nat.le_of_ble_eq_true rfl)) dX12_left_11 ⟨Nat.le_of_ble_eq_true rfl, Nat.le_of_ble_eq_true rfl⟩) (fun v hv => ?_)
  obtain ⟨z11, rfl, ⟨rfl, h11⟩ | ⟨rfl, h11⟩⟩ := hv
  · refine li_if_eq (tgt := 36) hx hb ⟨by decide, by decide⟩ dX12_left_14 (by decide) (fun c14 => ?_) (fun c14 => ?_)
    · exact absurd c14 (by decide)
    · refine lv_iload_n hx hb dX12_left_17 rfl (lv_at hl 2 rfl) ?_
      refine lv_i2l (v := ll t1) hx hb dX12_left_18 (ll_i ht) ?_
      refine lv_lconst (v := ll 0) hx hb dX12_left_19 (by decide) ?_
      refine lv_lconst (v := ll 1) hx hb dX12_left_20 (by decide) ?_
      refine kR (va_runS (As := [.long (ll (t1)), .long (ll (0)), .long (ll (1))]) (rest := []) ⟨hx, hb, hml, hown, hts⟩ (m_inM l G ty (wM am ty τ (up ρ 14 (sc (0))) ++ cs) t1 0 1 (rg_rl ht) ⟨by decide, by decide⟩ ⟨by decide, by decide⟩) (va_cwS 3 hts (lw_S q1436 q1437 q87 q1438) rfl rfl rfl (by decide +kernel) ⟨Nat.le_of_ble_eq_true rfl, Nat.le_of_ble_eq_true rfl⟩) (psR hK hP hD hX) rfl rfl hl.1 rfl (lv_room (Nat.le_of_ble_eq_true rfl)) dX12_left_21 ⟨Nat.le_of_ble_eq_true rfl, Nat.le_of_ble_eq_true rfl⟩) (fun v hv => ?_)
      obtain ⟨z21, rfl, ⟨rfl, h21⟩ | ⟨rfl, h21⟩⟩ := hv
      · refine li_if_eq (tgt := 36) hx hb ⟨by decide, by decide⟩ dX12_left_24 (by decide) (fun c24 => ?_) (fun c24 => ?_)
        · exact absurd c24 (by decide)
        · refine lv_aload_n hx hb dX12_left_27 rfl (lv_at hl 0 rfl) ?_
          refine lv_iload_n hx hb dX12_left_28 rfl (lv_at hl 1 rfl) ?_
          refine lv_iload_n hx hb dX12_left_29 rfl (lv_at hl 2 rfl) ?_
          refine kM (va_runV (As := [.int (ii w1), .int (ii t1)]) (rest := []) ⟨hx, hb, hml, hown, hts⟩ ((m_leftWithinM l G am ty τ (up ρ 14 (sc (0))) cs w1 t1 _ (show okF F from hF) (show Sim F τ from hSm) (show wfS (ρ 27) (ρ 28) from hSt) (show zerF F from hZ) (show CIx F (ρ 36 0) (ρ 37 0) (ρ 31) (ρ 32) (ρ 33 0) (ρ 29) (ρ 30 0) (ρ 39) from hci) (show rg w1 from hw) (show rg t1 from ht)) H.size) (cwV 2 hts (lw_V q1620 q1622 qs64 q87 q1623) rfl rfl rfl (by decide +kernel) ⟨Nat.le_of_ble_eq_true rfl, Nat.le_of_ble_eq_true rfl⟩) (pvM (r := (RX12, TX12, 52)) hK hP hD hX 0 (aM_0 _ _ _ _ _) rfl) rfl rfl hl.1 rfl (lv_room (Nat.le_of_ble_eq_true rfl)) dX12_left_30 ⟨Nat.le_of_ble_eq_true rfl, Nat.le_of_ble_eq_true rfl⟩) hD hS hA (fun v ws1 H locs hv hP hD hS => ?_)
          obtain ⟨z30, wT30, qT30, gm30, nm30, la30, me30, n830, qu30, qd30, is30, il30, rfl, rfl, hSt30, hSo30, hCL30, hnm30, hci30, hi130, hil30, hz30⟩ := hv
          have hP : va_P G gcl (wM am ty τ (up (up (up (up (up (up (up (up (up (up (up (up ρ 14 (sc (0))) 27 wT30) 28 qT30) 29 gm30) 30 (sc (nm30))) 31 la30) 32 me30) 33 (sc (n830))) 34 qu30) 35 qd30) 36 (sc (is30))) 37 (sc (il30))) ++ cs) H := hP
          have hD : va_D A (wM am ty τ (up (up (up (up (up (up (up (up (up (up (up (up ρ 14 (sc (0))) 27 wT30) 28 qT30) 29 gm30) 30 (sc (nm30))) 31 la30) 32 me30) 33 (sc (n830))) 34 qu30) 35 qd30) 36 (sc (is30))) 37 (sc (il30))) ++ cs) := hD
          have hSt30 : wfS wT30 qT30 := hSt30
          have hSo30 : Sought (EF F) (cdv (F 6) (F 7)) la30 me30 n830 := hSo30
          have hCL30 : LL (cand F) gm30 nm30 70000 := hCL30
          have hnm30 : 0 ≤ nm30 ∧ nm30 ≤ 2400 := hnm30
          have hci30 : CIx F is30 il30 la30 me30 n830 gm30 nm30 (ρ 39) := hci30
          have hi130 : is30 = 1 := hi130
          have hil30 : il30 = 0 ∨ il30 = 1 := hil30
          have hz30 : ∃ f b, IsFew F (cdv (F 6) (F 7)) w1 f b ∧ (f = -4 → b = -4) ∧ z30 = if t1 = 0 then f else b := hz30
          refine lv_goto (tgt := 37) hx hb dX12_left_33 (by decide) ?_
          exact eMi hQ hx hb hr hlk hP hD hS (Nat.le_of_ble_eq_true rfl) (Nat.le_of_ble_eq_true rfl) dX12_left_37 (⟨z30, wT30, qT30, gm30, nm30, la30, me30, n830, qu30, qd30, is30, il30, rfl, rfl, hSt30, hci30, .inr ⟨⟨h11, h21⟩, hz30⟩⟩)
      · refine li_if_eq (tgt := 36) hx hb ⟨by decide, by decide⟩ dX12_left_24 (by decide) (fun c24 => ?_) (fun c24 => ?_)
        · refine li_iconst hx hb dX12_left_36 ?_
          exact eMi hQ hx hb hr hlk hP hD hS (Nat.le_of_ble_eq_true rfl) (Nat.le_of_ble_eq_true rfl) dX12_left_37 (⟨-1, (ρ 27), (ρ 28), (ρ 29), ρ 30 0, (ρ 31), (ρ 32), ρ 33 0, (ρ 34), (ρ 35), ρ 36 0, ρ 37 0, rfl, rfl, hSt, hci, .inl ⟨by omega, rfl⟩⟩)
        · exact absurd c24 (by decide)
  · refine li_if_eq (tgt := 36) hx hb ⟨by decide, by decide⟩ dX12_left_14 (by decide) (fun c14 => ?_) (fun c14 => ?_)
    · refine li_iconst hx hb dX12_left_36 ?_
      exact eMi hQ hx hb hr hlk hP hD hS (Nat.le_of_ble_eq_true rfl) (Nat.le_of_ble_eq_true rfl) dX12_left_37 (⟨-1, (ρ 27), (ρ 28), (ρ 29), ρ 30 0, (ρ 31), (ρ 32), ρ 33 0, (ρ 34), (ρ 35), ρ 36 0, ρ 37 0, rfl, rfl, hSt, hci, .inl ⟨by omega, rfl⟩⟩)
    · exact absurd c14 (by decide)
set_option maxHeartbeats 4000000 in
theorem m_duskM (l : Launch) (G : va_G) (am : Nat → Nat) (ty : Nat → ClassId) (τ ρ : mem) (cs : va_W)  (F : mem) (hF : okF F) (hSm : Sim F τ) (hSt : wfS (ρ 27) (ρ 28)) (hZ : zerF F) (hci : CIx F (ρ 36 0) (ρ 37 0) (ρ 31) (ρ 32) (ρ 33 0) (ρ 29) (ρ 30 0) (ρ 39)) (hdk : 0 ≤ F 12 0 ∧ F 12 0 ≤ 999) (hmi : 0 ≤ F 13 0 ∧ F 13 0 ≤ 1000000000) : cM l yX12_dusk (ws_ yX12_dusk cX12_dusk 1 (some .int)) (rm4 6 0 0 157) G ty (wM am ty τ ρ ++ cs) [.ref (am 0)] 0 0 (fun r W' => ∃ (z : Int) (wT : Int → Int) (qT : Int → Int) (gm : Int → Int) (nm : Int) (la : Int → Int) (me : Int → Int) (n8 : Int) (qu : Int → Int) (qd : Int → Int) (is : Int) (il : Int), r = some (.int (ii z)) ∧ W' = wM am ty τ (up (up (up (up (up (up (up (up (up (up (up (up ρ 14 (sc (0))) 27 wT) 28 qT) 29 gm) 30 (sc (nm))) 31 la) 32 me) 33 (sc (n8))) 34 qu) 35 qd) 36 (sc (is))) 37 (sc (il))) ++ cs ∧ (wfS wT qT) ∧ (CIx F is il la me n8 gm nm (ρ 39)) ∧ (∃ b, IsFew F (cdv (F 6) (F 7)) (F 12 0 - F 13 0) z b)) := by
  refine cM.of (by decide) (Nat.le_of_ble_eq_true rfl) ?_
  intro p e s m args below meth c A Q H locs hQ hx hb hr hml hown hlk hname hts hK hP hD hS hA hX ls hl
  have hl : lv_has ls 1 [(0, .ref (am 0))] := hl
  obtain ⟨hW, hWS, hlg⟩ := id hF
  obtain ⟨hw0, hw1, hw2, hw3, hw4, hw5, h8a, h8b, h9a, h9b, h10a, h10b⟩ := id hW
  obtain ⟨mL, mP, mR, mC, mK, mM, mA, mB, mD⟩ := id hSm
  refine lv_aload_n hx hb dX12_dusk_0 rfl (lv_at hl 0 rfl) ?_
  refine li_iconst hx hb dX12_dusk_1 ?_
  refine va_put (D := G) (ci := 11) (v := .int (ii 0)) (ty := .int) (C := RX12) (T := TX12) (N := 52) hx hb hts in_X12 tyX12 tyX12_ok nmX12 hown hK hP hD hS 0 (aM_0 _ _ _ _ _) rfl 14 (by decide) (hts _ q1279) (fun _ h9 => h9) rfl (tyX12_ok 14 (by decide)) rfl rfl (Nat.le_of_ble_eq_true rfl) dX12_dusk_2 (fun H locs hP hD hS => ?_)
  have hP : va_P G gcl (wM am ty τ (up ρ 14 (sc (0))) ++ cs) H := hP
  have hD : va_D A (wM am ty τ (up ρ 14 (sc (0))) ++ cs) := hD
  refine lv_aload_n hx hb dX12_dusk_5 rfl (lv_at hl 0 rfl) ?_
  refine lv_aload_n hx hb dX12_dusk_6 rfl (lv_at hl 0 rfl) ?_
  refine va_get (D := G) (ci := 11) (v := .int (ii (τ 12 0))) (C := RX12) (T := TX12) (N := 52) hx hb hts in_X12 hown hK hP 0 (aM_0 _ _ _ _ _) rfl 12 (by decide) (hts _ q1277) (fun _ h9 => h9) rfl dX12_dusk_7 ?_
  refine lv_aload_n hx hb dX12_dusk_10 rfl (lv_at hl 0 rfl) ?_
  refine va_get (D := G) (ci := 11) (v := .int (ii (τ 13 0))) (C := RX12) (T := TX12) (N := 52) hx hb hts in_X12 hown hK hP 0 (aM_0 _ _ _ _ _) rfl 13 (by decide) (hts _ q1278) (fun _ h9 => h9) rfl dX12_dusk_11 ?_
  refine li_sub hx hb dX12_dusk_14 ?_
  refine li_iconst hx hb dX12_dusk_15 ?_
  refine kM (va_runV (As := [.int (ii (τ 12 0 - (τ 13 0))), .int (ii 0)]) (rest := []) ⟨hx, hb, hml, hown, hts⟩ ((m_leftWithinM l G am ty τ (up ρ 14 (sc (0))) cs (τ 12 0 - (τ 13 0)) 0 _ (show okF F from hF) (show Sim F τ from hSm) (show wfS (ρ 27) (ρ 28) from hSt) (show zerF F from hZ) (show CIx F (ρ 36 0) (ρ 37 0) (ρ 31) (ρ 32) (ρ 33 0) (ρ 29) (ρ 30 0) (ρ 39) from hci) (show rg (τ 12 0 - (τ 13 0)) from ⟨by omega, by omega⟩) (show rg 0 from ⟨by decide, by decide⟩)) H.size) (cwV 2 hts (lw_V q1620 q1622 qs64 q87 q1623) rfl rfl rfl (by decide +kernel) ⟨Nat.le_of_ble_eq_true rfl, Nat.le_of_ble_eq_true rfl⟩) (pvM (r := (RX12, TX12, 52)) hK hP hD hX 0 (aM_0 _ _ _ _ _) rfl) rfl rfl hl.1 rfl (lv_room (Nat.le_of_ble_eq_true rfl)) dX12_dusk_16 ⟨Nat.le_of_ble_eq_true rfl, Nat.le_of_ble_eq_true rfl⟩) hD hS hA (fun v ws1 H locs hv hP hD hS => ?_)
  obtain ⟨z16, wT16, qT16, gm16, nm16, la16, me16, n816, qu16, qd16, is16, il16, rfl, rfl, hSt16, hSo16, hCL16, hnm16, hci16, hi116, hil16, hz16⟩ := hv
  have hP : va_P G gcl (wM am ty τ (up (up (up (up (up (up (up (up (up (up (up (up ρ 14 (sc (0))) 27 wT16) 28 qT16) 29 gm16) 30 (sc (nm16))) 31 la16) 32 me16) 33 (sc (n816))) 34 qu16) 35 qd16) 36 (sc (is16))) 37 (sc (il16))) ++ cs) H := hP
  have hD : va_D A (wM am ty τ (up (up (up (up (up (up (up (up (up (up (up (up ρ 14 (sc (0))) 27 wT16) 28 qT16) 29 gm16) 30 (sc (nm16))) 31 la16) 32 me16) 33 (sc (n816))) 34 qu16) 35 qd16) 36 (sc (is16))) 37 (sc (il16))) ++ cs) := hD
  have hSt16 : wfS wT16 qT16 := hSt16
  have hSo16 : Sought (EF F) (cdv (F 6) (F 7)) la16 me16 n816 := hSo16
  have hCL16 : LL (cand F) gm16 nm16 70000 := hCL16
  have hnm16 : 0 ≤ nm16 ∧ nm16 ≤ 2400 := hnm16
  have hci16 : CIx F is16 il16 la16 me16 n816 gm16 nm16 (ρ 39) := hci16
  have hi116 : is16 = 1 := hi116
  have hil16 : il16 = 0 ∨ il16 = 1 := hil16
  have hz16 : ∃ f b, IsFew F (cdv (F 6) (F 7)) (τ 12 0 - (τ 13 0)) f b ∧ (f = -4 → b = -4) ∧ z16 = if 0 = 0 then f else b := hz16
  exact eMi hQ hx hb hr hlk hP hD hS (Nat.le_of_ble_eq_true rfl) (Nat.le_of_ble_eq_true rfl) dX12_dusk_19 (⟨z16, wT16, qT16, gm16, nm16, la16, me16, n816, qu16, qd16, is16, il16, rfl, rfl, hSt16, hci16, by obtain ⟨f, b, h1, h2, h3⟩ := hz16; rw [h3, if_pos rfl]; rw [mK, mM] at h1; exact ⟨b, h1⟩⟩)
set_option maxHeartbeats 4000000 in
theorem m_hurtM (l : Launch) (G : va_G) (am : Nat → Nat) (ty : Nat → ClassId) (τ ρ : mem) (cs : va_W) (p1 : Int) (t1 : Int) (F : mem) (hF : okF F) (hSm : Sim F τ) (hSt : wfS (ρ 27) (ρ 28)) (hZ : zerF F) (hci : CIx F (ρ 36 0) (ρ 37 0) (ρ 31) (ρ 32) (ρ 33 0) (ρ 29) (ρ 30 0) (ρ 39)) (hp : rg p1) (ht : rg t1) : cM l yX12_hurt (ws_ yX12_hurt cX12_hurt 5 (some .int)) (rm4 6 0 0 153) G ty (wM am ty τ ρ ++ cs) [.ref (am 0), .int (ii p1), .int (ii t1)] 0 0 (fun r W' => ∃ (z : Int) (wT : Int → Int) (qT : Int → Int) (gm : Int → Int) (nm : Int) (la : Int → Int) (me : Int → Int) (n8 : Int) (qu : Int → Int) (qd : Int → Int) (is : Int) (il : Int), r = some (.int (ii z)) ∧ W' = wM am ty τ (up (up (up (up (up (up (up (up (up (up (up (up ρ 14 (sc (0))) 27 wT) 28 qT) 29 gm) 30 (sc (nm))) 31 la) 32 me) 33 (sc (n8))) 34 qu) 35 qd) 36 (sc (is))) 37 (sc (il))) ++ cs ∧ (wfS wT qT) ∧ (CIx F is il la me n8 gm nm (ρ 39)) ∧ ((¬ ((0 ≤ p1 ∧ p1 < F 9 0) ∧ 0 ≤ t1 ∧ t1 ≤ 2) ∧ z = -1) ∨ (((0 ≤ p1 ∧ p1 < F 9 0) ∧ 0 ≤ t1 ∧ t1 ≤ 2) ∧ IsSoon (up F 4 (ug (F 4) p1 t1)) (cdv (F 6) (F 7)) z))) := by
  refine cM.of (by decide) (Nat.le_of_ble_eq_true rfl) ?_
  intro p e s m args below meth c A Q H locs hQ hx hb hr hml hown hlk hname hts hK hP hD hS hA hX ls hl
  have hl : lv_has ls 5 [(0, .ref (am 0)), (1, .int (ii p1)), (2, .int (ii t1))] := hl
  obtain ⟨hW, hWS, hlg⟩ := id hF
  obtain ⟨hw0, hw1, hw2, hw3, hw4, hw5, h8a, h8b, h9a, h9b, h10a, h10b⟩ := id hW
  obtain ⟨mL, mP, mR, mC, mK, mM, mA, mB, mD⟩ := id hSm
  obtain ⟨hpa, hpb⟩ := id hp
  obtain ⟨hta, htb⟩ := id ht
  refine lv_aload_n hx hb dX12_hurt_0 rfl (lv_at hl 0 rfl) ?_
  refine li_iconst hx hb dX12_hurt_1 ?_
  refine va_put (D := G) (ci := 11) (v := .int (ii 0)) (ty := .int) (C := RX12) (T := TX12) (N := 52) hx hb hts in_X12 tyX12 tyX12_ok nmX12 hown hK hP hD hS 0 (aM_0 _ _ _ _ _) rfl 14 (by decide) (hts _ q1279) (fun _ h9 => h9) rfl (tyX12_ok 14 (by decide)) rfl rfl (Nat.le_of_ble_eq_true rfl) dX12_hurt_2 (fun H locs hP hD hS => ?_)
  have hP : va_P G gcl (wM am ty τ (up ρ 14 (sc (0))) ++ cs) H := hP
  have hD : va_D A (wM am ty τ (up ρ 14 (sc (0))) ++ cs) := hD
  refine lv_iload_n hx hb dX12_hurt_5 rfl (lv_at hl 1 rfl) ?_
  refine lv_i2l (v := ll p1) hx hb dX12_hurt_6 (ll_i ⟨by omega, by omega⟩) ?_
  refine lv_lconst (v := ll 0) hx hb dX12_hurt_7 (by decide) ?_
  refine lv_aload_n hx hb dX12_hurt_8 rfl (lv_at hl 0 rfl) ?_
  refine va_get (D := G) (ci := 11) (v := .int (ii (τ 5 0))) (C := RX12) (T := TX12) (N := 52) hx hb hts in_X12 hown hK hP 0 (aM_0 _ _ _ _ _) rfl 5 (by decide) (hts _ q1270) (fun _ h9 => h9) rfl dX12_hurt_9 ?_
  refine li_iconst hx hb dX12_hurt_12 ?_
  refine li_sub hx hb dX12_hurt_13 ?_
  refine lv_i2l (v := ll (τ 5 0 - 1)) hx hb dX12_hurt_14 (ll_i ⟨by omega, by omega⟩) ?_
  refine kR (va_runS (As := [.long (ll (p1)), .long (ll (0)), .long (ll (τ 5 0 - 1))]) (rest := []) ⟨hx, hb, hml, hown, hts⟩ (m_inM l G ty (wM am ty τ (up ρ 14 (sc (0))) ++ cs) p1 0 (τ 5 0 - 1) (rg_rl hp) ⟨by decide, by decide⟩ ⟨by omega, by omega⟩) (va_cwS 3 hts (lw_S q1436 q1437 q87 q1438) rfl rfl rfl (by decide +kernel) ⟨Nat.le_of_ble_eq_true rfl, Nat.le_of_ble_eq_true rfl⟩) (psR hK hP hD hX) rfl rfl hl.1 rfl (lv_room (Nat.le_of_ble_eq_true rfl)) dX12_hurt_15 ⟨Nat.le_of_ble_eq_true rfl, Nat.le_of_ble_eq_true rfl⟩) (fun v hv => ?_)
  obtain ⟨z15, rfl, ⟨rfl, h15⟩ | ⟨rfl, h15⟩⟩ := hv
  · refine li_if_eq (tgt := 33) hx hb ⟨by decide, by decide⟩ dX12_hurt_18 (by decide) (fun c18 => ?_) (fun c18 => ?_)
    · exact absurd c18 (by decide)
    · refine lv_iload_n hx hb dX12_hurt_21 rfl (lv_at hl 2 rfl) ?_
      refine lv_i2l (v := ll t1) hx hb dX12_hurt_22 (ll_i ⟨by omega, by omega⟩) ?_
      refine lv_lconst (v := ll 0) hx hb dX12_hurt_23 (by decide) ?_
      refine lv_ldc2 (v := ll 2) hx hb hown (hts _ q1686) dX12_hurt_24 ?_
      refine kR (va_runS (As := [.long (ll (t1)), .long (ll (0)), .long (ll (2))]) (rest := []) ⟨hx, hb, hml, hown, hts⟩ (m_inM l G ty (wM am ty τ (up ρ 14 (sc (0))) ++ cs) t1 0 2 (rg_rl ht) ⟨by decide, by decide⟩ ⟨by decide, by decide⟩) (va_cwS 3 hts (lw_S q1436 q1437 q87 q1438) rfl rfl rfl (by decide +kernel) ⟨Nat.le_of_ble_eq_true rfl, Nat.le_of_ble_eq_true rfl⟩) (psR hK hP hD hX) rfl rfl hl.1 rfl (lv_room (Nat.le_of_ble_eq_true rfl)) dX12_hurt_27 ⟨Nat.le_of_ble_eq_true rfl, Nat.le_of_ble_eq_true rfl⟩) (fun v hv => ?_)
      obtain ⟨z27, rfl, ⟨rfl, h27⟩ | ⟨rfl, h27⟩⟩ := hv
      · refine li_if_ne (tgt := 35) hx hb ⟨by decide, by decide⟩ dX12_hurt_30 (by decide) (fun c30 => ?_) (fun c30 => ?_)
        · refine lv_aload_n hx hb dX12_hurt_35 rfl (lv_at hl 0 rfl) ?_
          refine va_get (D := G) (ci := 11) (v := .ref (am 5)) (C := RX12) (T := TX12) (N := 52) hx hb hts in_X12 hown hK hP 0 (aM_0 _ _ _ _ _) rfl 6 (by decide) (hts _ q1271) (fun _ h9 => h9) rfl dX12_hurt_36 ?_
          refine lv_iload_n hx hb dX12_hurt_39 rfl (lv_at hl 1 rfl) ?_
          refine li_iald (g := (τ 6)) hx hb hK hP 5 0 (aM_5 _ _ _ _ _) rfl (by omega) (by omega) (by decide) dX12_hurt_40 ?_
          refine lv_istore_n (lv' := [(3, .int (ii (τ 6 p1))), (0, .ref (am 0)), (1, .int (ii p1)), (2, .int (ii t1))]) hx hb dX12_hurt_41 rfl hl (by decide) rfl (fun ls hl => ?_)
          refine lv_aload_n hx hb dX12_hurt_42 rfl (lv_at hl 1 rfl) ?_
          refine va_get (D := G) (ci := 11) (v := .ref (am 5)) (C := RX12) (T := TX12) (N := 52) hx hb hts in_X12 hown hK hP 0 (aM_0 _ _ _ _ _) rfl 6 (by decide) (hts _ q1271) (fun _ h9 => h9) rfl dX12_hurt_43 ?_
          refine lv_iload_n hx hb dX12_hurt_46 rfl (lv_at hl 2 rfl) ?_
          refine lv_iload_n hx hb dX12_hurt_47 rfl (lv_at hl 3 rfl) ?_
          refine li_iast (g := (τ 6)) (W2 := wM am ty (up τ 6 (ug (τ 6) p1 t1)) (up ρ 14 (sc (0))) ++ cs) hx hb hK hP hD hS 5 0 (aM_5 _ _ _ _ _) rfl (by omega) (by omega) (by decide) rfl dX12_hurt_48 (fun H locs hP hD hS => ?_)
          refine lv_aload_n hx hb dX12_hurt_49 rfl (lv_at hl 1 rfl) ?_
          refine li_iconst hx hb dX12_hurt_50 ?_
          refine va_put (D := G) (ci := 11) (v := .int (ii 0)) (ty := .boolean) (C := RX12) (T := TX12) (N := 52) hx hb hts in_X12 tyX12 tyX12_ok nmX12 hown hK hP hD hS 0 (aM_0 _ _ _ _ _) rfl 36 (by decide) (hts _ q1301) (fun _ h9 => h9) rfl (tyX12_ok 36 (by decide)) (nrw_z (by omega)) (fit_z (by omega)) (Nat.le_of_ble_eq_true rfl) dX12_hurt_51 (fun H locs hP hD hS => ?_)
          have hP : va_P G gcl (wM am ty (up τ 6 (ug (τ 6) p1 t1)) (up (up ρ 14 (sc (0))) 36 (sc (0))) ++ cs) H := hP
          have hD : va_D A (wM am ty (up τ 6 (ug (τ 6) p1 t1)) (up (up ρ 14 (sc (0))) 36 (sc (0))) ++ cs) := hD
          refine lv_aload_n hx hb dX12_hurt_54 rfl (lv_at hl 1 rfl) ?_
          refine kM (va_runV (As := []) (rest := []) ⟨hx, hb, hml, hown, hts⟩ ((m_soonestNowM l G am ty (up τ 6 (ug (τ 6) p1 t1)) (up (up ρ 14 (sc (0))) 36 (sc (0))) cs (up F 4 (ug (F 4) p1 t1)) (show okF (up F 4 (ug (F 4) p1 t1)) from okF_sort hF (by omega)) (show Sim (up F 4 (ug (F 4) p1 t1)) (up τ 6 (ug (τ 6) p1 t1)) from Sim_sort hSm) (show wfS (ρ 27) (ρ 28) from hSt) (show zerF (up F 4 (ug (F 4) p1 t1)) from hZ) (show CIx (up F 4 (ug (F 4) p1 t1)) 0 (ρ 37 0) (ρ 31) (ρ 32) (ρ 33 0) (ρ 29) (ρ 30 0) (ρ 39) from CIx_0 (by first | exact hci.2.1))) H.size) (cwV 0 hts (lw_V q1586 q1588 qs58 q87 q1589) rfl rfl rfl (by decide +kernel) ⟨Nat.le_of_ble_eq_true rfl, Nat.le_of_ble_eq_true rfl⟩) (pvM (r := (RX12, TX12, 52)) hK hP hD hX 0 (aM_0 _ _ _ _ _) rfl) rfl rfl hl.1 rfl (lv_room (Nat.le_of_ble_eq_true rfl)) dX12_hurt_55 ⟨Nat.le_of_ble_eq_true rfl, Nat.le_of_ble_eq_true rfl⟩) hD hS hA (fun v ws1 H locs hv hP hD hS => ?_)
          obtain ⟨z55, wT55, qT55, gm55, nm55, la55, me55, n855, qu55, qd55, is55, il55, rfl, rfl, hSt55, hSo55, hCL55, hnm55, hci55, hi155, hil55, hz55, hzr55⟩ := hv
          have hP : va_P G gcl (wM am ty (up τ 6 (ug (τ 6) p1 t1)) (up (up (up (up (up (up (up (up (up (up (up (up ρ 14 (sc (0))) 27 wT55) 28 qT55) 29 gm55) 30 (sc (nm55))) 31 la55) 32 me55) 33 (sc (n855))) 34 qu55) 35 qd55) 36 (sc (is55))) 37 (sc (il55))) ++ cs) H := hP
          have hD : va_D A (wM am ty (up τ 6 (ug (τ 6) p1 t1)) (up (up (up (up (up (up (up (up (up (up (up (up ρ 14 (sc (0))) 27 wT55) 28 qT55) 29 gm55) 30 (sc (nm55))) 31 la55) 32 me55) 33 (sc (n855))) 34 qu55) 35 qd55) 36 (sc (is55))) 37 (sc (il55))) ++ cs) := hD
          have hSt55 : wfS wT55 qT55 := hSt55
          have hSo55 : Sought (EF (up F 4 (ug (F 4) p1 t1))) (cdv ((up F 4 (ug (F 4) p1 t1)) 6) ((up F 4 (ug (F 4) p1 t1)) 7)) la55 me55 n855 := hSo55
          have hCL55 : LL (cand (up F 4 (ug (F 4) p1 t1))) gm55 nm55 70000 := hCL55
          have hnm55 : 0 ≤ nm55 ∧ nm55 ≤ 2400 := hnm55
          have hci55 : CIx (up F 4 (ug (F 4) p1 t1)) is55 il55 la55 me55 n855 gm55 nm55 (ρ 39) := hci55
          have hi155 : is55 = 1 := hi155
          have hil55 : il55 = 0 ∨ il55 = 1 := hil55
          have hz55 : soonP (dn (up F 4 (ug (F 4) p1 t1))) la55 z55 := hz55
          have hzr55 : -4 ≤ z55 ∧ z55 ≤ 1000000000 := hzr55
          refine lv_istore (lv' := [(4, .int (ii z55)), (3, .int (ii (τ 6 p1))), (0, .ref (am 0)), (1, .int (ii p1)), (2, .int (ii t1))]) hx hb dX12_hurt_58 hl (by decide) rfl (fun ls hl => ?_)
          refine lv_aload_n hx hb dX12_hurt_60 rfl (lv_at hl 2 rfl) ?_
          refine va_get (D := G) (ci := 11) (v := .ref (am 5)) (C := RX12) (T := TX12) (N := 52) hx hb hts in_X12 hown hK hP 0 (aM_0 _ _ _ _ _) rfl 6 (by decide) (hts _ q1271) (fun _ h9 => h9) rfl dX12_hurt_61 ?_
          refine lv_iload_n hx hb dX12_hurt_64 rfl (lv_at hl 3 rfl) ?_
          refine lv_iload_n hx hb dX12_hurt_65 rfl (lv_at hl 1 rfl) ?_
          refine li_iast (g := (ug (τ 6) p1 t1)) (W2 := wM am ty (up τ 6 (ug (ug (τ 6) p1 t1) p1 (τ 6 p1))) (up (up (up (up (up (up (up (up (up (up (up (up ρ 14 (sc (0))) 27 wT55) 28 qT55) 29 gm55) 30 (sc (nm55))) 31 la55) 32 me55) 33 (sc (n855))) 34 qu55) 35 qd55) 36 (sc (is55))) 37 (sc (il55))) ++ cs) hx hb hK hP hD hS 5 0 (aM_5 _ _ _ _ _) rfl (by omega) (by omega) (by decide) rfl dX12_hurt_66 (fun H locs hP hD hS => ?_)
          have hgs : ug (ug (τ 6) p1 t1) p1 (τ 6 p1) = τ 6 := by rw [ug_ug]; exact ug_same rfl
          rw [hgs, up_id] at hP hD
          refine lv_aload_n hx hb dX12_hurt_67 rfl (lv_at hl 2 rfl) ?_
          refine li_iconst hx hb dX12_hurt_68 ?_
          refine va_put (D := G) (ci := 11) (v := .int (ii 0)) (ty := .boolean) (C := RX12) (T := TX12) (N := 52) hx hb hts in_X12 tyX12 tyX12_ok nmX12 hown hK hP hD hS 0 (aM_0 _ _ _ _ _) rfl 36 (by decide) (hts _ q1301) (fun _ h9 => h9) rfl (tyX12_ok 36 (by decide)) (nrw_z (by omega)) (fit_z (by omega)) (Nat.le_of_ble_eq_true rfl) dX12_hurt_69 (fun H locs hP hD hS => ?_)
          have hP : va_P G gcl (wM am ty τ (up (up (up (up (up (up (up (up (up (up (up (up ρ 14 (sc (0))) 27 wT55) 28 qT55) 29 gm55) 30 (sc (nm55))) 31 la55) 32 me55) 33 (sc (n855))) 34 qu55) 35 qd55) 37 (sc (il55))) 36 (sc (0))) ++ cs) H := hP
          have hD : va_D A (wM am ty τ (up (up (up (up (up (up (up (up (up (up (up (up ρ 14 (sc (0))) 27 wT55) 28 qT55) 29 gm55) 30 (sc (nm55))) 31 la55) 32 me55) 33 (sc (n855))) 34 qu55) 35 qd55) 37 (sc (il55))) 36 (sc (0))) ++ cs) := hD
          refine lv_iload hx hb dX12_hurt_72 (lv_at hl 0 rfl) ?_
          exact eMi hQ hx hb hr hlk hP hD hS (Nat.le_of_ble_eq_true rfl) (Nat.le_of_ble_eq_true rfl) dX12_hurt_74 (⟨z55, wT55, qT55, gm55, nm55, la55, me55, n855, qu55, qd55, 0, il55, rfl, rfl, hSt55, CIx_0 hil55, .inr ⟨⟨by omega, by omega⟩, _, _, _, hSo55, hz55⟩⟩)
        · exact absurd c30 (by decide)
      · refine li_if_ne (tgt := 35) hx hb ⟨by decide, by decide⟩ dX12_hurt_30 (by decide) (fun c30 => ?_) (fun c30 => ?_)
        · exact absurd c30 (by decide)
        · refine li_iconst hx hb dX12_hurt_33 ?_
          exact eMi hQ hx hb hr hlk hP hD hS (Nat.le_of_ble_eq_true rfl) (Nat.le_of_ble_eq_true rfl) dX12_hurt_34 (⟨-1, (ρ 27), (ρ 28), (ρ 29), ρ 30 0, (ρ 31), (ρ 32), ρ 33 0, (ρ 34), (ρ 35), ρ 36 0, ρ 37 0, rfl, rfl, hSt, hci, .inl ⟨by omega, rfl⟩⟩)
  · refine li_if_eq (tgt := 33) hx hb ⟨by decide, by decide⟩ dX12_hurt_18 (by decide) (fun c18 => ?_) (fun c18 => ?_)
    · refine li_iconst hx hb dX12_hurt_33 ?_
      exact eMi hQ hx hb hr hlk hP hD hS (Nat.le_of_ble_eq_true rfl) (Nat.le_of_ble_eq_true rfl) dX12_hurt_34 (⟨-1, (ρ 27), (ρ 28), (ρ 29), ρ 30 0, (ρ 31), (ρ 32), ρ 33 0, (ρ 34), (ρ 35), ρ 36 0, ρ 37 0, rfl, rfl, hSt, hci, .inl ⟨by omega, rfl⟩⟩)
    · exact absurd c18 (by decide)
