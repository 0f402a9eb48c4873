/-! lost on the model's side (written by gen/s6.py) -/
set_option maxRecDepth 100000
set_option maxHeartbeats 4000000 in
theorem m_lostM (l : Launch) (G : va_G) (am : Nat → Nat) (ty : Nat → ClassId) (τ ρ : mem) (cs : va_W) (d1 : Int) (F : mem) (hF : okF F) (hSm : Sim F τ) (hSt : wfS (ρ 27) (ρ 28)) (hZ : zerF F) (hci : CIx F (ρ 36 0) (ρ 37 0) (ρ 31) (ρ 32) (ρ 33 0) (ρ 29) (ρ 30 0) (ρ 39)) (hd1 : rg d1) (hh : ∀ i, 0 ≤ (τ 46) i ∧ (τ 46) i ≤ 2) (hrs : ∀ i, 0 ≤ (τ 48) i ∧ (τ 48) i ≤ 2) (hrm : ∀ i, 0 ≤ (τ 49) i ∧ (τ 49) i ≤ 100) (hrw : ∀ i, rg ((τ 50) i)) : cM l yX12_lost (ws_ yX12_lost cX12_lost 6 (some .int)) (rm4 6 0 0 152) G ty (wM am ty τ ρ ++ cs) [.ref (am 0), .int (ii d1)] 0 0 (fun r W' => ∃ (z : Int) (wT : Int → Int) (qT : Int → Int) (gm : Int → Int) (nm : Int) (la : Int → Int) (me : Int → Int) (n8 : Int) (qu : Int → Int) (qd : Int → Int) (is : Int) (il : Int) (ld : Int → Int), r = some (.int (ii z)) ∧ W' = wM am ty τ (up (up (up (up (up (up (up (up (up (up (up (up (up ρ 14 (sc (0))) 27 wT) 28 qT) 29 gm) 30 (sc (nm))) 31 la) 32 me) 33 (sc (n8))) 34 qu) 35 qd) 36 (sc (is))) 37 (sc (il))) 39 ld) ++ cs ∧ (wfS wT qT) ∧ (CIx F is il la me n8 gm nm ld) ∧ (((wrM (τ 46) (τ 48) d1 < 0 ∧ z = wrM (τ 46) (τ 48) d1) ∨ (wrM (τ 46) (τ 48) d1 = 0 ∧ LostP F (rwF (τ 50) d1) (cdv (F 6) (F 7)) ((τ 49) d1) z)))) := by
  refine cM.of (by decide) (Nat.le_of_ble_eq_true rfl) ?_
  intro p e s m args below meth c A Q H locs hQ hx hb hr hml hown hlk hname hts hK hP hD hS hA hX ls hl
  have hl : lv_has ls 6 [(0, .ref (am 0)), (1, .int (ii d1))] := hl
  obtain ⟨hW, hWS, hlg⟩ := id hF
  obtain ⟨hw0, hw1, hw2, hw3, hw4, hw5, h8a, h8b, h9a, h9b, h10a, h10b⟩ := id hW
  obtain ⟨mL, mP, mR, mC, mK, mM, mA, mB, mD⟩ := id hSm
  obtain ⟨hd1a, hd1b⟩ := id hd1
  have hst := (cdv_dig hWS.1 hWS.2).1
  refine lv_aload_n hx hb dX12_lost_0 rfl (lv_at hl 0 rfl) ?_
  refine li_iconst hx hb dX12_lost_1 ?_
  refine va_put (D := G) (ci := 11) (v := .int (ii 0)) (ty := .int) (C := RX12) (T := TX12) (N := 52) hx hb hts in_X12 tyX12 tyX12_ok nmX12 hown hK hP hD hS 0 (aM_0 _ _ _ _ _) rfl 14 (by decide) (hts _ q1279) (fun _ h9 => h9) rfl (tyX12_ok 14 (by decide)) rfl rfl (Nat.le_of_ble_eq_true rfl) dX12_lost_2 (fun H locs hP hD hS => ?_)
  have hP : va_P G gcl (wM am ty τ (up ρ 14 (sc (0))) ++ cs) H := hP
  have hD : va_D A (wM am ty τ (up ρ 14 (sc (0))) ++ cs) := hD
  refine lv_aload_n hx hb dX12_lost_5 rfl (lv_at hl 0 rfl) ?_
  refine lv_iload_n hx hb dX12_lost_6 rfl (lv_at hl 1 rfl) ?_
  refine kR (va_runV (As := [.int (ii d1)]) (rest := []) ⟨hx, hb, hml, hown, hts⟩ (m_wrongMovesM l G am ty τ (up ρ 14 (sc (0))) cs d1 (show rg d1 from hd1) (show ∀ i, 0 ≤ (τ 46) i ∧ (τ 46) i ≤ 2 from hh) (show ∀ i, 0 ≤ (τ 48) i ∧ (τ 48) i ≤ 2 from hrs)) (cwV 1 hts (lw_V q1578 q1580 qs57 q87 q1581) rfl rfl rfl (by decide +kernel) ⟨Nat.le_of_ble_eq_true rfl, Nat.le_of_ble_eq_true rfl⟩) (pvR (r := (RX12, TX12, 52)) hK hP hD hX 0 (aM_0 _ _ _ _ _) rfl) rfl rfl hl.1 rfl (lv_room (Nat.le_of_ble_eq_true rfl)) dX12_lost_7 ⟨Nat.le_of_ble_eq_true rfl, Nat.le_of_ble_eq_true rfl⟩) (fun v hv => ?_)
  obtain ⟨rfl, hz7⟩ := hv
  have hz7 : -12 ≤ wrM (τ 46) (τ 48) d1 ∧ wrM (τ 46) (τ 48) d1 ≤ 0 := hz7
  refine li_top (b := (wrM (τ 46) (τ 48) d1)) rfl ?_
  refine li_if_ge (tgt := 19) hx hb ⟨Int.le_trans (by decide) hz7.1, Int.le_trans hz7.2 (by decide)⟩ dX12_lost_10 (by decide) (fun c10 => ?_) (fun c10 => ?_)
  · have hw0 := wrM_0 c10
    have hwz : wrM (τ 46) (τ 48) d1 = 0 := by omega
    have hmd := hrm d1
    refine lv_aload_n hx hb dX12_lost_19 rfl (lv_at hl 0 rfl) ?_
    refine lv_iload_n hx hb dX12_lost_20 rfl (lv_at hl 1 rfl) ?_
    refine li_iconst hx hb dX12_lost_21 ?_
    refine kM (va_runV (As := [.int (ii d1), .int (ii 0)]) (rest := []) ⟨hx, hb, hml, hown, hts⟩ ((m_judgeM l G am ty τ (up ρ 14 (sc (0))) cs d1 0 _ (show okF F from hF) (show Sim F τ from hSm) (show wfS (ρ 27) (ρ 28) from hSt) (show zerF F from hZ) (show rg d1 from hd1) (show rg 0 from ⟨by decide, by decide⟩) (show ∀ i, 0 ≤ (τ 46) i ∧ (τ 46) i ≤ 2 from hh) (show ∀ i, 0 ≤ (τ 48) i ∧ (τ 48) i ≤ 2 from hrs) (show ∀ i, 0 ≤ (τ 49) i ∧ (τ 49) i ≤ 100 from hrm) (show ∀ i, rg ((τ 50) i) from hrw)) H.size) (cwV 2 hts (lw_V q1660 q1575 q1576 q87 q1577) rfl rfl rfl (by decide +kernel) ⟨Nat.le_of_ble_eq_true rfl, Nat.le_of_ble_eq_true rfl⟩) (pvM (r := (RX12, TX12, 52)) hK hP hD hX 0 (aM_0 _ _ _ _ _) rfl) rfl rfl hl.1 rfl (lv_room (Nat.le_of_ble_eq_true rfl)) dX12_lost_22 ⟨Nat.le_of_ble_eq_true rfl, Nat.le_of_ble_eq_true rfl⟩) hD hS hA (fun v ws1 H locs hv hP hD hS => ?_)
    obtain ⟨z22, wT22, qT22, rfl, rfl, hSt22, hz22, hzr22⟩ := hv
    have hP : va_P G gcl (wM am ty τ (up (up (up ρ 14 (sc (0))) 27 wT22) 28 qT22) ++ cs) H := hP
    have hD : va_D A (wM am ty τ (up (up (up ρ 14 (sc (0))) 27 wT22) 28 qT22) ++ cs) := hD
    have hSt22 : wfS wT22 qT22 := hSt22
    have hz22 : ((¬ ((0 : Int) ≤ 0 ∧ (0 : Int) ≤ 1) ∧ z22 = -1) ∨ (((0 : Int) ≤ 0 ∧ (0 : Int) ≤ 1) ∧ wrM (τ 46) (τ 48) d1 < 0 ∧ z22 = wrM (τ 46) (τ 48) d1) ∨ (((0 : Int) ≤ 0 ∧ (0 : Int) ≤ 1) ∧ wrM (τ 46) (τ 48) d1 = 0 ∧ JudgeP F (rwF (τ 50) d1) (cdv (F 6) (F 7)) ((τ 49) d1) 0 z22)) := hz22
    have hzr22 : -12 ≤ z22 ∧ z22 ≤ 100000 := hzr22
    have hJ := ((hz22.resolve_left (fun q => by omega)).resolve_left (fun q => by omega)).2.2
    obtain ⟨kk, hFo, hjz⟩ := id hJ
    have hFo0 := hFo.1
    have hFo1 := hFo.2.1
    refine li_if_lt (tgt := 31) hx hb ⟨Int.le_trans (by decide) hzr22.1, Int.le_trans hzr22.2 (by decide)⟩ dX12_lost_25 (by decide) (fun c25 => ?_) (fun c25 => ?_)
    · have hkn : kk = τ 49 d1 := by omega
      have hFn : FollowP F (rwF (τ 50) d1) (cdv (F 6) (F 7)) (τ 49 d1) (τ 49 d1) := by rw [← hkn]; rw [← hkn] at hFo; exact hFo
      have hLT := hFn.2.2.1
      refine lv_aload_n hx hb dX12_lost_31 rfl (lv_at hl 0 rfl) ?_
      refine kM (va_runV (As := []) (rest := []) ⟨hx, hb, hml, hown, hts⟩ ((m_findLeadsM l G am ty τ (up (up (up ρ 14 (sc (0))) 27 wT22) 28 qT22) cs _ (show okF F from hF) (show Sim F τ from hSm) (show wfS wT22 qT22 from hSt22) (show zerF F from hZ) (show CIx F (ρ 36 0) (ρ 37 0) (ρ 31) (ρ 32) (ρ 33 0) (ρ 29) (ρ 30 0) (ρ 39) from hci)) H.size) (cwV 0 hts (lw_V q1648 q1650 qs68 q87 q1651) rfl rfl rfl (by decide +kernel) ⟨Nat.le_of_ble_eq_true rfl, Nat.le_of_ble_eq_true rfl⟩) (pvM (r := (RX12, TX12, 52)) hK hP hD hX 0 (aM_0 _ _ _ _ _) rfl) rfl rfl hl.1 rfl (lv_room (Nat.le_of_ble_eq_true rfl)) dX12_lost_32 ⟨Nat.le_of_ble_eq_true rfl, Nat.le_of_ble_eq_true rfl⟩) hD hS hA (fun v ws1 H locs hv hP hD hS => ?_)
      obtain ⟨wT32, qT32, gm32, nm32, la32, me32, n832, qu32, qd32, is32, il32, ld32, rfl, rfl, hSt32, hSo32, hCL32, hnm32, hld32, hci32⟩ := hv
      have hP : va_P G gcl (wM am ty τ (up (up (up (up (up (up (up (up (up (up (up (up (up ρ 14 (sc (0))) 27 wT32) 28 qT32) 29 gm32) 30 (sc (nm32))) 31 la32) 32 me32) 33 (sc (n832))) 34 qu32) 35 qd32) 36 (sc (is32))) 37 (sc (il32))) 39 ld32) ++ cs) H := hP
      have hD : va_D A (wM am ty τ (up (up (up (up (up (up (up (up (up (up (up (up (up ρ 14 (sc (0))) 27 wT32) 28 qT32) 29 gm32) 30 (sc (nm32))) 31 la32) 32 me32) 33 (sc (n832))) 34 qu32) 35 qd32) 36 (sc (is32))) 37 (sc (il32))) 39 ld32) ++ cs) := hD
      have hSt32 : wfS wT32 qT32 := hSt32
      have hSo32 : Sought (EF F) (cdv (F 6) (F 7)) la32 me32 n832 := hSo32
      have hCL32 : LL (cand F) gm32 nm32 70000 := hCL32
      have hnm32 : 0 ≤ nm32 ∧ nm32 ≤ 2400 := hnm32
      have hld32 : ldP F la32 ld32 := hld32
      have hci32 : CIx F is32 il32 la32 me32 n832 gm32 nm32 ld32 := hci32
      refine lv_aload_n hx hb dX12_lost_35 rfl (lv_at hl 0 rfl) ?_
      refine kR (va_runV (As := []) (rest := []) ⟨hx, hb, hml, hown, hts⟩ (m_stateNowM l G am ty τ (up (up (up (up (up (up (up (up (up (up (up (up (up ρ 14 (sc (0))) 27 wT32) 28 qT32) 29 gm32) 30 (sc (nm32))) 31 la32) 32 me32) 33 (sc (n832))) 34 qu32) 35 qd32) 36 (sc (is32))) 37 (sc (il32))) 39 ld32) cs _ (show okF F from hF) (show Sim F τ from hSm) (show zerF F from hZ)) (cwV 0 hts (lw_V q1514 q1516 qs46 q87 q1517) rfl rfl rfl (by decide +kernel) ⟨Nat.le_of_ble_eq_true rfl, Nat.le_of_ble_eq_true rfl⟩) (pvR (r := (RX12, TX12, 52)) hK hP hD hX 0 (aM_0 _ _ _ _ _) rfl) rfl rfl hl.1 rfl (lv_room (Nat.le_of_ble_eq_true rfl)) dX12_lost_36 ⟨Nat.le_of_ble_eq_true rfl, Nat.le_of_ble_eq_true rfl⟩) (fun v hv => ?_)
      have hv := hv
      subst hv
      refine lv_istore_n (lv' := [(2, .int (ii (cdv (F 6) (F 7)))), (0, .ref (am 0)), (1, .int (ii d1))]) hx hb dX12_lost_39 rfl hl (by decide) rfl (fun ls hl => ?_)
      refine lv_iload_n hx hb dX12_lost_40 rfl (lv_at hl 0 rfl) ?_
      refine lv_istore_n (lv' := [(3, .int (ii (cdv (F 6) (F 7)))), (2, .int (ii (cdv (F 6) (F 7)))), (0, .ref (am 0)), (1, .int (ii d1))]) hx hb dX12_lost_41 rfl hl (by decide) rfl (fun ls hl => ?_)
      refine li_iconst hx hb dX12_lost_42 ?_
      refine lv_istore (lv' := [(4, .int (ii 0)), (3, .int (ii (cdv (F 6) (F 7)))), (2, .int (ii (cdv (F 6) (F 7)))), (0, .ref (am 0)), (1, .int (ii d1))]) hx hb dX12_lost_43 hl (by decide) rfl (fun ls hl => ?_)
      have L45 : ∀ (n : Nat) (k1 : Int) (st1 : Int) (wL : Int → Int) (qL : Int → Int) (_ : wfS wL qL) (_ : 0 ≤ k1) (_ : k1 ≤ τ 49 d1) (_ : st1 = fS (rwF (τ 50) d1) (cdv (F 6) (F 7)) k1) (_ : ∀ j, 0 ≤ j → j < k1 → ¬ lostAt F (rwF (τ 50) d1) (cdv (F 6) (F 7)) j) (_ : (τ 49 d1 - k1).toNat < n) (H : Heap) (locs : List Loc) (_ : va_P G gcl (wM am ty τ (up (up (up (up (up (up (up (up (up (up (up (up (up ρ 14 (sc (0))) 29 gm32) 30 (sc (nm32))) 31 la32) 32 me32) 33 (sc (n832))) 34 qu32) 35 qd32) 36 (sc (is32))) 37 (sc (il32))) 39 ld32) 27 wL) 28 qL) ++ cs) H) (_ : va_D A (wM am ty τ (up (up (up (up (up (up (up (up (up (up (up (up (up ρ 14 (sc (0))) 29 gm32) 30 (sc (nm32))) 31 la32) 32 me32) 33 (sc (n832))) 34 qu32) 35 qd32) 36 (sc (is32))) 37 (sc (il32))) 39 ld32) 27 wL) 28 qL) ++ cs)) (_ : va_S A s.heap H locs) (ls : Array Slot), lv_has ls 6 [(4, .int (ii k1)), (3, .int (ii st1)), (2, .int (ii (cdv (F 6) (F 7)))), (0, .ref (am 0)), (1, .int (ii d1))] → W p l e (rm4 6 0 0 152) s m args below meth c H locs 0 0 Q (F0 m 45 ls []) := by
        intro n
        induction n with
        | zero =>
          intro k1 st1 wL qL hStL hk0 hk1 hs hno hm
          exact absurd hm (Nat.not_lt_zero _)
        | succ n ih =>
          intro k1 st1 wL qL hStL hk0 hk1 hs hno hm H locs hP hD hS ls hl
          refine lv_iload hx hb dX12_lost_45 (lv_at hl 0 rfl) ?_
          refine lv_aload_n hx hb dX12_lost_47 rfl (lv_at hl 3 rfl) ?_
          refine va_get (D := G) (ci := 11) (v := .ref (am 31)) (C := RX12) (T := TX12) (N := 52) hx hb hts in_X12 hown hK hP 0 (aM_0 _ _ _ _ _) rfl 49 (by decide) (hts _ q1314) (fun _ h9 => h9) rfl dX12_lost_48 ?_
          refine lv_iload_n hx hb dX12_lost_51 rfl (lv_at hl 4 rfl) ?_
          refine li_iald (g := (τ 49)) hx hb hK hP 31 0 (aM_31 _ _ _ _ _) rfl (by omega) (by omega) (by decide) dX12_lost_52 ?_
          have r53 := hrm d1
          refine li_icmp_ge (tgt := 116) hx hb ⟨by omega, by omega⟩ (rgi r53.1 r53.2) dX12_lost_53 (by decide) (fun c53 => ?_) (fun c53 => ?_)
          · refine li_bipush hx hb dX12_lost_116 (by decide) ?_
            exact eMi hQ hx hb hr hlk hP hD hS (Nat.le_of_ble_eq_true rfl) (Nat.le_of_ble_eq_true rfl) dX12_lost_118 (⟨-4, wL, qL, gm32, nm32, la32, me32, n832, qu32, qd32, is32, il32, ld32, rfl, rfl, hStL, hci32, .inr ⟨hwz, .inr ⟨hFn, .inr ⟨rfl, fun j a b => hno j a (by omega)⟩⟩⟩⟩)
          · have hlgk : leg F (fS (rwF (τ 50) d1) (cdv (F 6) (F 7)) k1) (rwF (τ 50) d1 k1) := hLT k1 hk0 (by omega)
            have hmet := fS_met (k := k1) hSo32 hW hst hk0 (fun j a b => hLT j a (by omega))
            have hmet2 := fS_met (k := k1 + 1) hSo32 hW hst (by omega) (fun j a b => hLT j a (by omega))
            have hcd : cand F (τ 50 (100 * d1 + k1)) := leg_cand hW hlgk
            have hin : inSt st1 := by rw [hs]; exact hmet.1
            obtain ⟨hin0, hin1⟩ := id hin
            have hSn : wfS (dcw st1 wL) (dcq st1 qL) := ⟨dcw_b hStL.1, dcq_b hStL.2⟩
            have hStN : wfS (nxW (τ 50 (100 * d1 + k1)) (dcw st1 wL)) (nxQ (τ 50 (100 * d1 + k1)) (dcq st1 qL)) := nx_wf hlgk.1 hSn
            have hs2 : nx st1 (τ 50 (100 * d1 + k1)) = fS (rwF (τ 50) d1) (cdv (F 6) (F 7)) (k1 + 1) := by rw [fS_s hk0, hs]; rfl
            have hin2 : inSt (nx st1 (τ 50 (100 * d1 + k1))) := by rw [hs2]; exact hmet2.1
            obtain ⟨hin20, hin21⟩ := id hin2
            have hlf := hld32.1 st1 hin (by rw [hs]; exact hmet.2)
            have hlf2 := hld32.1 (nx st1 (τ 50 (100 * d1 + k1))) hin2 (by rw [hs2]; exact hmet2.2)
            have hll : ld32 st1 = 1 ↔ LeadA F (-1) (fS (rwF (τ 50) d1) (cdv (F 6) (F 7)) k1) := by rw [← hs]; exact hld32.2 st1 hin (by rw [hs]; exact hmet.2)
            have hll2 : ld32 (nx st1 (τ 50 (100 * d1 + k1))) = 1 ↔ LeadA F (-1) (fS (rwF (τ 50) d1) (cdv (F 6) (F 7)) (k1 + 1)) := by rw [← hs2]; exact hld32.2 _ hin2 (by rw [hs2]; exact hmet2.2)
            refine lv_aload_n hx hb dX12_lost_56 rfl (lv_at hl 3 rfl) ?_
            refine lv_iload_n hx hb dX12_lost_57 rfl (lv_at hl 1 rfl) ?_
            refine kM (va_runV (As := [.int (ii st1)]) (rest := []) ⟨hx, hb, hml, hown, hts⟩ ((m_openM l G am ty τ (up (up (up (up (up (up (up (up (up (up (up (up (up ρ 14 (sc (0))) 29 gm32) 30 (sc (nm32))) 31 la32) 32 me32) 33 (sc (n832))) 34 qu32) 35 qd32) 36 (sc (is32))) 37 (sc (il32))) 39 ld32) 27 wL) 28 qL) cs st1 (show inSt st1 from hin)) H.size) (cwV 1 hts (lw_V q1518 q1520 qs47 q87 q1521) rfl rfl rfl (by decide +kernel) ⟨Nat.le_of_ble_eq_true rfl, Nat.le_of_ble_eq_true rfl⟩) (pvM (r := (RX12, TX12, 52)) hK hP hD hX 0 (aM_0 _ _ _ _ _) rfl) rfl rfl hl.1 rfl (lv_room (Nat.le_of_ble_eq_true rfl)) dX12_lost_58 ⟨Nat.le_of_ble_eq_true rfl, Nat.le_of_ble_eq_true rfl⟩) hD hS hA (fun v ws1 H locs hv hP hD hS => ?_)
            obtain ⟨rfl, rfl, hal58⟩ := hv
            have hP : va_P G gcl (wM am ty τ (up (up (up (up (up (up (up (up (up (up (up (up (up ρ 14 (sc (0))) 29 gm32) 30 (sc (nm32))) 31 la32) 32 me32) 33 (sc (n832))) 34 qu32) 35 qd32) 36 (sc (is32))) 37 (sc (il32))) 39 ld32) 27 (dcw st1 wL)) 28 (dcq st1 qL)) ++ cs) H := hP
            have hD : va_D A (wM am ty τ (up (up (up (up (up (up (up (up (up (up (up (up (up ρ 14 (sc (0))) 29 gm32) 30 (sc (nm32))) 31 la32) 32 me32) 33 (sc (n832))) 34 qu32) 35 qd32) 36 (sc (is32))) 37 (sc (il32))) 39 ld32) 27 (dcw st1 wL)) 28 (dcq st1 qL)) ++ cs) := hD
            have hal58 : alike (dcw st1 wL) (dcq st1 qL) (stW st1) (stQ st1) := hal58
            refine lv_aload_n hx hb dX12_lost_61 rfl (lv_at hl 3 rfl) ?_
            refine lv_aload_n hx hb dX12_lost_62 rfl (lv_at hl 3 rfl) ?_
            refine va_get (D := G) (ci := 11) (v := .ref (am 32)) (C := RX12) (T := TX12) (N := 52) hx hb hts in_X12 hown hK hP 0 (aM_0 _ _ _ _ _) rfl 50 (by decide) (hts _ q1315) (fun _ h9 => h9) rfl dX12_lost_63 ?_
            refine li_bipush hx hb dX12_lost_66 (by decide) ?_
            refine lv_iload_n hx hb dX12_lost_68 rfl (lv_at hl 4 rfl) ?_
            refine li_mul hx hb dX12_lost_69 ?_
            refine lv_iload hx hb dX12_lost_70 (lv_at hl 0 rfl) ?_
            refine li_add hx hb dX12_lost_72 ?_
            refine li_lald (g := (τ 50)) hx hb hK hP 32 4 (aM_32 _ _ _ _ _) rfl (by omega) (by omega) (by decide) dX12_lost_73 ?_
            refine lv_l2i (v := ii (τ 50 (100 * d1 + k1))) hx hb dX12_lost_74 (ii_l _) ?_
            refine li_iconst hx hb dX12_lost_75 ?_
            refine kM (va_runV (As := [.int (ii (τ 50 (100 * d1 + k1))), .int (ii 0)]) (rest := []) ⟨hx, hb, hml, hown, hts⟩ ((m_makeM0 l G am ty τ (up (up (up (up (up (up (up (up (up (up (up (up (up ρ 14 (sc (0))) 29 gm32) 30 (sc (nm32))) 31 la32) 32 me32) 33 (sc (n832))) 34 qu32) 35 qd32) 36 (sc (is32))) 37 (sc (il32))) 39 ld32) 27 (dcw st1 wL)) 28 (dcq st1 qL)) cs (τ 50 (100 * d1 + k1)) _ (show okF F from hF) (show Sim F τ from hSm) (show wfS (dcw st1 wL) (dcq st1 qL) from hSn) (show isT (τ 50 (100 * d1 + k1)) from hlgk.1) (show (τ 50 (100 * d1 + k1)) / 1000 % 10 < p2 (F 9 0) from cand_p2 h9a h9b hcd) (show (τ 50 (100 * d1 + k1)) / 10000 = 3 → (τ 50 (100 * d1 + k1)) / 100 % 10 = 0 from cand_r3 hcd)) H.size) (cwV 2 hts (lw_V q1550 q1552 qs53 q87 q1553) rfl rfl rfl (by decide +kernel) ⟨Nat.le_of_ble_eq_true rfl, Nat.le_of_ble_eq_true rfl⟩) (pvM (r := (RX12, TX12, 52)) hK hP hD hX 0 (aM_0 _ _ _ _ _) rfl) rfl rfl hl.1 rfl (lv_room (Nat.le_of_ble_eq_true rfl)) dX12_lost_76 ⟨Nat.le_of_ble_eq_true rfl, Nat.le_of_ble_eq_true rfl⟩) hD hS hA (fun v ws1 H locs hv hP hD hS => ?_)
            obtain ⟨rfl, rfl⟩ := hv
            have hP : va_P G gcl (wM am ty τ (up (up (up (up (up (up (up (up (up (up (up (up (up ρ 14 (sc (0))) 29 gm32) 30 (sc (nm32))) 31 la32) 32 me32) 33 (sc (n832))) 34 qu32) 35 qd32) 36 (sc (is32))) 37 (sc (il32))) 39 ld32) 27 (mvw ((τ 50 (100 * d1 + k1)) / 1000 % 10) ((τ 50 (100 * d1 + k1)) % 10) (dcw st1 wL))) 28 ((mvq ((τ 50 (100 * d1 + k1)) / 10000) ((τ 50 (100 * d1 + k1)) / 100 % 10) ((τ 50 (100 * d1 + k1)) % 10) (dcq st1 qL)))) ++ cs) H := hP
            have hD : va_D A (wM am ty τ (up (up (up (up (up (up (up (up (up (up (up (up (up ρ 14 (sc (0))) 29 gm32) 30 (sc (nm32))) 31 la32) 32 me32) 33 (sc (n832))) 34 qu32) 35 qd32) 36 (sc (is32))) 37 (sc (il32))) 39 ld32) 27 (mvw ((τ 50 (100 * d1 + k1)) / 1000 % 10) ((τ 50 (100 * d1 + k1)) % 10) (dcw st1 wL))) 28 ((mvq ((τ 50 (100 * d1 + k1)) / 10000) ((τ 50 (100 * d1 + k1)) / 100 % 10) ((τ 50 (100 * d1 + k1)) % 10) (dcq st1 qL)))) ++ cs) := hD
            refine lv_aload_n hx hb dX12_lost_79 rfl (lv_at hl 3 rfl) ?_
            refine kR (va_runV (As := []) (rest := []) ⟨hx, hb, hml, hown, hts⟩ (m_closedM l G am ty τ (up (up (up (up (up (up (up (up (up (up (up (up (up ρ 14 (sc (0))) 29 gm32) 30 (sc (nm32))) 31 la32) 32 me32) 33 (sc (n832))) 34 qu32) 35 qd32) 36 (sc (is32))) 37 (sc (il32))) 39 ld32) 27 (mvw ((τ 50 (100 * d1 + k1)) / 1000 % 10) ((τ 50 (100 * d1 + k1)) % 10) (dcw st1 wL))) 28 ((mvq ((τ 50 (100 * d1 + k1)) / 10000) ((τ 50 (100 * d1 + k1)) / 100 % 10) ((τ 50 (100 * d1 + k1)) % 10) (dcq st1 qL)))) cs (show wfS (mvw ((τ 50 (100 * d1 + k1)) / 1000 % 10) ((τ 50 (100 * d1 + k1)) % 10) (dcw st1 wL)) ((mvq ((τ 50 (100 * d1 + k1)) / 10000) ((τ 50 (100 * d1 + k1)) / 100 % 10) ((τ 50 (100 * d1 + k1)) % 10) (dcq st1 qL))) from hStN)) (cwV 0 hts (lw_V q1599 q1601 qs61 q87 q1602) rfl rfl rfl (by decide +kernel) ⟨Nat.le_of_ble_eq_true rfl, Nat.le_of_ble_eq_true rfl⟩) (pvR (r := (RX12, TX12, 52)) hK hP hD hX 0 (aM_0 _ _ _ _ _) rfl) rfl rfl hl.1 rfl (lv_room (Nat.le_of_ble_eq_true rfl)) dX12_lost_80 ⟨Nat.le_of_ble_eq_true rfl, Nat.le_of_ble_eq_true rfl⟩) (fun v hv => ?_)
            have hv := hv
            subst hv
            refine li_topx (z := nx st1 (τ 50 (100 * d1 + k1))) (congrArg ii (nxS_dc _ _ _ _)) ?_
            refine lv_istore (lv' := [(5, .int (ii (nx st1 (τ 50 (100 * d1 + k1))))), (4, .int (ii k1)), (3, .int (ii st1)), (2, .int (ii (cdv (F 6) (F 7)))), (0, .ref (am 0)), (1, .int (ii d1))]) hx hb dX12_lost_83 hl (by decide) rfl (fun ls hl => ?_)
            refine lv_aload_n hx hb dX12_lost_85 rfl (lv_at hl 4 rfl) ?_
            refine va_get (D := G) (ci := 11) (v := .ref (am 24)) (C := RX12) (T := TX12) (N := 52) hx hb hts in_X12 hown hK hP 0 (aM_0 _ _ _ _ _) rfl 39 (by decide) (hts _ q1304) (fun _ h9 => h9) rfl dX12_lost_86 ?_
            refine lv_iload_n hx hb dX12_lost_89 rfl (lv_at hl 2 rfl) ?_
            refine li_zald (g := ld32) hx hb hK hP 24 1 (aM_24 _ _ _ _ _) rfl (by omega) (by omega) (by decide) dX12_lost_90 ?_
            refine li_if_eq (tgt := 107) hx hb ⟨by omega, by omega⟩ dX12_lost_91 (by decide) (fun c91 => ?_) (fun c91 => ?_)
            · refine lv_iload hx hb dX12_lost_107 (lv_at hl 0 rfl) ?_
              refine lv_istore_n (lv' := [(3, .int (ii (nx st1 (τ 50 (100 * d1 + k1))))), (5, .int (ii (nx st1 (τ 50 (100 * d1 + k1))))), (4, .int (ii k1)), (2, .int (ii (cdv (F 6) (F 7)))), (0, .ref (am 0)), (1, .int (ii d1))]) hx hb dX12_lost_109 rfl hl (by decide) rfl (fun ls hl => ?_)
              refine li_iinc (a := k1) (lv' := [(4, .int (ii (k1 + 1))), (3, .int (ii (nx st1 (τ 50 (100 * d1 + k1))))), (5, .int (ii (nx st1 (τ 50 (100 * d1 + k1))))), (2, .int (ii (cdv (F 6) (F 7)))), (0, .ref (am 0)), (1, .int (ii d1))]) hx hb dX12_lost_110 hl (k := 2) rfl (by decide) rfl (fun ls hl => ?_)
              refine lv_goto (tgt := 45) hx hb dX12_lost_113 (by decide) ?_
              exact ih (k1 + 1) (nx st1 (τ 50 (100 * d1 + k1))) (mvw ((τ 50 (100 * d1 + k1)) / 1000 % 10) ((τ 50 (100 * d1 + k1)) % 10) (dcw st1 wL)) ((mvq ((τ 50 (100 * d1 + k1)) / 10000) ((τ 50 (100 * d1 + k1)) / 100 % 10) ((τ 50 (100 * d1 + k1)) % 10) (dcq st1 qL))) (hStN) (by omega) (by omega) (hs2) (fun j a b => by by_cases q : j = k1; (rw [q]; exact fun z => by have := hll.mpr z.1; omega); exact hno j a (by omega)) (by omega) H locs hP hD hS ls (lv_sub hl [0, 1, 3, 4, 5] rfl)
            · refine lv_aload_n hx hb dX12_lost_94 rfl (lv_at hl 4 rfl) ?_
              refine va_get (D := G) (ci := 11) (v := .ref (am 24)) (C := RX12) (T := TX12) (N := 52) hx hb hts in_X12 hown hK hP 0 (aM_0 _ _ _ _ _) rfl 39 (by decide) (hts _ q1304) (fun _ h9 => h9) rfl dX12_lost_95 ?_
              refine lv_iload hx hb dX12_lost_98 (lv_at hl 0 rfl) ?_
              refine li_zald (g := ld32) hx hb hK hP 24 1 (aM_24 _ _ _ _ _) rfl (by omega) (by omega) (by decide) dX12_lost_100 ?_
              refine li_if_ne (tgt := 107) hx hb ⟨by omega, by omega⟩ dX12_lost_101 (by decide) (fun c101 => ?_) (fun c101 => ?_)
              · refine lv_iload hx hb dX12_lost_107 (lv_at hl 0 rfl) ?_
                refine lv_istore_n (lv' := [(3, .int (ii (nx st1 (τ 50 (100 * d1 + k1))))), (5, .int (ii (nx st1 (τ 50 (100 * d1 + k1))))), (4, .int (ii k1)), (2, .int (ii (cdv (F 6) (F 7)))), (0, .ref (am 0)), (1, .int (ii d1))]) hx hb dX12_lost_109 rfl hl (by decide) rfl (fun ls hl => ?_)
                refine li_iinc (a := k1) (lv' := [(4, .int (ii (k1 + 1))), (3, .int (ii (nx st1 (τ 50 (100 * d1 + k1))))), (5, .int (ii (nx st1 (τ 50 (100 * d1 + k1))))), (2, .int (ii (cdv (F 6) (F 7)))), (0, .ref (am 0)), (1, .int (ii d1))]) hx hb dX12_lost_110 hl (k := 2) rfl (by decide) rfl (fun ls hl => ?_)
                refine lv_goto (tgt := 45) hx hb dX12_lost_113 (by decide) ?_
                exact ih (k1 + 1) (nx st1 (τ 50 (100 * d1 + k1))) (mvw ((τ 50 (100 * d1 + k1)) / 1000 % 10) ((τ 50 (100 * d1 + k1)) % 10) (dcw st1 wL)) ((mvq ((τ 50 (100 * d1 + k1)) / 10000) ((τ 50 (100 * d1 + k1)) / 100 % 10) ((τ 50 (100 * d1 + k1)) % 10) (dcq st1 qL))) (hStN) (by omega) (by omega) (hs2) (fun j a b => by by_cases q : j = k1; (rw [q]; exact fun z => z.2 (hll2.mp (by omega))); exact hno j a (by omega)) (by omega) H locs hP hD hS ls (lv_sub hl [0, 1, 3, 4, 5] rfl)
              · have hl1 := hll.mp (by omega)
                have hl2 : ¬ LeadA F (-1) (fS (rwF (τ 50) d1) (cdv (F 6) (F 7)) (k1 + 1)) := fun q => by have := hll2.mpr q; omega
                refine lv_iload hx hb dX12_lost_104 (lv_at hl 1 rfl) ?_
                exact eMi hQ hx hb hr hlk hP hD hS (Nat.le_of_ble_eq_true rfl) (Nat.le_of_ble_eq_true rfl) dX12_lost_106 (⟨k1, (mvw ((τ 50 (100 * d1 + k1)) / 1000 % 10) ((τ 50 (100 * d1 + k1)) % 10) (dcw st1 wL)), ((mvq ((τ 50 (100 * d1 + k1)) / 10000) ((τ 50 (100 * d1 + k1)) / 100 % 10) ((τ 50 (100 * d1 + k1)) % 10) (dcq st1 qL))), gm32, nm32, la32, me32, n832, qu32, qd32, is32, il32, ld32, rfl, rfl, hStN, hci32, .inr ⟨hwz, .inr ⟨hFn, .inl ⟨hk0, by omega, ⟨hl1, hl2⟩, hno⟩⟩⟩⟩)
      exact L45 _ 0 (cdv (F 6) (F 7)) wT32 qT32 (hSt32) (by omega) (by omega) (rfl) (fun j a b => by omega) (Nat.lt_succ_self _) H locs hP hD hS ls (lv_sub hl [0, 1, 2, 3, 4] rfl)
    · refine li_bipush hx hb dX12_lost_28 (by decide) ?_
      exact eMi hQ hx hb hr hlk hP hD hS (Nat.le_of_ble_eq_true rfl) (Nat.le_of_ble_eq_true rfl) dX12_lost_30 (⟨-3, wT22, qT22, (ρ 29), ρ 30 0, (ρ 31), (ρ 32), ρ 33 0, (ρ 34), (ρ 35), ρ 36 0, ρ 37 0, (ρ 39), rfl, rfl, hSt22, hci, .inr ⟨hwz, .inl ⟨kk, hFo, by omega, rfl⟩⟩⟩)
  · refine lv_aload_n hx hb dX12_lost_13 rfl (lv_at hl 0 rfl) ?_
    refine lv_iload_n hx hb dX12_lost_14 rfl (lv_at hl 1 rfl) ?_
    refine kR (va_runV (As := [.int (ii d1)]) (rest := []) ⟨hx, hb, hml, hown, hts⟩ (m_wrongMovesM l G am ty τ (up ρ 14 (sc (0))) cs d1 (show rg d1 from hd1) (show ∀ i, 0 ≤ (τ 46) i ∧ (τ 46) i ≤ 2 from hh) (show ∀ i, 0 ≤ (τ 48) i ∧ (τ 48) i ≤ 2 from hrs)) (cwV 1 hts (lw_V q1578 q1580 qs57 q87 q1581) rfl rfl rfl (by decide +kernel) ⟨Nat.le_of_ble_eq_true rfl, Nat.le_of_ble_eq_true rfl⟩) (pvR (r := (RX12, TX12, 52)) hK hP hD hX 0 (aM_0 _ _ _ _ _) rfl) rfl rfl hl.1 rfl (lv_room (Nat.le_of_ble_eq_true rfl)) dX12_lost_15 ⟨Nat.le_of_ble_eq_true rfl, Nat.le_of_ble_eq_true rfl⟩) (fun v hv => ?_)
    obtain ⟨rfl, hz15⟩ := hv
    have hz15 : -12 ≤ wrM (τ 46) (τ 48) d1 ∧ wrM (τ 46) (τ 48) d1 ≤ 0 := hz15
    refine li_top (b := (wrM (τ 46) (τ 48) d1)) rfl ?_
    exact eMi hQ hx hb hr hlk hP hD hS (Nat.le_of_ble_eq_true rfl) (Nat.le_of_ble_eq_true rfl) dX12_lost_18 (⟨wrM (τ 46) (τ 48) d1, (ρ 27), (ρ 28), (ρ 29), ρ 30 0, (ρ 31), (ρ 32), ρ 33 0, (ρ 34), (ρ 35), ρ 36 0, ρ 37 0, (ρ 39), rfl, rfl, hSt, hci, .inl ⟨by omega, rfl⟩⟩)
