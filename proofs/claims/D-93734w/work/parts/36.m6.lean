/-! DownRopeModel: bestChance, chance, wayFrom, first, hasWay, feet (written by gen/m6.py) -/
set_option maxRecDepth 100000
set_option maxHeartbeats 4000000 in
theorem m_bestChanceM (l : Launch) (G : va_G) (am : Nat → Nat) (ty : Nat → ClassId) (τ ρ : mem) (cs : va_W) (c1 : Int) (F : mem) (s1 : Int) (hF : okF F) (hSm : Sim F τ) (hSt : wfS (ρ 27) (ρ 28)) (hc : inSt c1) (hCL : LL (cand F) (ρ 29) (ρ 30 0) 70000) (hnm : 0 ≤ (ρ 30 0) ∧ (ρ 30 0) ≤ 2400) (hR : clR F (fun c => (ρ 31) c ≠ FARc)) (hmf : (ρ 31) c1 ≠ FARc) (hsr : ∀ c, inSt c → (ρ 31) c ≠ FARc → 0 ≤ (ρ 41) c ∧ (ρ 41) c ≤ 1000000) (hca : 0 ≤ F 11 0 ∧ F 11 0 ≤ 100) : cM l yX12_bestChance (ws_ yX12_bestChance cX12_bestChance 5 (some .int)) (rm4 3 0 0 81) G ty (wM am ty τ ρ ++ cs) [.ref (am 0), .int (ii c1)] 0 0 (fun r W' => ∃ (z : Int) (wT : Int → Int) (qT : Int → Int), r = some (.int (ii z)) ∧ W' = wM am ty τ (up (up ρ 27 wT) 28 qT) ++ cs ∧ (wfS wT qT) ∧ (surP F (ρ 41) c1 z)) := by
  refine cM.of (by decide) (Nat.le_of_ble_eq_true rfl) ?_
  intro p e s m args below meth c A Q H locs hQ hx hb hr hml hown hlk hname hts hK hP hD hS hA hX ls hl
  have hl : lv_has ls 5 [(0, .ref (am 0)), (1, .int (ii c1))] := hl
  obtain ⟨hW, hWS, hlg⟩ := id hF
  obtain ⟨hw0, hw1, hw2, hw3, hw4, hw5, h8a, h8b, h9a, h9b, h10a, h10b⟩ := id hW
  obtain ⟨mL, mP, mR, mC, mK, mM, mA, mB, mD⟩ := id hSm
  obtain ⟨hca0, hca1⟩ := id hca
  refine li_iconst hx hb dX12_bestChance_0 ?_
  refine lv_istore_n (lv' := [(2, .int (ii 0)), (0, .ref (am 0)), (1, .int (ii c1))]) hx hb dX12_bestChance_1 rfl hl (by decide) rfl (fun ls hl => ?_)
  refine lv_aload_n hx hb dX12_bestChance_2 rfl (lv_at hl 1 rfl) ?_
  refine lv_iload_n hx hb dX12_bestChance_3 rfl (lv_at hl 2 rfl) ?_
  refine kM (va_runV (As := [.int (ii c1)]) (rest := []) ⟨hx, hb, hml, hown, hts⟩ ((m_openM l G am ty τ ρ cs c1 (show inSt c1 from hc)) H.size) (cwV 1 hts (lw_V q1518 q1520 qs47 q87 q1521) rfl rfl rfl (by decide +kernel) ⟨Nat.le_of_ble_eq_true rfl, Nat.le_of_ble_eq_true rfl⟩) (pvM (r := (RX12, TX12, 52)) hK hP hD hX 0 (aM_0 _ _ _ _ _) rfl) rfl rfl hl.1 rfl (lv_room (Nat.le_of_ble_eq_true rfl)) dX12_bestChance_4 ⟨Nat.le_of_ble_eq_true rfl, Nat.le_of_ble_eq_true rfl⟩) hD hS hA (fun v ws1 H locs hv hP hD hS => ?_)
  obtain ⟨rfl, rfl, hal4⟩ := hv
  have hP : va_P G gcl (wM am ty τ (up (up ρ 27 (dcw c1 (ρ 27))) 28 (dcq c1 (ρ 28))) ++ cs) H := hP
  have hD : va_D A (wM am ty τ (up (up ρ 27 (dcw c1 (ρ 27))) 28 (dcq c1 (ρ 28))) ++ cs) := hD
  have hal4 : alike (dcw c1 (ρ 27)) (dcq c1 (ρ 28)) (stW c1) (stQ c1) := hal4
  have hS1 : wfS (dcw c1 (ρ 27)) (dcq c1 (ρ 28)) := ⟨dcw_b hSt.1, dcq_b hSt.2⟩
  refine li_iconst hx hb dX12_bestChance_7 ?_
  refine lv_istore_n (lv' := [(3, .int (ii 0)), (2, .int (ii 0)), (0, .ref (am 0)), (1, .int (ii c1))]) hx hb dX12_bestChance_8 rfl hl (by decide) rfl (fun ls hl => ?_)
  have L9 : ∀ (n : Nat) (k1 : Int) (b1 : Int) (wU : Int → Int) (qU : Int → Int) (_ : wfS wU qU) (_ : alike wU qU (stW c1) (stQ c1)) (_ : 0 ≤ k1) (_ : k1 ≤ ρ 30 0) (_ : 0 ≤ b1 ∧ b1 ≤ 1000000) (_ : seenI (cand F) (fun m => leg F c1 m → chV F (ρ 41) c1 m ≤ b1) k1) (_ : b1 = 0 ∨ ∃ m, leg F c1 m ∧ b1 = chV F (ρ 41) c1 m) (_ : (ρ 30 0 - k1).toNat < n) (H : Heap) (locs : List Loc) (_ : va_P G gcl (wM am ty τ (up (up ρ 27 wU) 28 qU) ++ cs) H) (_ : va_D A (wM am ty τ (up (up ρ 27 wU) 28 qU) ++ cs)) (_ : va_S A s.heap H locs) (ls : Array Slot), lv_has ls 5 [(3, .int (ii k1)), (2, .int (ii b1)), (0, .ref (am 0)), (1, .int (ii c1))] → W p l e (rm4 3 0 0 81) s m args below meth c H locs 0 0 Q (F0 m 9 ls []) := by
    intro n
    induction n with
    | zero =>
      intro k1 b1 wU qU hSt hal hk0 hk1 hbr hse hor hm
      exact absurd hm (Nat.not_lt_zero _)
    | succ n ih =>
      intro k1 b1 wU qU hSt hal hk0 hk1 hbr hse hor hm H locs hP hD hS ls hl
      refine lv_iload_n hx hb dX12_bestChance_9 rfl (lv_at hl 0 rfl) ?_
      refine lv_aload_n hx hb dX12_bestChance_10 rfl (lv_at hl 2 rfl) ?_
      refine va_get (D := G) (ci := 11) (v := .int (ii (ρ 30 0))) (C := RX12) (T := TX12) (N := 52) hx hb hts in_X12 hown hK hP 0 (aM_0 _ _ _ _ _) rfl 30 (by decide) (hts _ q1295) (fun _ h9 => h9) rfl dX12_bestChance_11 ?_
      refine li_icmp_ge (tgt := 136) hx hb ⟨by omega, by omega⟩ ⟨by omega, by omega⟩ dX12_bestChance_14 (by decide) (fun c14 => ?_) (fun c14 => ?_)
      · refine lv_iload_n hx hb dX12_bestChance_136 rfl (lv_at hl 1 rfl) ?_
        exact eMi hQ hx hb hr hlk hP hD hS (Nat.le_of_ble_eq_true rfl) (Nat.le_of_ble_eq_true rfl) dX12_bestChance_137 (⟨b1, wU, qU, rfl, rfl, hSt, ⟨hbr.1, hbr.2, fun m hm => (seenI_all hse hCL cand_b (by omega)) m (leg_cand hW hm) hm, hor⟩⟩)
      · obtain ⟨ha0, ha1, hcd, hcn⟩ := LL_at hCL (by decide) hk0 c14
        have hdd := isT_m hcd.1
        have hm00 := hcd.1.1
        have hm01 := hcd.1.2.1
        have hvb := mvV_b hW hcd.1
        refine lv_aload_n hx hb dX12_bestChance_17 rfl (lv_at hl 2 rfl) ?_
        refine lv_aload_n hx hb dX12_bestChance_18 rfl (lv_at hl 2 rfl) ?_
        refine va_get (D := G) (ci := 11) (v := .ref (am 18)) (C := RX12) (T := TX12) (N := 52) hx hb hts in_X12 hown hK hP 0 (aM_0 _ _ _ _ _) rfl 29 (by decide) (hts _ q1294) (fun _ h9 => h9) rfl dX12_bestChance_19 ?_
        refine lv_iload_n hx hb dX12_bestChance_22 rfl (lv_at hl 0 rfl) ?_
        refine li_iald (g := (ρ 29)) hx hb hK hP 18 0 (aM_18 _ _ _ _ _) rfl (by omega) (by omega) (by decide) dX12_bestChance_23 ?_
        refine kR (va_runV (As := [.int (ii (ρ 29 k1))]) (rest := []) ⟨hx, hb, hml, hown, hts⟩ (m_minutesOfM l G am ty τ (up (up ρ 27 wU) 28 qU) cs (ρ 29 k1) _ (show okF F from hF) (show Sim F τ from hSm) (show wfS wU qU from hSt) (show isT (ρ 29 k1) from hcd.1)) (cwV 1 hts (lw_V q1522 q1524 qs48 q87 q1525) rfl rfl rfl (by decide +kernel) ⟨Nat.le_of_ble_eq_true rfl, Nat.le_of_ble_eq_true rfl⟩) (pvR (r := (RX12, TX12, 52)) hK hP hD hX 0 (aM_0 _ _ _ _ _) rfl) rfl rfl hl.1 rfl (lv_room (Nat.le_of_ble_eq_true rfl)) dX12_bestChance_24 ⟨Nat.le_of_ble_eq_true rfl, Nat.le_of_ble_eq_true rfl⟩) (fun v hv => ?_)
        obtain ⟨z24, rfl, hz24⟩ := hv
        have hz24 : (mvOk F wU qU (ρ 29 k1) ∧ z24 = mvV F (ρ 29 k1)) ∨ (¬ mvOk F wU qU (ρ 29 k1) ∧ z24 = -1) := hz24
        have hzr24 : -1 ≤ z24 ∧ z24 ≤ 312 := mz_b hW (hcd.1) hz24
        refine li_if_lt (tgt := 130) hx hb (rg4 ⟨Int.le_trans (by decide) hzr24.1, Int.le_trans hzr24.2 (by decide)⟩) dX12_bestChance_27 (by decide) (fun c27 => ?_) (fun c27 => ?_)
        · refine li_iinc (a := k1) (lv' := [(3, .int (ii (k1 + 1))), (2, .int (ii b1)), (0, .ref (am 0)), (1, .int (ii c1))]) hx hb dX12_bestChance_130 hl (k := 0) rfl (by decide) rfl (fun ls hl => ?_)
          refine lv_goto (tgt := 9) hx hb dX12_bestChance_133 (by decide) ?_
          exact ih (k1 + 1) b1 wU qU (hSt) (hal) (by omega) (by omega) (hbr) (seenI_s hse cand_n hcd hcn (fun q => absurd q (fun q => (hz24.resolve_left (fun r => by have := r.2; omega)).1 (((congrFun (lgl_al hal) _).mpr q).2)))) (hor) (by omega) H locs hP hD hS ls (lv_sub hl [0, 1, 2, 3] rfl)
        · obtain ⟨hok, hval⟩ := hz24.resolve_right (fun q => by omega)
          have hleg : leg F c1 (ρ 29 k1) := (congrFun (lgl_al hal) _).mp ⟨hcd.1, hok⟩
          have hRm := hR c1 _ hc hmf hleg
          have hnx := nx_in (c := c1) hleg.1
          have hnl := hRm.1
          obtain ⟨hnx0, hnx1⟩ := id hnx
          have hsx := hsr _ hnx hnl
          have hSn := nx_wf hcd.1 hSt
          refine lv_aload_n hx hb dX12_bestChance_30 rfl (lv_at hl 2 rfl) ?_
          refine lv_aload_n hx hb dX12_bestChance_31 rfl (lv_at hl 2 rfl) ?_
          refine va_get (D := G) (ci := 11) (v := .ref (am 18)) (C := RX12) (T := TX12) (N := 52) hx hb hts in_X12 hown hK hP 0 (aM_0 _ _ _ _ _) rfl 29 (by decide) (hts _ q1294) (fun _ h9 => h9) rfl dX12_bestChance_32 ?_
          refine lv_iload_n hx hb dX12_bestChance_35 rfl (lv_at hl 0 rfl) ?_
          refine li_iald (g := (ρ 29)) hx hb hK hP 18 0 (aM_18 _ _ _ _ _) rfl (by omega) (by omega) (by decide) dX12_bestChance_36 ?_
          refine li_iconst hx hb dX12_bestChance_37 ?_
          refine kM (va_runV (As := [.int (ii (ρ 29 k1)), .int (ii 0)]) (rest := []) ⟨hx, hb, hml, hown, hts⟩ ((m_makeM0 l G am ty τ (up (up ρ 27 wU) 28 qU) cs (ρ 29 k1) _ (show okF F from hF) (show Sim F τ from hSm) (show wfS wU qU from hSt) (show isT (ρ 29 k1) from hcd.1) (show (ρ 29 k1) / 1000 % 10 < p2 (F 9 0) from cand_p2 h9a h9b hcd) (show (ρ 29 k1) / 10000 = 3 → (ρ 29 k1) / 100 % 10 = 0 from cand_r3 hcd)) H.size) (cwV 2 hts (lw_V q1550 q1552 qs53 q87 q1553) rfl rfl rfl (by decide +kernel) ⟨Nat.le_of_ble_eq_true rfl, Nat.le_of_ble_eq_true rfl⟩) (pvM (r := (RX12, TX12, 52)) hK hP hD hX 0 (aM_0 _ _ _ _ _) rfl) rfl rfl hl.1 rfl (lv_room (Nat.le_of_ble_eq_true rfl)) dX12_bestChance_38 ⟨Nat.le_of_ble_eq_true rfl, Nat.le_of_ble_eq_true rfl⟩) hD hS hA (fun v ws1 H locs hv hP hD hS => ?_)
          obtain ⟨rfl, rfl⟩ := hv
          have hP : va_P G gcl (wM am ty τ (up (up ρ 27 (mvw ((ρ 29 k1) / 1000 % 10) ((ρ 29 k1) % 10) wU)) 28 ((mvq ((ρ 29 k1) / 10000) ((ρ 29 k1) / 100 % 10) ((ρ 29 k1) % 10) qU))) ++ cs) H := hP
          have hD : va_D A (wM am ty τ (up (up ρ 27 (mvw ((ρ 29 k1) / 1000 % 10) ((ρ 29 k1) % 10) wU)) 28 ((mvq ((ρ 29 k1) / 10000) ((ρ 29 k1) / 100 % 10) ((ρ 29 k1) % 10) qU))) ++ cs) := hD
          refine lv_aload_n hx hb dX12_bestChance_41 rfl (lv_at hl 2 rfl) ?_
          refine va_get (D := G) (ci := 11) (v := .ref (am 26)) (C := RX12) (T := TX12) (N := 52) hx hb hts in_X12 hown hK hP 0 (aM_0 _ _ _ _ _) rfl 41 (by decide) (hts _ q1306) (fun _ h9 => h9) rfl dX12_bestChance_42 ?_
          refine lv_aload_n hx hb dX12_bestChance_45 rfl (lv_at hl 2 rfl) ?_
          refine kR (va_runV (As := []) (rest := [.ref (am 26)]) ⟨hx, hb, hml, hown, hts⟩ (m_closedM l G am ty τ (up (up ρ 27 (mvw ((ρ 29 k1) / 1000 % 10) ((ρ 29 k1) % 10) wU)) 28 ((mvq ((ρ 29 k1) / 10000) ((ρ 29 k1) / 100 % 10) ((ρ 29 k1) % 10) qU))) cs (show wfS (mvw ((ρ 29 k1) / 1000 % 10) ((ρ 29 k1) % 10) wU) ((mvq ((ρ 29 k1) / 10000) ((ρ 29 k1) / 100 % 10) ((ρ 29 k1) % 10) qU)) from nx_wf hcd.1 hSt)) (cwV 0 hts (lw_V q1599 q1601 qs61 q87 q1602) rfl rfl rfl (by decide +kernel) ⟨Nat.le_of_ble_eq_true rfl, Nat.le_of_ble_eq_true rfl⟩) (pvR (r := (RX12, TX12, 52)) hK hP hD hX 0 (aM_0 _ _ _ _ _) rfl) rfl rfl hl.1 rfl (lv_room (Nat.le_of_ble_eq_true rfl)) dX12_bestChance_46 ⟨Nat.le_of_ble_eq_true rfl, Nat.le_of_ble_eq_true rfl⟩) (fun v hv => ?_)
          have hv := hv
          subst hv
          refine li_topx (z := nx c1 (ρ 29 k1)) (congrArg ii (nxS_al _ hal)) ?_
          refine li_iald (g := (ρ 41)) hx hb hK hP 26 0 (aM_26 _ _ _ _ _) rfl (by omega) (by omega) (by decide) dX12_bestChance_49 ?_
          refine lv_istore (lv' := [(4, .int (ii (ρ 41 (nx c1 (ρ 29 k1))))), (3, .int (ii k1)), (2, .int (ii b1)), (0, .ref (am 0)), (1, .int (ii c1))]) hx hb dX12_bestChance_50 hl (by decide) rfl (fun ls hl => ?_)
          refine lv_aload_n hx hb dX12_bestChance_52 rfl (lv_at hl 3 rfl) ?_
          refine lv_iload_n hx hb dX12_bestChance_53 rfl (lv_at hl 4 rfl) ?_
          refine kM (va_runV (As := [.int (ii c1)]) (rest := []) ⟨hx, hb, hml, hown, hts⟩ ((m_openM l G am ty τ (up (up ρ 27 (mvw ((ρ 29 k1) / 1000 % 10) ((ρ 29 k1) % 10) wU)) 28 ((mvq ((ρ 29 k1) / 10000) ((ρ 29 k1) / 100 % 10) ((ρ 29 k1) % 10) qU))) cs c1 (show inSt c1 from hc)) H.size) (cwV 1 hts (lw_V q1518 q1520 qs47 q87 q1521) rfl rfl rfl (by decide +kernel) ⟨Nat.le_of_ble_eq_true rfl, Nat.le_of_ble_eq_true rfl⟩) (pvM (r := (RX12, TX12, 52)) hK hP hD hX 0 (aM_0 _ _ _ _ _) rfl) rfl rfl hl.1 rfl (lv_room (Nat.le_of_ble_eq_true rfl)) dX12_bestChance_54 ⟨Nat.le_of_ble_eq_true rfl, Nat.le_of_ble_eq_true rfl⟩) hD hS hA (fun v ws1 H locs hv hP hD hS => ?_)
          obtain ⟨rfl, rfl, hal54⟩ := hv
          have hP : va_P G gcl (wM am ty τ (up (up ρ 27 (dcw c1 (mvw ((ρ 29 k1) / 1000 % 10) ((ρ 29 k1) % 10) wU))) 28 (dcq c1 ((mvq ((ρ 29 k1) / 10000) ((ρ 29 k1) / 100 % 10) ((ρ 29 k1) % 10) qU)))) ++ cs) H := hP
          have hD : va_D A (wM am ty τ (up (up ρ 27 (dcw c1 (mvw ((ρ 29 k1) / 1000 % 10) ((ρ 29 k1) % 10) wU))) 28 (dcq c1 ((mvq ((ρ 29 k1) / 10000) ((ρ 29 k1) / 100 % 10) ((ρ 29 k1) % 10) qU)))) ++ cs) := hD
          have hal54 : alike (dcw c1 (mvw ((ρ 29 k1) / 1000 % 10) ((ρ 29 k1) % 10) wU)) (dcq c1 ((mvq ((ρ 29 k1) / 10000) ((ρ 29 k1) / 100 % 10) ((ρ 29 k1) % 10) qU))) (stW c1) (stQ c1) := hal54
          have hS3 : wfS (dcw c1 (mvw (ρ 29 k1 / 1000 % 10) (ρ 29 k1 % 10) wU)) (dcq c1 (mvq (ρ 29 k1 / 10000) (ρ 29 k1 / 100 % 10) (ρ 29 k1 % 10) qU)) := ⟨dcw_b hSn.1, dcq_b hSn.2⟩
          refine lv_aload_n hx hb dX12_bestChance_57 rfl (lv_at hl 3 rfl) ?_
          refine va_get (D := G) (ci := 11) (v := .ref (am 18)) (C := RX12) (T := TX12) (N := 52) hx hb hts in_X12 hown hK hP 0 (aM_0 _ _ _ _ _) rfl 29 (by decide) (hts _ q1294) (fun _ h9 => h9) rfl dX12_bestChance_58 ?_
          refine lv_iload_n hx hb dX12_bestChance_61 rfl (lv_at hl 1 rfl) ?_
          refine li_iald (g := (ρ 29)) hx hb hK hP 18 0 (aM_18 _ _ _ _ _) rfl (by omega) (by omega) (by decide) dX12_bestChance_62 ?_
          refine li_sipush hx hb dX12_bestChance_63 (by decide) ?_
          refine li_div hx hb (by omega) (by omega) (by omega) (by omega) dX12_bestChance_66 ?_
          refine li_iconst hx hb dX12_bestChance_67 ?_
          refine li_icmp_ne (tgt := 117) hx hb ⟨by omega, by omega⟩ ⟨by decide, by decide⟩ dX12_bestChance_68 (by decide) (fun c68 => ?_) (fun c68 => ?_)
          · have hcv : chV F (ρ 41) c1 (ρ 29 k1) = ρ 41 (nx c1 (ρ 29 k1)) := chV_n c68
            refine lv_iload hx hb dX12_bestChance_117 (lv_at hl 0 rfl) ?_
            refine lv_iload_n hx hb dX12_bestChance_119 rfl (lv_at hl 2 rfl) ?_
            refine li_icmp_le (tgt := 128) hx hb ⟨by omega, by omega⟩ ⟨by omega, by omega⟩ dX12_bestChance_120 (by decide) (fun c120 => ?_) (fun c120 => ?_)
            · refine lv_iload_n hx hb dX12_bestChance_128 rfl (lv_at hl 2 rfl) ?_
              refine lv_istore_n (lv' := [(2, .int (ii b1)), (4, .int (ii (ρ 41 (nx c1 (ρ 29 k1))))), (3, .int (ii k1)), (0, .ref (am 0)), (1, .int (ii c1))]) hx hb dX12_bestChance_129 rfl hl (by decide) rfl (fun ls hl => ?_)
              refine li_iinc (a := k1) (lv' := [(3, .int (ii (k1 + 1))), (2, .int (ii b1)), (4, .int (ii (ρ 41 (nx c1 (ρ 29 k1))))), (0, .ref (am 0)), (1, .int (ii c1))]) hx hb dX12_bestChance_130 hl (k := 2) rfl (by decide) rfl (fun ls hl => ?_)
              refine lv_goto (tgt := 9) hx hb dX12_bestChance_133 (by decide) ?_
              exact ih (k1 + 1) b1 (dcw c1 (mvw ((ρ 29 k1) / 1000 % 10) ((ρ 29 k1) % 10) wU)) (dcq c1 ((mvq ((ρ 29 k1) / 10000) ((ρ 29 k1) / 100 % 10) ((ρ 29 k1) % 10) qU))) (hS3) (alike_dc _ _ _) (by omega) (by omega) (hbr) (seenI_s (seenI_w hse (fun m q x => Int.le_trans (q x) (by omega))) cand_n hcd hcn (fun _ => by rw [hcv]; omega)) (hor) (by omega) H locs hP hD hS ls (lv_sub hl [0, 1, 3, 4] rfl)
            · refine lv_iload hx hb dX12_bestChance_123 (lv_at hl 0 rfl) ?_
              refine lv_goto (tgt := 129) hx hb dX12_bestChance_125 (by decide) ?_
              refine lv_istore_n (lv' := [(2, .int (ii (ρ 41 (nx c1 (ρ 29 k1))))), (4, .int (ii (ρ 41 (nx c1 (ρ 29 k1))))), (3, .int (ii k1)), (0, .ref (am 0)), (1, .int (ii c1))]) hx hb dX12_bestChance_129 rfl hl (by decide) rfl (fun ls hl => ?_)
              refine li_iinc (a := k1) (lv' := [(3, .int (ii (k1 + 1))), (2, .int (ii (ρ 41 (nx c1 (ρ 29 k1))))), (4, .int (ii (ρ 41 (nx c1 (ρ 29 k1))))), (0, .ref (am 0)), (1, .int (ii c1))]) hx hb dX12_bestChance_130 hl (k := 2) rfl (by decide) rfl (fun ls hl => ?_)
              refine lv_goto (tgt := 9) hx hb dX12_bestChance_133 (by decide) ?_
              exact ih (k1 + 1) (ρ 41 (nx c1 (ρ 29 k1))) (dcw c1 (mvw ((ρ 29 k1) / 1000 % 10) ((ρ 29 k1) % 10) wU)) (dcq c1 ((mvq ((ρ 29 k1) / 10000) ((ρ 29 k1) / 100 % 10) ((ρ 29 k1) % 10) qU))) (hS3) (alike_dc _ _ _) (by omega) (by omega) (⟨by omega, by omega⟩) (seenI_s (seenI_w hse (fun m q x => Int.le_trans (q x) (by omega))) cand_n hcd hcn (fun _ => by rw [hcv]; exact Int.le_refl _)) (.inr ⟨_, hleg, hcv.symm⟩) (by omega) H locs hP hD hS ls (lv_sub hl [0, 1, 3, 4] rfl)
          · have hny := nxc_in (c := c1) hleg.1
            have hnl2 := hRm.2 c68
            have hsy := hsr _ hny hnl2
            obtain ⟨hny0, hny1⟩ := id hny
            have hmix := mix_b hca0 hca1 hsx.1 hsx.2 hsy.1 hsy.2
            rw [← mC] at hmix
            refine lv_aload_n hx hb dX12_bestChance_71 rfl (lv_at hl 3 rfl) ?_
            refine lv_aload_n hx hb dX12_bestChance_72 rfl (lv_at hl 3 rfl) ?_
            refine va_get (D := G) (ci := 11) (v := .ref (am 18)) (C := RX12) (T := TX12) (N := 52) hx hb hts in_X12 hown hK hP 0 (aM_0 _ _ _ _ _) rfl 29 (by decide) (hts _ q1294) (fun _ h9 => h9) rfl dX12_bestChance_73 ?_
            refine lv_iload_n hx hb dX12_bestChance_76 rfl (lv_at hl 1 rfl) ?_
            refine li_iald (g := (ρ 29)) hx hb hK hP 18 0 (aM_18 _ _ _ _ _) rfl (by omega) (by omega) (by decide) dX12_bestChance_77 ?_
            refine li_iconst hx hb dX12_bestChance_78 ?_
            refine kM (va_runV (As := [.int (ii (ρ 29 k1)), .int (ii 1)]) (rest := []) ⟨hx, hb, hml, hown, hts⟩ ((m_makeM1 l G am ty τ (up (up ρ 27 (dcw c1 (mvw ((ρ 29 k1) / 1000 % 10) ((ρ 29 k1) % 10) wU))) 28 (dcq c1 ((mvq ((ρ 29 k1) / 10000) ((ρ 29 k1) / 100 % 10) ((ρ 29 k1) % 10) qU)))) cs (ρ 29 k1) _ (show okF F from hF) (show Sim F τ from hSm) (show wfS (dcw c1 (mvw ((ρ 29 k1) / 1000 % 10) ((ρ 29 k1) % 10) wU)) (dcq c1 ((mvq ((ρ 29 k1) / 10000) ((ρ 29 k1) / 100 % 10) ((ρ 29 k1) % 10) qU))) from hS3) (show isT (ρ 29 k1) from hcd.1) (show (ρ 29 k1) / 1000 % 10 < p2 (F 9 0) from cand_p2 h9a h9b hcd) (show (ρ 29 k1) / 10000 = 3 → (ρ 29 k1) / 100 % 10 = 0 from cand_r3 hcd) (show (ρ 29 k1) / 10000 = 3 from c68)) H.size) (cwV 2 hts (lw_V q1550 q1552 qs53 q87 q1553) rfl rfl rfl (by decide +kernel) ⟨Nat.le_of_ble_eq_true rfl, Nat.le_of_ble_eq_true rfl⟩) (pvM (r := (RX12, TX12, 52)) hK hP hD hX 0 (aM_0 _ _ _ _ _) rfl) rfl rfl hl.1 rfl (lv_room (Nat.le_of_ble_eq_true rfl)) dX12_bestChance_79 ⟨Nat.le_of_ble_eq_true rfl, Nat.le_of_ble_eq_true rfl⟩) hD hS hA (fun v ws1 H locs hv hP hD hS => ?_)
            obtain ⟨rfl, rfl⟩ := hv
            have hP : va_P G gcl (wM am ty τ (up (up ρ 27 (mvw ((ρ 29 k1) / 1000 % 10) ((ρ 29 k1) % 10) (dcw c1 (mvw ((ρ 29 k1) / 1000 % 10) ((ρ 29 k1) % 10) wU)))) 28 ((ug (ug (dcq c1 ((mvq ((ρ 29 k1) / 10000) ((ρ 29 k1) / 100 % 10) ((ρ 29 k1) % 10) qU))) 0 5) 1 5))) ++ cs) H := hP
            have hD : va_D A (wM am ty τ (up (up ρ 27 (mvw ((ρ 29 k1) / 1000 % 10) ((ρ 29 k1) % 10) (dcw c1 (mvw ((ρ 29 k1) / 1000 % 10) ((ρ 29 k1) % 10) wU)))) 28 ((ug (ug (dcq c1 ((mvq ((ρ 29 k1) / 10000) ((ρ 29 k1) / 100 % 10) ((ρ 29 k1) % 10) qU))) 0 5) 1 5))) ++ cs) := hD
            refine li_bipush hx hb dX12_bestChance_82 (by decide) ?_
            refine lv_aload_n hx hb dX12_bestChance_84 rfl (lv_at hl 3 rfl) ?_
            refine va_get (D := G) (ci := 11) (v := .int (ii (τ 11 0))) (C := RX12) (T := TX12) (N := 52) hx hb hts in_X12 hown hK hP 0 (aM_0 _ _ _ _ _) rfl 11 (by decide) (hts _ q1276) (fun _ h9 => h9) rfl dX12_bestChance_85 ?_
            refine li_sub hx hb dX12_bestChance_88 ?_
            refine lv_iload hx hb dX12_bestChance_89 (lv_at hl 0 rfl) ?_
            refine li_mul hx hb dX12_bestChance_91 ?_
            refine lv_aload_n hx hb dX12_bestChance_92 rfl (lv_at hl 3 rfl) ?_
            refine va_get (D := G) (ci := 11) (v := .int (ii (τ 11 0))) (C := RX12) (T := TX12) (N := 52) hx hb hts in_X12 hown hK hP 0 (aM_0 _ _ _ _ _) rfl 11 (by decide) (hts _ q1276) (fun _ h9 => h9) rfl dX12_bestChance_93 ?_
            refine lv_aload_n hx hb dX12_bestChance_96 rfl (lv_at hl 3 rfl) ?_
            refine va_get (D := G) (ci := 11) (v := .ref (am 26)) (C := RX12) (T := TX12) (N := 52) hx hb hts in_X12 hown hK hP 0 (aM_0 _ _ _ _ _) rfl 41 (by decide) (hts _ q1306) (fun _ h9 => h9) rfl dX12_bestChance_97 ?_
            refine lv_aload_n hx hb dX12_bestChance_100 rfl (lv_at hl 3 rfl) ?_
            refine kR (va_runV (As := []) (rest := [.ref (am 26), .int (ii (τ 11 0)), .int (ii ((100 - (τ 11 0)) * (ρ 41 (nx c1 (ρ 29 k1)))))]) ⟨hx, hb, hml, hown, hts⟩ (m_closedM l G am ty τ (up (up ρ 27 (mvw ((ρ 29 k1) / 1000 % 10) ((ρ 29 k1) % 10) (dcw c1 (mvw ((ρ 29 k1) / 1000 % 10) ((ρ 29 k1) % 10) wU)))) 28 ((ug (ug (dcq c1 ((mvq ((ρ 29 k1) / 10000) ((ρ 29 k1) / 100 % 10) ((ρ 29 k1) % 10) qU))) 0 5) 1 5))) cs (show wfS (mvw ((ρ 29 k1) / 1000 % 10) ((ρ 29 k1) % 10) (dcw c1 (mvw ((ρ 29 k1) / 1000 % 10) ((ρ 29 k1) % 10) wU))) ((ug (ug (dcq c1 ((mvq ((ρ 29 k1) / 10000) ((ρ 29 k1) / 100 % 10) ((ρ 29 k1) % 10) qU))) 0 5) 1 5)) from ⟨mvw_b (by omega) hS3.1, ug_b (by decide) (ug_b (by decide) hS3.2)⟩)) (cwV 0 hts (lw_V q1599 q1601 qs61 q87 q1602) rfl rfl rfl (by decide +kernel) ⟨Nat.le_of_ble_eq_true rfl, Nat.le_of_ble_eq_true rfl⟩) (pvR (r := (RX12, TX12, 52)) hK hP hD hX 0 (aM_0 _ _ _ _ _) rfl) rfl rfl hl.1 rfl (lv_room (Nat.le_of_ble_eq_true rfl)) dX12_bestChance_101 ⟨Nat.le_of_ble_eq_true rfl, Nat.le_of_ble_eq_true rfl⟩) (fun v hv => ?_)
            have hv := hv
            subst hv
            refine li_topx (z := nxc c1 (ρ 29 k1)) (congrArg ii (clo_c _ (alike_dc _ _ _))) ?_
            refine li_iald (g := (ρ 41)) hx hb hK hP 26 0 (aM_26 _ _ _ _ _) rfl (by omega) (by omega) (by decide) dX12_bestChance_104 ?_
            refine li_mul hx hb dX12_bestChance_105 ?_
            refine li_add hx hb dX12_bestChance_106 ?_
            refine li_bipush hx hb dX12_bestChance_107 (by decide) ?_
            refine li_div hx hb (by omega) (by omega) (by omega) (by omega) dX12_bestChance_109 ?_
            refine lv_istore (lv' := [(4, .int (ii (((100 - (τ 11 0)) * (ρ 41 (nx c1 (ρ 29 k1))) + ((τ 11 0) * (ρ 41 (nxc c1 (ρ 29 k1))))) / 100))), (3, .int (ii k1)), (2, .int (ii b1)), (0, .ref (am 0)), (1, .int (ii c1))]) hx hb dX12_bestChance_110 hl (by decide) rfl (fun ls hl => ?_)
            refine lv_aload_n hx hb dX12_bestChance_112 rfl (lv_at hl 3 rfl) ?_
            refine lv_iload_n hx hb dX12_bestChance_113 rfl (lv_at hl 4 rfl) ?_
            refine kM (va_runV (As := [.int (ii c1)]) (rest := []) ⟨hx, hb, hml, hown, hts⟩ ((m_openM l G am ty τ (up (up ρ 27 (mvw ((ρ 29 k1) / 1000 % 10) ((ρ 29 k1) % 10) (dcw c1 (mvw ((ρ 29 k1) / 1000 % 10) ((ρ 29 k1) % 10) wU)))) 28 ((ug (ug (dcq c1 ((mvq ((ρ 29 k1) / 10000) ((ρ 29 k1) / 100 % 10) ((ρ 29 k1) % 10) qU))) 0 5) 1 5))) cs c1 (show inSt c1 from hc)) H.size) (cwV 1 hts (lw_V q1518 q1520 qs47 q87 q1521) rfl rfl rfl (by decide +kernel) ⟨Nat.le_of_ble_eq_true rfl, Nat.le_of_ble_eq_true rfl⟩) (pvM (r := (RX12, TX12, 52)) hK hP hD hX 0 (aM_0 _ _ _ _ _) rfl) rfl rfl hl.1 rfl (lv_room (Nat.le_of_ble_eq_true rfl)) dX12_bestChance_114 ⟨Nat.le_of_ble_eq_true rfl, Nat.le_of_ble_eq_true rfl⟩) hD hS hA (fun v ws1 H locs hv hP hD hS => ?_)
            obtain ⟨rfl, rfl, hal114⟩ := hv
            have hP : va_P G gcl (wM am ty τ (up (up ρ 27 (dcw c1 (mvw ((ρ 29 k1) / 1000 % 10) ((ρ 29 k1) % 10) (dcw c1 (mvw ((ρ 29 k1) / 1000 % 10) ((ρ 29 k1) % 10) wU))))) 28 (dcq c1 ((ug (ug (dcq c1 ((mvq ((ρ 29 k1) / 10000) ((ρ 29 k1) / 100 % 10) ((ρ 29 k1) % 10) qU))) 0 5) 1 5)))) ++ cs) H := hP
            have hD : va_D A (wM am ty τ (up (up ρ 27 (dcw c1 (mvw ((ρ 29 k1) / 1000 % 10) ((ρ 29 k1) % 10) (dcw c1 (mvw ((ρ 29 k1) / 1000 % 10) ((ρ 29 k1) % 10) wU))))) 28 (dcq c1 ((ug (ug (dcq c1 ((mvq ((ρ 29 k1) / 10000) ((ρ 29 k1) / 100 % 10) ((ρ 29 k1) % 10) qU))) 0 5) 1 5)))) ++ cs) := hD
            have hal114 : alike (dcw c1 (mvw ((ρ 29 k1) / 1000 % 10) ((ρ 29 k1) % 10) (dcw c1 (mvw ((ρ 29 k1) / 1000 % 10) ((ρ 29 k1) % 10) wU)))) (dcq c1 ((ug (ug (dcq c1 ((mvq ((ρ 29 k1) / 10000) ((ρ 29 k1) / 100 % 10) ((ρ 29 k1) % 10) qU))) 0 5) 1 5))) (stW c1) (stQ c1) := hal114
            have hS4 : wfS (dcw c1 (mvw ((ρ 29 k1) / 1000 % 10) ((ρ 29 k1) % 10) (dcw c1 (mvw ((ρ 29 k1) / 1000 % 10) ((ρ 29 k1) % 10) wU)))) (dcq c1 ((ug (ug (dcq c1 ((mvq ((ρ 29 k1) / 10000) ((ρ 29 k1) / 100 % 10) ((ρ 29 k1) % 10) qU))) 0 5) 1 5))) := ⟨dcw_b (mvw_b (by omega) hS3.1), dcq_b (ug_b (by decide) (ug_b (by decide) hS3.2))⟩
            have hcv : chV F (ρ 41) c1 (ρ 29 k1) = ((100 - τ 11 0) * ρ 41 (nx c1 (ρ 29 k1)) + τ 11 0 * ρ 41 (nxc c1 (ρ 29 k1))) / 100 := by rw [chV_3 c68, mC]
            refine lv_iload hx hb dX12_bestChance_117 (lv_at hl 0 rfl) ?_
            refine lv_iload_n hx hb dX12_bestChance_119 rfl (lv_at hl 2 rfl) ?_
            refine li_icmp_le (tgt := 128) hx hb ⟨by omega, by omega⟩ ⟨by omega, by omega⟩ dX12_bestChance_120 (by decide) (fun c120 => ?_) (fun c120 => ?_)
            · refine lv_iload_n hx hb dX12_bestChance_128 rfl (lv_at hl 2 rfl) ?_
              refine lv_istore_n (lv' := [(2, .int (ii b1)), (4, .int (ii (((100 - (τ 11 0)) * (ρ 41 (nx c1 (ρ 29 k1))) + ((τ 11 0) * (ρ 41 (nxc c1 (ρ 29 k1))))) / 100))), (3, .int (ii k1)), (0, .ref (am 0)), (1, .int (ii c1))]) hx hb dX12_bestChance_129 rfl hl (by decide) rfl (fun ls hl => ?_)
              refine li_iinc (a := k1) (lv' := [(3, .int (ii (k1 + 1))), (2, .int (ii b1)), (4, .int (ii (((100 - (τ 11 0)) * (ρ 41 (nx c1 (ρ 29 k1))) + ((τ 11 0) * (ρ 41 (nxc c1 (ρ 29 k1))))) / 100))), (0, .ref (am 0)), (1, .int (ii c1))]) hx hb dX12_bestChance_130 hl (k := 2) rfl (by decide) rfl (fun ls hl => ?_)
              refine lv_goto (tgt := 9) hx hb dX12_bestChance_133 (by decide) ?_
              exact ih (k1 + 1) b1 (dcw c1 (mvw ((ρ 29 k1) / 1000 % 10) ((ρ 29 k1) % 10) (dcw c1 (mvw ((ρ 29 k1) / 1000 % 10) ((ρ 29 k1) % 10) wU)))) (dcq c1 ((ug (ug (dcq c1 ((mvq ((ρ 29 k1) / 10000) ((ρ 29 k1) / 100 % 10) ((ρ 29 k1) % 10) qU))) 0 5) 1 5))) (hS4) (alike_dc _ _ _) (by omega) (by omega) (hbr) (seenI_s (seenI_w hse (fun m q x => Int.le_trans (q x) (by omega))) cand_n hcd hcn (fun _ => by rw [hcv]; omega)) (hor) (by omega) H locs hP hD hS ls (lv_sub hl [0, 1, 3, 4] rfl)
            · refine lv_iload hx hb dX12_bestChance_123 (lv_at hl 0 rfl) ?_
              refine lv_goto (tgt := 129) hx hb dX12_bestChance_125 (by decide) ?_
              refine lv_istore_n (lv' := [(2, .int (ii (((100 - (τ 11 0)) * (ρ 41 (nx c1 (ρ 29 k1))) + ((τ 11 0) * (ρ 41 (nxc c1 (ρ 29 k1))))) / 100))), (4, .int (ii (((100 - (τ 11 0)) * (ρ 41 (nx c1 (ρ 29 k1))) + ((τ 11 0) * (ρ 41 (nxc c1 (ρ 29 k1))))) / 100))), (3, .int (ii k1)), (0, .ref (am 0)), (1, .int (ii c1))]) hx hb dX12_bestChance_129 rfl hl (by decide) rfl (fun ls hl => ?_)
              refine li_iinc (a := k1) (lv' := [(3, .int (ii (k1 + 1))), (2, .int (ii (((100 - (τ 11 0)) * (ρ 41 (nx c1 (ρ 29 k1))) + ((τ 11 0) * (ρ 41 (nxc c1 (ρ 29 k1))))) / 100))), (4, .int (ii (((100 - (τ 11 0)) * (ρ 41 (nx c1 (ρ 29 k1))) + ((τ 11 0) * (ρ 41 (nxc c1 (ρ 29 k1))))) / 100))), (0, .ref (am 0)), (1, .int (ii c1))]) hx hb dX12_bestChance_130 hl (k := 2) rfl (by decide) rfl (fun ls hl => ?_)
              refine lv_goto (tgt := 9) hx hb dX12_bestChance_133 (by decide) ?_
              exact ih (k1 + 1) (((100 - (τ 11 0)) * (ρ 41 (nx c1 (ρ 29 k1))) + ((τ 11 0) * (ρ 41 (nxc c1 (ρ 29 k1))))) / 100) (dcw c1 (mvw ((ρ 29 k1) / 1000 % 10) ((ρ 29 k1) % 10) (dcw c1 (mvw ((ρ 29 k1) / 1000 % 10) ((ρ 29 k1) % 10) wU)))) (dcq c1 ((ug (ug (dcq c1 ((mvq ((ρ 29 k1) / 10000) ((ρ 29 k1) / 100 % 10) ((ρ 29 k1) % 10) qU))) 0 5) 1 5))) (hS4) (alike_dc _ _ _) (by omega) (by omega) (⟨by omega, by omega⟩) (seenI_s (seenI_w hse (fun m q x => Int.le_trans (q x) (by omega))) cand_n hcd hcn (fun _ => by rw [hcv]; exact Int.le_refl _)) (.inr ⟨_, hleg, hcv.symm⟩) (by omega) H locs hP hD hS ls (lv_sub hl [0, 1, 3, 4] rfl)
  exact L9 _ 0 0 (dcw c1 (ρ 27)) (dcq c1 (ρ 28)) (hS1) (hal4) (by omega) (by omega) (⟨by decide, by decide⟩) (seenI_0 _ cand_n) (.inl rfl) (Nat.lt_succ_self _) H locs hP hD hS ls (lv_sub hl [0, 1, 2, 3] rfl)
set_option maxHeartbeats 4000000 in
theorem m_chanceM (l : Launch) (G : va_G) (am : Nat → Nat) (ty : Nat → ClassId) (τ ρ : mem) (cs : va_W)  (F : mem) (hF : okF F) (hSm : Sim F τ) (hSt : wfS (ρ 27) (ρ 28)) (hZ : zerF F) (hci : CIx F (ρ 36 0) (ρ 37 0) (ρ 31) (ρ 32) (ρ 33 0) (ρ 29) (ρ 30 0) (ρ 39)) (hca : 0 ≤ F 11 0 ∧ F 11 0 ≤ 100) : cM l yX12_chance (ws_ yX12_chance cX12_chance 4 (some .int)) (rm4 4 0 0 110) G ty (wM am ty τ ρ ++ cs) [.ref (am 0)] 0 0 (fun r W' => ∃ (z : Int) (wT : Int → Int) (qT : Int → Int) (gm : Int → Int) (nm : Int) (la : Int → Int) (me : Int → Int) (n8 : Int) (qu : Int → Int) (qd : Int → Int) (su : Int → Int), r = some (.int (ii z)) ∧ W' = wM am ty τ (up (up (up (up (up (up (up (up (up (up (up (up ρ 14 (sc (0))) 36 (sc (0))) 27 wT) 28 qT) 29 gm) 30 (sc (nm))) 31 la) 32 me) 33 (sc (n8))) 34 qu) 35 qd) 41 su) ++ cs ∧ (wfS wT qT) ∧ (CIx F 0 (ρ 37 0) la me n8 gm nm (ρ 39)) ∧ (IsChance F (cdv (F 6) (F 7)) z)) := by
  refine cM.of (by decide) (Nat.le_of_ble_eq_true rfl) ?_
  intro p e s m args below meth c A Q H locs hQ hx hb hr hml hown hlk hname hts hK hP hD hS hA hX ls hl
  have hl : lv_has ls 4 [(0, .ref (am 0))] := hl
  obtain ⟨hW, hWS, hlg⟩ := id hF
  obtain ⟨hw0, hw1, hw2, hw3, hw4, hw5, h8a, h8b, h9a, h9b, h10a, h10b⟩ := id hW
  obtain ⟨mL, mP, mR, mC, mK, mM, mA, mB, mD⟩ := id hSm
  have hst0 := (cdv_dig hWS.1 hWS.2).1
  obtain ⟨hsta, hstb⟩ := id hst0
  refine lv_aload_n hx hb dX12_chance_0 rfl (lv_at hl 0 rfl) ?_
  refine li_iconst hx hb dX12_chance_1 ?_
  refine va_put (D := G) (ci := 11) (v := .int (ii 0)) (ty := .int) (C := RX12) (T := TX12) (N := 52) hx hb hts in_X12 tyX12 tyX12_ok nmX12 hown hK hP hD hS 0 (aM_0 _ _ _ _ _) rfl 14 (by decide) (hts _ q1279) (fun _ h9 => h9) rfl (tyX12_ok 14 (by decide)) rfl rfl (Nat.le_of_ble_eq_true rfl) dX12_chance_2 (fun H locs hP hD hS => ?_)
  have hP : va_P G gcl (wM am ty τ (up ρ 14 (sc (0))) ++ cs) H := hP
  have hD : va_D A (wM am ty τ (up ρ 14 (sc (0))) ++ cs) := hD
  refine lv_aload_n hx hb dX12_chance_5 rfl (lv_at hl 0 rfl) ?_
  refine li_iconst hx hb dX12_chance_6 ?_
  refine va_put (D := G) (ci := 11) (v := .int (ii 0)) (ty := .boolean) (C := RX12) (T := TX12) (N := 52) hx hb hts in_X12 tyX12 tyX12_ok nmX12 hown hK hP hD hS 0 (aM_0 _ _ _ _ _) rfl 36 (by decide) (hts _ q1301) (fun _ h9 => h9) rfl (tyX12_ok 36 (by decide)) (nrw_z (by omega)) (fit_z (by omega)) (Nat.le_of_ble_eq_true rfl) dX12_chance_7 (fun H locs hP hD hS => ?_)
  have hP : va_P G gcl (wM am ty τ (up (up ρ 14 (sc (0))) 36 (sc (0))) ++ cs) H := hP
  have hD : va_D A (wM am ty τ (up (up ρ 14 (sc (0))) 36 (sc (0))) ++ cs) := hD
  refine lv_aload_n hx hb dX12_chance_10 rfl (lv_at hl 0 rfl) ?_
  refine li_iconst hx hb dX12_chance_11 ?_
  refine kM (va_runV (As := [.int (ii 1)]) (rest := []) ⟨hx, hb, hml, hown, hts⟩ ((m_seekM1 l G am ty τ (up (up ρ 14 (sc (0))) 36 (sc (0))) cs _ (show okF F from hF) (show Sim F τ from hSm) (show wfS (ρ 27) (ρ 28) from hSt) (show zerF F from hZ)) H.size) (cwV 1 hts (lw_V q1594 q1596 qs60 q87 q1597) rfl rfl rfl (by decide +kernel) ⟨Nat.le_of_ble_eq_true rfl, Nat.le_of_ble_eq_true rfl⟩) (pvM (r := (RX12, TX12, 52)) hK hP hD hX 0 (aM_0 _ _ _ _ _) rfl) rfl rfl hl.1 rfl (lv_room (Nat.le_of_ble_eq_true rfl)) dX12_chance_12 ⟨Nat.le_of_ble_eq_true rfl, Nat.le_of_ble_eq_true rfl⟩) hD hS hA (fun v ws1 H locs hv hP hD hS => ?_)
  obtain ⟨wT12, qT12, gm12, nm12, la12, me12, n812, qu12, qd12, rfl, rfl, hSt12, hSo12, hCL12, hnm12⟩ := hv
  have hP : va_P G gcl (wM am ty τ (up (up (up (up (up (up (up (up (up (up (up ρ 14 (sc (0))) 36 (sc (0))) 27 wT12) 28 qT12) 29 gm12) 30 (sc (nm12))) 31 la12) 32 me12) 33 (sc (n812))) 34 qu12) 35 qd12) ++ cs) H := hP
  have hD : va_D A (wM am ty τ (up (up (up (up (up (up (up (up (up (up (up ρ 14 (sc (0))) 36 (sc (0))) 27 wT12) 28 qT12) 29 gm12) 30 (sc (nm12))) 31 la12) 32 me12) 33 (sc (n812))) 34 qu12) 35 qd12) ++ cs) := hD
  have hSt12 : wfS wT12 qT12 := hSt12
  have hSo12 : Sought (EC F) (cdv (F 6) (F 7)) la12 me12 n812 := hSo12
  have hCL12 : LL (cand F) gm12 nm12 70000 := hCL12
  have hnm12 : 0 ≤ nm12 ∧ nm12 ≤ 2400 := hnm12
  have hn1 := hSo12.n1
  have hn2 := hSo12.toMet.n2
  have hclR := clR_C hW hSo12
  refine li_iconst hx hb dX12_chance_15 ?_
  refine lv_istore_n (lv' := [(1, .int (ii 0)), (0, .ref (am 0))]) hx hb dX12_chance_16 rfl hl (by decide) rfl (fun ls hl => ?_)
  have X17 : ∀ (k2 : Int) (wT : Int → Int) (qT : Int → Int) (s0 : Int → Int) (_ : wfS wT qT) (_ : chP F la12 s0) (H : Heap) (locs : List Loc) (_ : va_P G gcl (wM am ty τ (up (up (up (up (up (up (up (up (up (up (up (up ρ 14 (sc (0))) 36 (sc (0))) 29 gm12) 30 (sc (nm12))) 31 la12) 32 me12) 33 (sc (n812))) 34 qu12) 35 qd12) 27 wT) 28 qT) 41 s0) ++ cs) H) (_ : va_D A (wM am ty τ (up (up (up (up (up (up (up (up (up (up (up (up ρ 14 (sc (0))) 36 (sc (0))) 29 gm12) 30 (sc (nm12))) 31 la12) 32 me12) 33 (sc (n812))) 34 qu12) 35 qd12) 27 wT) 28 qT) 41 s0) ++ cs)) (_ : va_S A s.heap H locs) (ls : Array Slot), lv_has ls 4 [(0, .ref (am 0))] → W p l e (rm4 4 0 0 110) s m args below meth c H locs 0 0 Q (F0 m 62 ls []) := by
    intro k2 wT qT s0 hSt hCh H locs hP hD hS ls hl
    refine li_iconst hx hb dX12_chance_62 ?_
    refine lv_istore_n (lv' := [(1, .int (ii 1)), (0, .ref (am 0))]) hx hb dX12_chance_63 rfl hl (by decide) rfl (fun ls hl => ?_)
    have L64 : ∀ (n : Nat) (mo : Int) (wT : Int → Int) (qT : Int → Int) (su0 : Int → Int) (_ : wfS wT qT) (_ : mo = 0 ∨ mo = 1) (_ : chP F la12 su0) (_ : mo = 0 → stabC F me12 su0 (-1) n812) (_ : (2 * (4500000000 - smN (msk la12 su0) 4500) + mo).toNat < n) (H : Heap) (locs : List Loc) (_ : va_P G gcl (wM am ty τ (up (up (up (up (up (up (up (up (up (up (up (up ρ 14 (sc (0))) 36 (sc (0))) 29 gm12) 30 (sc (nm12))) 31 la12) 32 me12) 33 (sc (n812))) 34 qu12) 35 qd12) 27 wT) 28 qT) 41 su0) ++ cs) H) (_ : va_D A (wM am ty τ (up (up (up (up (up (up (up (up (up (up (up (up ρ 14 (sc (0))) 36 (sc (0))) 29 gm12) 30 (sc (nm12))) 31 la12) 32 me12) 33 (sc (n812))) 34 qu12) 35 qd12) 27 wT) 28 qT) 41 su0) ++ cs)) (_ : va_S A s.heap H locs) (ls : Array Slot), lv_has ls 4 [(1, .int (ii mo)), (0, .ref (am 0))] → W p l e (rm4 4 0 0 110) s m args below meth c H locs 0 0 Q (F0 m 64 ls []) := by
      intro n
      induction n with
      | zero =>
        intro mo wT qT su0 hSt hmo hCh hst hm
        exact absurd hm (Nat.not_lt_zero _)
      | succ n ih =>
        intro mo wT qT su0 hSt hmo hCh hst hm H locs hP hD hS ls hl
        have hsm := chM_b hCh
        refine lv_iload_n hx hb dX12_chance_64 rfl (lv_at hl 0 rfl) ?_
        refine li_if_eq (tgt := 149) hx hb ⟨by omega, by omega⟩ dX12_chance_65 (by decide) (fun c65 => ?_) (fun c65 => ?_)
        · refine lv_aload_n hx hb dX12_chance_149 rfl (lv_at hl 1 rfl) ?_
          refine va_get (D := G) (ci := 11) (v := .ref (am 26)) (C := RX12) (T := TX12) (N := 52) hx hb hts in_X12 hown hK hP 0 (aM_0 _ _ _ _ _) rfl 41 (by decide) (hts _ q1306) (fun _ h9 => h9) rfl dX12_chance_150 ?_
          refine lv_aload_n hx hb dX12_chance_153 rfl (lv_at hl 1 rfl) ?_
          refine kR (va_runV (As := []) (rest := [.ref (am 26)]) ⟨hx, hb, hml, hown, hts⟩ (m_stateNowM l G am ty τ (up (up (up (up (up (up (up (up (up (up (up (up ρ 14 (sc (0))) 36 (sc (0))) 29 gm12) 30 (sc (nm12))) 31 la12) 32 me12) 33 (sc (n812))) 34 qu12) 35 qd12) 27 wT) 28 qT) 41 su0) cs _ (show okF F from hF) (show Sim F τ from hSm) (show zerF F from hZ)) (cwV 0 hts (lw_V q1514 q1516 qs46 q87 q1517) rfl rfl rfl (by decide +kernel) ⟨Nat.le_of_ble_eq_true rfl, Nat.le_of_ble_eq_true rfl⟩) (pvR (r := (RX12, TX12, 52)) hK hP hD hX 0 (aM_0 _ _ _ _ _) rfl) rfl rfl hl.1 rfl (lv_room (Nat.le_of_ble_eq_true rfl)) dX12_chance_154 ⟨Nat.le_of_ble_eq_true rfl, Nat.le_of_ble_eq_true rfl⟩) (fun v hv => ?_)
          have hv := hv
          subst hv
          refine li_iald (g := su0) hx hb hK hP 26 0 (aM_26 _ _ _ _ _) rfl (by omega) (by omega) (by decide) dX12_chance_157 ?_
          exact eMi hQ hx hb hr hlk hP hD hS (Nat.le_of_ble_eq_true rfl) (Nat.le_of_ble_eq_true rfl) dX12_chance_158 (⟨su0 (cdv (F 6) (F 7)), wT, qT, gm12, nm12, la12, me12, n812, qu12, qd12, su0, rfl, rfl, hSt, CIx_0 hci.2.1, chP_e hSo12.toMet hclR hca hCh (hst c65)⟩)
        · refine li_iconst hx hb dX12_chance_68 ?_
          refine lv_istore_n (lv' := [(1, .int (ii 0)), (0, .ref (am 0))]) hx hb dX12_chance_69 rfl hl (by decide) rfl (fun ls hl => ?_)
          refine lv_aload_n hx hb dX12_chance_70 rfl (lv_at hl 1 rfl) ?_
          refine va_get (D := G) (ci := 11) (v := .int (ii n812)) (C := RX12) (T := TX12) (N := 52) hx hb hts in_X12 hown hK hP 0 (aM_0 _ _ _ _ _) rfl 33 (by decide) (hts _ q1298) (fun _ h9 => h9) rfl dX12_chance_71 ?_
          refine li_iconst hx hb dX12_chance_74 ?_
          refine li_sub hx hb dX12_chance_75 ?_
          refine lv_istore_n (lv' := [(2, .int (ii (n812 - 1))), (1, .int (ii 0)), (0, .ref (am 0))]) hx hb dX12_chance_76 rfl hl (by decide) rfl (fun ls hl => ?_)
          have X77 : ∀ (k3 : Int) (mp : Int) (wU : Int → Int) (qU : Int → Int) (su : Int → Int) (_ : wfS wU qU) (_ : mp = 0 ∨ mp = 1) (_ : (mp = 0 ∧ smN (msk la12 su) 4500 = smN (msk la12 su0) 4500) ∨ (mp = 1 ∧ smN (msk la12 su0) 4500 < smN (msk la12 su) 4500)) (_ : chP F la12 su) (_ : mp = 0 → stabC F me12 su (-1) n812) (H : Heap) (locs : List Loc) (_ : va_P G gcl (wM am ty τ (up (up (up (up (up (up (up (up (up (up (up (up ρ 14 (sc (0))) 36 (sc (0))) 29 gm12) 30 (sc (nm12))) 31 la12) 32 me12) 33 (sc (n812))) 34 qu12) 35 qd12) 27 wU) 28 qU) 41 su) ++ cs) H) (_ : va_D A (wM am ty τ (up (up (up (up (up (up (up (up (up (up (up (up ρ 14 (sc (0))) 36 (sc (0))) 29 gm12) 30 (sc (nm12))) 31 la12) 32 me12) 33 (sc (n812))) 34 qu12) 35 qd12) 27 wU) 28 qU) 41 su) ++ cs)) (_ : va_S A s.heap H locs) (ls : Array Slot), lv_has ls 4 [(1, .int (ii mp)), (0, .ref (am 0))] → W p l e (rm4 4 0 0 110) s m args below meth c H locs 0 0 Q (F0 m 146 ls []) := by
            intro k3 mp wU qU su hSt hmo2 hdec hCh hst H locs hP hD hS ls hl
            have hsm2 := chM_b hCh
            refine lv_goto (tgt := 64) hx hb dX12_chance_146 (by decide) ?_
            exact ih mp wU qU su (hSt) (by omega) (hCh) (hst) (by omega) H locs hP hD hS ls (lv_sub hl [0, 1] rfl)
          have L77 : ∀ (n : Nat) (k3 : Int) (mp : Int) (wU : Int → Int) (qU : Int → Int) (su : Int → Int) (_ : wfS wU qU) (_ : -1 ≤ k3) (_ : k3 < n812) (_ : (mp = 0 ∧ smN (msk la12 su) 4500 = smN (msk la12 su0) 4500) ∨ (mp = 1 ∧ smN (msk la12 su0) 4500 < smN (msk la12 su) 4500)) (_ : chP F la12 su) (_ : mp = 0 → stabC F me12 su k3 n812) (_ : (k3 + 1).toNat < n) (H : Heap) (locs : List Loc) (_ : va_P G gcl (wM am ty τ (up (up (up (up (up (up (up (up (up (up (up (up ρ 14 (sc (0))) 36 (sc (0))) 29 gm12) 30 (sc (nm12))) 31 la12) 32 me12) 33 (sc (n812))) 34 qu12) 35 qd12) 27 wU) 28 qU) 41 su) ++ cs) H) (_ : va_D A (wM am ty τ (up (up (up (up (up (up (up (up (up (up (up (up ρ 14 (sc (0))) 36 (sc (0))) 29 gm12) 30 (sc (nm12))) 31 la12) 32 me12) 33 (sc (n812))) 34 qu12) 35 qd12) 27 wU) 28 qU) 41 su) ++ cs)) (_ : va_S A s.heap H locs) (ls : Array Slot), lv_has ls 4 [(2, .int (ii k3)), (1, .int (ii mp)), (0, .ref (am 0))] → W p l e (rm4 4 0 0 110) s m args below meth c H locs 0 0 Q (F0 m 77 ls []) := by
            intro n
            induction n with
            | zero =>
              intro k3 mp wU qU su hSt hk3 hk4 hmp hCh hst hm
              exact absurd hm (Nat.not_lt_zero _)
            | succ n ih =>
              intro k3 mp wU qU su hSt hk3 hk4 hmp hCh hst hm H locs hP hD hS ls hl
              refine lv_iload_n hx hb dX12_chance_77 rfl (lv_at hl 0 rfl) ?_
              refine li_if_lt (tgt := 146) hx hb ⟨by omega, by omega⟩ dX12_chance_78 (by decide) (fun c78 => ?_) (fun c78 => ?_)
              · exact X77 k3 mp wU qU su (hSt) (by omega) (hmp) (hCh) (fun q => by have := hst q; rw [show k3 = -1 by omega] at this; exact this) H locs hP hD hS ls (lv_sub hl [1, 2] rfl)
              · have hmk := (hSo12.mt k3 c78 (by omega)).1
                have hmq := (hSo12.mt k3 c78 (by omega)).2
                obtain ⟨hmk0, hmk1⟩ := id hmk
                have hg01 := hCh.1 _ hmk hmq
                refine lv_aload_n hx hb dX12_chance_81 rfl (lv_at hl 2 rfl) ?_
                refine lv_aload_n hx hb dX12_chance_82 rfl (lv_at hl 2 rfl) ?_
                refine va_get (D := G) (ci := 11) (v := .ref (am 20)) (C := RX12) (T := TX12) (N := 52) hx hb hts in_X12 hown hK hP 0 (aM_0 _ _ _ _ _) rfl 32 (by decide) (hts _ q1297) (fun _ h9 => h9) rfl dX12_chance_83 ?_
                refine lv_iload_n hx hb dX12_chance_86 rfl (lv_at hl 0 rfl) ?_
                refine li_iald (g := me12) hx hb hK hP 20 0 (aM_20 _ _ _ _ _) rfl (by omega) (by omega) (by decide) dX12_chance_87 ?_
                refine kM (va_runV (As := [.int (ii (me12 k3))]) (rest := []) ⟨hx, hb, hml, hown, hts⟩ ((m_isDownStateM l G am ty τ (up (up (up (up (up (up (up (up (up (up (up (up ρ 14 (sc (0))) 36 (sc (0))) 29 gm12) 30 (sc (nm12))) 31 la12) 32 me12) 33 (sc (n812))) 34 qu12) 35 qd12) 27 wU) 28 qU) 41 su) cs (me12 k3) _ (show okF F from hF) (show Sim F τ from hSm) (show wfS wU qU from hSt) (show inSt (me12 k3) from hmk)) H.size) (cwV 1 hts (lw_V q1603 q1605 qs62 q87 q1606) rfl rfl rfl (by decide +kernel) ⟨Nat.le_of_ble_eq_true rfl, Nat.le_of_ble_eq_true rfl⟩) (pvM (r := (RX12, TX12, 52)) hK hP hD hX 0 (aM_0 _ _ _ _ _) rfl) rfl rfl hl.1 rfl (lv_room (Nat.le_of_ble_eq_true rfl)) dX12_chance_88 ⟨Nat.le_of_ble_eq_true rfl, Nat.le_of_ble_eq_true rfl⟩) hD hS hA (fun v ws1 H locs hv hP hD hS => ?_)
                obtain ⟨z88, wT88, qT88, rfl, rfl, hSt88, ⟨rfl, hb88⟩ | ⟨rfl, hb88⟩⟩ := hv
                · have hP : va_P G gcl (wM am ty τ (up (up (up (up (up (up (up (up (up (up (up (up ρ 14 (sc (0))) 36 (sc (0))) 29 gm12) 30 (sc (nm12))) 31 la12) 32 me12) 33 (sc (n812))) 34 qu12) 35 qd12) 41 su) 27 wT88) 28 qT88) ++ cs) H := hP
                  have hD : va_D A (wM am ty τ (up (up (up (up (up (up (up (up (up (up (up (up ρ 14 (sc (0))) 36 (sc (0))) 29 gm12) 30 (sc (nm12))) 31 la12) 32 me12) 33 (sc (n812))) 34 qu12) 35 qd12) 41 su) 27 wT88) 28 qT88) ++ cs) := hD
                  have hSt88 : wfS wT88 qT88 := hSt88
                  have hb88 : dn F (me12 k3) := hb88
                  refine li_if_eq (tgt := 100) hx hb ⟨by decide, by decide⟩ dX12_chance_91 (by decide) (fun c91 => ?_) (fun c91 => ?_)
                  · exact absurd c91 (by decide)
                  · have hdn1 := hCh.2.1 _ hmk hmq hb88
                    refine lv_ldcw (v := ii 1000000) hx hb hown (hts _ q1673) dX12_chance_94 ?_
                    refine lv_goto (tgt := 110) hx hb dX12_chance_97 (by decide) ?_
                    refine lv_istore_n (lv' := [(3, .int (ii 1000000)), (2, .int (ii k3)), (1, .int (ii mp)), (0, .ref (am 0))]) hx hb dX12_chance_110 rfl hl (by decide) rfl (fun ls hl => ?_)
                    refine lv_iload_n hx hb dX12_chance_111 rfl (lv_at hl 0 rfl) ?_
                    refine lv_aload_n hx hb dX12_chance_112 rfl (lv_at hl 3 rfl) ?_
                    refine va_get (D := G) (ci := 11) (v := .ref (am 26)) (C := RX12) (T := TX12) (N := 52) hx hb hts in_X12 hown hK hP 0 (aM_0 _ _ _ _ _) rfl 41 (by decide) (hts _ q1306) (fun _ h9 => h9) rfl dX12_chance_113 ?_
                    refine lv_aload_n hx hb dX12_chance_116 rfl (lv_at hl 3 rfl) ?_
                    refine va_get (D := G) (ci := 11) (v := .ref (am 20)) (C := RX12) (T := TX12) (N := 52) hx hb hts in_X12 hown hK hP 0 (aM_0 _ _ _ _ _) rfl 32 (by decide) (hts _ q1297) (fun _ h9 => h9) rfl dX12_chance_117 ?_
                    refine lv_iload_n hx hb dX12_chance_120 rfl (lv_at hl 1 rfl) ?_
                    refine li_iald (g := me12) hx hb hK hP 20 0 (aM_20 _ _ _ _ _) rfl (by omega) (by omega) (by decide) dX12_chance_121 ?_
                    refine li_iald (g := su) hx hb hK hP 26 0 (aM_26 _ _ _ _ _) rfl (by omega) (by omega) (by decide) dX12_chance_122 ?_
                    refine li_icmp_le (tgt := 140) hx hb ⟨by decide, by decide⟩ ⟨by omega, by omega⟩ dX12_chance_123 (by decide) (fun c123 => ?_) (fun c123 => ?_)
                    · refine li_iinc (a := k3) (lv' := [(2, .int (ii (k3 + (-1)))), (3, .int (ii 1000000)), (1, .int (ii mp)), (0, .ref (am 0))]) hx hb dX12_chance_140 hl (k := 1) rfl (by decide) rfl (fun ls hl => ?_)
                      refine lv_goto (tgt := 77) hx hb dX12_chance_143 (by decide) ?_
                      exact ih (k3 + (-1)) mp wT88 qT88 su (hSt88) (by omega) (by omega) (hmp) (hCh) (fun q => stabC_s (hst q) (.inl hdn1)) (by omega) H locs hP hD hS ls (lv_sub hl [0, 2, 3] rfl)
                    · exfalso
                      omega
                · have hP : va_P G gcl (wM am ty τ (up (up (up (up (up (up (up (up (up (up (up (up ρ 14 (sc (0))) 36 (sc (0))) 29 gm12) 30 (sc (nm12))) 31 la12) 32 me12) 33 (sc (n812))) 34 qu12) 35 qd12) 41 su) 27 wT88) 28 qT88) ++ cs) H := hP
                  have hD : va_D A (wM am ty τ (up (up (up (up (up (up (up (up (up (up (up (up ρ 14 (sc (0))) 36 (sc (0))) 29 gm12) 30 (sc (nm12))) 31 la12) 32 me12) 33 (sc (n812))) 34 qu12) 35 qd12) 41 su) 27 wT88) 28 qT88) ++ cs) := hD
                  have hSt88 : wfS wT88 qT88 := hSt88
                  have hb88 : ¬ dn F (me12 k3) := hb88
                  refine li_if_eq (tgt := 100) hx hb ⟨by decide, by decide⟩ dX12_chance_91 (by decide) (fun c91 => ?_) (fun c91 => ?_)
                  · refine lv_aload_n hx hb dX12_chance_100 rfl (lv_at hl 2 rfl) ?_
                    refine lv_aload_n hx hb dX12_chance_101 rfl (lv_at hl 2 rfl) ?_
                    refine va_get (D := G) (ci := 11) (v := .ref (am 20)) (C := RX12) (T := TX12) (N := 52) hx hb hts in_X12 hown hK hP 0 (aM_0 _ _ _ _ _) rfl 32 (by decide) (hts _ q1297) (fun _ h9 => h9) rfl dX12_chance_102 ?_
                    refine lv_iload_n hx hb dX12_chance_105 rfl (lv_at hl 0 rfl) ?_
                    refine li_iald (g := me12) hx hb hK hP 20 0 (aM_20 _ _ _ _ _) rfl (by omega) (by omega) (by decide) dX12_chance_106 ?_
                    refine kM (va_runV (As := [.int (ii (me12 k3))]) (rest := []) ⟨hx, hb, hml, hown, hts⟩ ((m_bestChanceM l G am ty τ (up (up (up (up (up (up (up (up (up (up (up (up ρ 14 (sc (0))) 36 (sc (0))) 29 gm12) 30 (sc (nm12))) 31 la12) 32 me12) 33 (sc (n812))) 34 qu12) 35 qd12) 41 su) 27 wT88) 28 qT88) cs (me12 k3) _ 0 (show okF F from hF) (show Sim F τ from hSm) (show wfS wT88 qT88 from hSt88) (show inSt (me12 k3) from hmk) (show LL (cand F) gm12 nm12 70000 from hCL12) (show 0 ≤ nm12 ∧ nm12 ≤ 2400 from hnm12) (show clR F (fun c => la12 c ≠ FARc) from hclR) (show la12 (me12 k3) ≠ FARc from hmq) (show ∀ c, inSt c → la12 c ≠ FARc → 0 ≤ su c ∧ su c ≤ 1000000 from hCh.1) (show 0 ≤ F 11 0 ∧ F 11 0 ≤ 100 from hca)) H.size) (cwV 1 hts (lw_V q1674 q1676 qs71 q87 q1677) rfl rfl rfl (by decide +kernel) ⟨Nat.le_of_ble_eq_true rfl, Nat.le_of_ble_eq_true rfl⟩) (pvM (r := (RX12, TX12, 52)) hK hP hD hX 0 (aM_0 _ _ _ _ _) rfl) rfl rfl hl.1 rfl (lv_room (Nat.le_of_ble_eq_true rfl)) dX12_chance_107 ⟨Nat.le_of_ble_eq_true rfl, Nat.le_of_ble_eq_true rfl⟩) hD hS hA (fun v ws1 H locs hv hP hD hS => ?_)
                    obtain ⟨z107, wT107, qT107, rfl, rfl, hSt107, hz107⟩ := hv
                    have hP : va_P G gcl (wM am ty τ (up (up (up (up (up (up (up (up (up (up (up (up ρ 14 (sc (0))) 36 (sc (0))) 29 gm12) 30 (sc (nm12))) 31 la12) 32 me12) 33 (sc (n812))) 34 qu12) 35 qd12) 41 su) 27 wT107) 28 qT107) ++ cs) H := hP
                    have hD : va_D A (wM am ty τ (up (up (up (up (up (up (up (up (up (up (up (up ρ 14 (sc (0))) 36 (sc (0))) 29 gm12) 30 (sc (nm12))) 31 la12) 32 me12) 33 (sc (n812))) 34 qu12) 35 qd12) 41 su) 27 wT107) 28 qT107) ++ cs) := hD
                    have hSt107 : wfS wT107 qT107 := hSt107
                    have hz107 : surP F su (me12 k3) z107 := hz107
                    refine lv_istore_n (lv' := [(3, .int (ii z107)), (2, .int (ii k3)), (1, .int (ii mp)), (0, .ref (am 0))]) hx hb dX12_chance_110 rfl hl (by decide) rfl (fun ls hl => ?_)
                    have hzb : 0 ≤ z107 ∧ z107 ≤ 1000000 := ⟨hz107.1, hz107.2.1⟩
                    refine lv_iload_n hx hb dX12_chance_111 rfl (lv_at hl 0 rfl) ?_
                    refine lv_aload_n hx hb dX12_chance_112 rfl (lv_at hl 3 rfl) ?_
                    refine va_get (D := G) (ci := 11) (v := .ref (am 26)) (C := RX12) (T := TX12) (N := 52) hx hb hts in_X12 hown hK hP 0 (aM_0 _ _ _ _ _) rfl 41 (by decide) (hts _ q1306) (fun _ h9 => h9) rfl dX12_chance_113 ?_
                    refine lv_aload_n hx hb dX12_chance_116 rfl (lv_at hl 3 rfl) ?_
                    refine va_get (D := G) (ci := 11) (v := .ref (am 20)) (C := RX12) (T := TX12) (N := 52) hx hb hts in_X12 hown hK hP 0 (aM_0 _ _ _ _ _) rfl 32 (by decide) (hts _ q1297) (fun _ h9 => h9) rfl dX12_chance_117 ?_
                    refine lv_iload_n hx hb dX12_chance_120 rfl (lv_at hl 1 rfl) ?_
                    refine li_iald (g := me12) hx hb hK hP 20 0 (aM_20 _ _ _ _ _) rfl (by omega) (by omega) (by decide) dX12_chance_121 ?_
                    refine li_iald (g := su) hx hb hK hP 26 0 (aM_26 _ _ _ _ _) rfl (by omega) (by omega) (by decide) dX12_chance_122 ?_
                    refine li_icmp_le (tgt := 140) hx hb (surP_rg hz107) ⟨by omega, by omega⟩ dX12_chance_123 (by decide) (fun c123 => ?_) (fun c123 => ?_)
                    · refine li_iinc (a := k3) (lv' := [(2, .int (ii (k3 + (-1)))), (3, .int (ii z107)), (1, .int (ii mp)), (0, .ref (am 0))]) hx hb dX12_chance_140 hl (k := 1) rfl (by decide) rfl (fun ls hl => ?_)
                      refine lv_goto (tgt := 77) hx hb dX12_chance_143 (by decide) ?_
                      exact ih (k3 + (-1)) mp wT107 qT107 su (hSt107) (by omega) (by omega) (hmp) (hCh) (fun q => stabC_s (hst q) (.inr (fun m hm => Int.le_trans (hz107.2.2.1 m hm) c123))) (by omega) H locs hP hD hS ls (lv_sub hl [0, 2, 3] rfl)
                    · refine lv_aload_n hx hb dX12_chance_126 rfl (lv_at hl 3 rfl) ?_
                      refine va_get (D := G) (ci := 11) (v := .ref (am 26)) (C := RX12) (T := TX12) (N := 52) hx hb hts in_X12 hown hK hP 0 (aM_0 _ _ _ _ _) rfl 41 (by decide) (hts _ q1306) (fun _ h9 => h9) rfl dX12_chance_127 ?_
                      refine lv_aload_n hx hb dX12_chance_130 rfl (lv_at hl 3 rfl) ?_
                      refine va_get (D := G) (ci := 11) (v := .ref (am 20)) (C := RX12) (T := TX12) (N := 52) hx hb hts in_X12 hown hK hP 0 (aM_0 _ _ _ _ _) rfl 32 (by decide) (hts _ q1297) (fun _ h9 => h9) rfl dX12_chance_131 ?_
                      refine lv_iload_n hx hb dX12_chance_134 rfl (lv_at hl 1 rfl) ?_
                      refine li_iald (g := me12) hx hb hK hP 20 0 (aM_20 _ _ _ _ _) rfl (by omega) (by omega) (by decide) dX12_chance_135 ?_
                      refine lv_iload_n hx hb dX12_chance_136 rfl (lv_at hl 0 rfl) ?_
                      refine li_iast (g := su) (W2 := wM am ty τ (up (up (up (up (up (up (up (up (up (up (up (up ρ 14 (sc (0))) 36 (sc (0))) 29 gm12) 30 (sc (nm12))) 31 la12) 32 me12) 33 (sc (n812))) 34 qu12) 35 qd12) 27 wT107) 28 qT107) 41 (ug su (me12 k3) z107)) ++ cs) hx hb hK hP hD hS 26 0 (aM_26 _ _ _ _ _) rfl (by omega) (by omega) (by decide) rfl dX12_chance_137 (fun H locs hP hD hS => ?_)
                      refine li_iconst hx hb dX12_chance_138 ?_
                      refine lv_istore_n (lv' := [(1, .int (ii 1)), (3, .int (ii z107)), (2, .int (ii k3)), (0, .ref (am 0))]) hx hb dX12_chance_139 rfl hl (by decide) rfl (fun ls hl => ?_)
                      refine li_iinc (a := k3) (lv' := [(2, .int (ii (k3 + (-1)))), (1, .int (ii 1)), (3, .int (ii z107)), (0, .ref (am 0))]) hx hb dX12_chance_140 hl (k := 2) rfl (by decide) rfl (fun ls hl => ?_)
                      refine lv_goto (tgt := 77) hx hb dX12_chance_143 (by decide) ?_
                      exact ih (k3 + (-1)) 1 wT107 qT107 (ug su (me12 k3) z107) (hSt107) (by omega) (by omega) (by have := chM_s (lab := la12) (u := su) hmk hmq c123; rw [upper_r c123] at this; omega) (by have h := chP_s (s := 0) (n := 0) (met := la12) hCh hclR hca hmk hmq hz107; rw [upper_r c123] at h; exact h) (fun q => by omega) (by omega) H locs hP hD hS ls (lv_sub hl [0, 1, 3] rfl)
                  · exact absurd c91 (by decide)
          exact L77 _ (n812 - 1) 0 wT qT su0 (hSt) (by omega) (by omega) (.inl ⟨rfl, rfl⟩) (hCh) (fun _ => stabC_0 _ _ _ _) (Nat.lt_succ_self _) H locs hP hD hS ls (lv_sub hl [0, 1, 2] rfl)
    exact L64 _ 1 wT qT s0 (hSt) (.inr rfl) (hCh) (fun q => by omega) (Nat.lt_succ_self _) H locs hP hD hS ls (lv_sub hl [0, 1] rfl)
  have L17 : ∀ (n : Nat) (k2 : Int) (wT : Int → Int) (qT : Int → Int) (s0 : Int → Int) (_ : wfS wT qT) (_ : 0 ≤ k2) (_ : k2 ≤ n812) (_ : chI (dn F) me12 k2 s0) (_ : (n812 - k2).toNat < n) (H : Heap) (locs : List Loc) (_ : va_P G gcl (wM am ty τ (up (up (up (up (up (up (up (up (up (up (up (up ρ 14 (sc (0))) 36 (sc (0))) 29 gm12) 30 (sc (nm12))) 31 la12) 32 me12) 33 (sc (n812))) 34 qu12) 35 qd12) 27 wT) 28 qT) 41 s0) ++ cs) H) (_ : va_D A (wM am ty τ (up (up (up (up (up (up (up (up (up (up (up (up ρ 14 (sc (0))) 36 (sc (0))) 29 gm12) 30 (sc (nm12))) 31 la12) 32 me12) 33 (sc (n812))) 34 qu12) 35 qd12) 27 wT) 28 qT) 41 s0) ++ cs)) (_ : va_S A s.heap H locs) (ls : Array Slot), lv_has ls 4 [(1, .int (ii k2)), (0, .ref (am 0))] → W p l e (rm4 4 0 0 110) s m args below meth c H locs 0 0 Q (F0 m 17 ls []) := by
    intro n
    induction n with
    | zero =>
      intro k2 wT qT s0 hSt hk0 hk1 hchi hm
      exact absurd hm (Nat.not_lt_zero _)
    | succ n ih =>
      intro k2 wT qT s0 hSt hk0 hk1 hchi hm H locs hP hD hS ls hl
      refine lv_iload_n hx hb dX12_chance_17 rfl (lv_at hl 0 rfl) ?_
      refine lv_aload_n hx hb dX12_chance_18 rfl (lv_at hl 1 rfl) ?_
      refine va_get (D := G) (ci := 11) (v := .int (ii n812)) (C := RX12) (T := TX12) (N := 52) hx hb hts in_X12 hown hK hP 0 (aM_0 _ _ _ _ _) rfl 33 (by decide) (hts _ q1298) (fun _ h9 => h9) rfl dX12_chance_19 ?_
      refine li_icmp_ge (tgt := 62) hx hb ⟨by omega, by omega⟩ ⟨by omega, by omega⟩ dX12_chance_22 (by decide) (fun c22 => ?_) (fun c22 => ?_)
      · exact X17 k2 wT qT s0 (hSt) (chI_e hSo12 hchi (by omega)) H locs hP hD hS ls (lv_sub hl [1] rfl)
      · have hmk := (hSo12.mt k2 hk0 c22).1
        obtain ⟨hmk0, hmk1⟩ := id hmk
        refine lv_aload_n hx hb dX12_chance_25 rfl (lv_at hl 1 rfl) ?_
        refine va_get (D := G) (ci := 11) (v := .ref (am 26)) (C := RX12) (T := TX12) (N := 52) hx hb hts in_X12 hown hK hP 0 (aM_0 _ _ _ _ _) rfl 41 (by decide) (hts _ q1306) (fun _ h9 => h9) rfl dX12_chance_26 ?_
        refine lv_aload_n hx hb dX12_chance_29 rfl (lv_at hl 1 rfl) ?_
        refine va_get (D := G) (ci := 11) (v := .ref (am 20)) (C := RX12) (T := TX12) (N := 52) hx hb hts in_X12 hown hK hP 0 (aM_0 _ _ _ _ _) rfl 32 (by decide) (hts _ q1297) (fun _ h9 => h9) rfl dX12_chance_30 ?_
        refine lv_iload_n hx hb dX12_chance_33 rfl (lv_at hl 0 rfl) ?_
        refine li_iald (g := me12) hx hb hK hP 20 0 (aM_20 _ _ _ _ _) rfl (by omega) (by omega) (by decide) dX12_chance_34 ?_
        refine lv_aload_n hx hb dX12_chance_35 rfl (lv_at hl 1 rfl) ?_
        refine lv_aload_n hx hb dX12_chance_36 rfl (lv_at hl 1 rfl) ?_
        refine va_get (D := G) (ci := 11) (v := .ref (am 20)) (C := RX12) (T := TX12) (N := 52) hx hb hts in_X12 hown hK hP 0 (aM_0 _ _ _ _ _) rfl 32 (by decide) (hts _ q1297) (fun _ h9 => h9) rfl dX12_chance_37 ?_
        refine lv_iload_n hx hb dX12_chance_40 rfl (lv_at hl 0 rfl) ?_
        refine li_iald (g := me12) hx hb hK hP 20 0 (aM_20 _ _ _ _ _) rfl (by omega) (by omega) (by decide) dX12_chance_41 ?_
        refine kM (va_runV (As := [.int (ii (me12 k2))]) (rest := [.int (ii (me12 k2)), .ref (am 26)]) ⟨hx, hb, hml, hown, hts⟩ ((m_isDownStateM l G am ty τ (up (up (up (up (up (up (up (up (up (up (up (up ρ 14 (sc (0))) 36 (sc (0))) 29 gm12) 30 (sc (nm12))) 31 la12) 32 me12) 33 (sc (n812))) 34 qu12) 35 qd12) 27 wT) 28 qT) 41 s0) cs (me12 k2) _ (show okF F from hF) (show Sim F τ from hSm) (show wfS wT qT from hSt) (show inSt (me12 k2) from hmk)) H.size) (cwV 1 hts (lw_V q1603 q1605 qs62 q87 q1606) rfl rfl rfl (by decide +kernel) ⟨Nat.le_of_ble_eq_true rfl, Nat.le_of_ble_eq_true rfl⟩) (pvM (r := (RX12, TX12, 52)) hK hP hD hX 0 (aM_0 _ _ _ _ _) rfl) rfl rfl hl.1 rfl (lv_room (Nat.le_of_ble_eq_true rfl)) dX12_chance_42 ⟨Nat.le_of_ble_eq_true rfl, Nat.le_of_ble_eq_true rfl⟩) hD hS hA (fun v ws1 H locs hv hP hD hS => ?_)
        obtain ⟨z42, wT42, qT42, rfl, rfl, hSt42, ⟨rfl, hb42⟩ | ⟨rfl, hb42⟩⟩ := hv
        · have hP : va_P G gcl (wM am ty τ (up (up (up (up (up (up (up (up (up (up (up (up ρ 14 (sc (0))) 36 (sc (0))) 29 gm12) 30 (sc (nm12))) 31 la12) 32 me12) 33 (sc (n812))) 34 qu12) 35 qd12) 41 s0) 27 wT42) 28 qT42) ++ cs) H := hP
          have hD : va_D A (wM am ty τ (up (up (up (up (up (up (up (up (up (up (up (up ρ 14 (sc (0))) 36 (sc (0))) 29 gm12) 30 (sc (nm12))) 31 la12) 32 me12) 33 (sc (n812))) 34 qu12) 35 qd12) 41 s0) 27 wT42) 28 qT42) ++ cs) := hD
          have hSt42 : wfS wT42 qT42 := hSt42
          have hb42 : dn F (me12 k2) := hb42
          refine li_if_eq (tgt := 54) hx hb ⟨by decide, by decide⟩ dX12_chance_45 (by decide) (fun c45 => ?_) (fun c45 => ?_)
          · exact absurd c45 (by decide)
          · refine lv_ldcw (v := ii 1000000) hx hb hown (hts _ q1673) dX12_chance_48 ?_
            refine lv_goto (tgt := 55) hx hb dX12_chance_51 (by decide) ?_
            refine li_iast (g := s0) (W2 := wM am ty τ (up (up (up (up (up (up (up (up (up (up (up (up ρ 14 (sc (0))) 36 (sc (0))) 29 gm12) 30 (sc (nm12))) 31 la12) 32 me12) 33 (sc (n812))) 34 qu12) 35 qd12) 27 wT42) 28 qT42) 41 (ug s0 (me12 k2) 1000000)) ++ cs) hx hb hK hP hD hS 26 0 (aM_26 _ _ _ _ _) rfl (by omega) (by omega) (by decide) rfl dX12_chance_55 (fun H locs hP hD hS => ?_)
            refine li_iinc (a := k2) (lv' := [(1, .int (ii (k2 + 1))), (0, .ref (am 0))]) hx hb dX12_chance_56 hl (k := 0) rfl (by decide) rfl (fun ls hl => ?_)
            refine lv_goto (tgt := 17) hx hb dX12_chance_59 (by decide) ?_
            exact ih (k2 + 1) wT42 qT42 (ug s0 (me12 k2) 1000000) (hSt42) (by omega) (by omega) (chI_s hchi hb42) (by omega) H locs hP hD hS ls (lv_sub hl [0, 1] rfl)
        · have hP : va_P G gcl (wM am ty τ (up (up (up (up (up (up (up (up (up (up (up (up ρ 14 (sc (0))) 36 (sc (0))) 29 gm12) 30 (sc (nm12))) 31 la12) 32 me12) 33 (sc (n812))) 34 qu12) 35 qd12) 41 s0) 27 wT42) 28 qT42) ++ cs) H := hP
          have hD : va_D A (wM am ty τ (up (up (up (up (up (up (up (up (up (up (up (up ρ 14 (sc (0))) 36 (sc (0))) 29 gm12) 30 (sc (nm12))) 31 la12) 32 me12) 33 (sc (n812))) 34 qu12) 35 qd12) 41 s0) 27 wT42) 28 qT42) ++ cs) := hD
          have hSt42 : wfS wT42 qT42 := hSt42
          have hb42 : ¬ dn F (me12 k2) := hb42
          refine li_if_eq (tgt := 54) hx hb ⟨by decide, by decide⟩ dX12_chance_45 (by decide) (fun c45 => ?_) (fun c45 => ?_)
          · refine li_iconst hx hb dX12_chance_54 ?_
            refine li_iast (g := s0) (W2 := wM am ty τ (up (up (up (up (up (up (up (up (up (up (up (up ρ 14 (sc (0))) 36 (sc (0))) 29 gm12) 30 (sc (nm12))) 31 la12) 32 me12) 33 (sc (n812))) 34 qu12) 35 qd12) 27 wT42) 28 qT42) 41 (ug s0 (me12 k2) 0)) ++ cs) hx hb hK hP hD hS 26 0 (aM_26 _ _ _ _ _) rfl (by omega) (by omega) (by decide) rfl dX12_chance_55 (fun H locs hP hD hS => ?_)
            refine li_iinc (a := k2) (lv' := [(1, .int (ii (k2 + 1))), (0, .ref (am 0))]) hx hb dX12_chance_56 hl (k := 0) rfl (by decide) rfl (fun ls hl => ?_)
            refine lv_goto (tgt := 17) hx hb dX12_chance_59 (by decide) ?_
            exact ih (k2 + 1) wT42 qT42 (ug s0 (me12 k2) 0) (hSt42) (by omega) (by omega) (chI_n hchi hb42) (by omega) H locs hP hD hS ls (lv_sub hl [0, 1] rfl)
          · exact absurd c45 (by decide)
  exact L17 _ 0 wT12 qT12 (ρ 41) (hSt12) (by omega) (by have := hSo12.n1; omega) (chI_0 _ _ _) (Nat.lt_succ_self _) H locs hP hD hS ls (lv_sub hl [0, 1] rfl)
set_option maxHeartbeats 4000000 in
theorem m_wayFromM (l : Launch) (G : va_G) (am : Nat → Nat) (ty : Nat → ClassId) (τ ρ : mem) (cs : va_W) (c1 : Int) (F : mem) (s1 : Int) (hF : okF F) (hSm : Sim F τ) (hSt : wfS (ρ 27) (ρ 28)) (hc : inSt c1) (hCL : LL (cand F) (ρ 29) (ρ 30 0) 70000) (hnm : 0 ≤ (ρ 30 0) ∧ (ρ 30 0) ≤ 2400) (hSo : Sought (EF F) s1 (ρ 31) (ρ 32) (ρ 33 0)) (hmf : (ρ 31) c1 ≠ FARc) (hgb : ∀ c, inSt c → (ρ 31) c ≠ FARc → (ρ 38) c = 0 ∨ (ρ 38) c = 1) : cM l yX12_wayFrom (ws_ yX12_wayFrom cX12_wayFrom 5 (some .int)) (rm4 3 0 0 81) G ty (wM am ty τ ρ ++ cs) [.ref (am 0), .int (ii c1)] 0 0 (fun r W' => ∃ (z : Int) (wT : Int → Int) (qT : Int → Int), r = some (.int (ii z)) ∧ W' = wM am ty τ (up (up ρ 27 wT) 28 qT) ++ cs ∧ (wfS wT qT) ∧ (leastM (wayM F (ρ 31) (ρ 38) c1) z) ∧ (-4 ≤ z ∧ z ≤ 70000)) := by
  refine cM.of (by decide) (Nat.le_of_ble_eq_true rfl) ?_
  intro p e s m args below meth c A Q H locs hQ hx hb hr hml hown hlk hname hts hK hP hD hS hA hX ls hl
  have hl : lv_has ls 5 [(0, .ref (am 0)), (1, .int (ii c1))] := hl
  obtain ⟨hW, hWS, hlg⟩ := id hF
  obtain ⟨hw0, hw1, hw2, hw3, hw4, hw5, h8a, h8b, h9a, h9b, h10a, h10b⟩ := id hW
  obtain ⟨mL, mP, mR, mC, mK, mM, mA, mB, mD⟩ := id hSm
  refine lv_aload_n hx hb dX12_wayFrom_0 rfl (lv_at hl 0 rfl) ?_
  refine lv_iload_n hx hb dX12_wayFrom_1 rfl (lv_at hl 1 rfl) ?_
  refine kM (va_runV (As := [.int (ii c1)]) (rest := []) ⟨hx, hb, hml, hown, hts⟩ ((m_openM l G am ty τ ρ cs c1 (show inSt c1 from hc)) H.size) (cwV 1 hts (lw_V q1518 q1520 qs47 q87 q1521) rfl rfl rfl (by decide +kernel) ⟨Nat.le_of_ble_eq_true rfl, Nat.le_of_ble_eq_true rfl⟩) (pvM (r := (RX12, TX12, 52)) hK hP hD hX 0 (aM_0 _ _ _ _ _) rfl) rfl rfl hl.1 rfl (lv_room (Nat.le_of_ble_eq_true rfl)) dX12_wayFrom_2 ⟨Nat.le_of_ble_eq_true rfl, Nat.le_of_ble_eq_true rfl⟩) hD hS hA (fun v ws1 H locs hv hP hD hS => ?_)
  obtain ⟨rfl, rfl, hal2⟩ := hv
  have hP : va_P G gcl (wM am ty τ (up (up ρ 27 (dcw c1 (ρ 27))) 28 (dcq c1 (ρ 28))) ++ cs) H := hP
  have hD : va_D A (wM am ty τ (up (up ρ 27 (dcw c1 (ρ 27))) 28 (dcq c1 (ρ 28))) ++ cs) := hD
  have hal2 : alike (dcw c1 (ρ 27)) (dcq c1 (ρ 28)) (stW c1) (stQ c1) := hal2
  have hS1 : wfS (dcw c1 (ρ 27)) (dcq c1 (ρ 28)) := ⟨dcw_b hSt.1, dcq_b hSt.2⟩
  refine li_iconst hx hb dX12_wayFrom_5 ?_
  refine lv_istore_n (lv' := [(2, .int (ii 0)), (0, .ref (am 0)), (1, .int (ii c1))]) hx hb dX12_wayFrom_6 rfl hl (by decide) rfl (fun ls hl => ?_)
  have L7 : ∀ (n : Nat) (k1 : Int) (wU : Int → Int) (qU : Int → Int) (_ : wfS wU qU) (_ : alike wU qU (stW c1) (stQ c1)) (_ : 0 ≤ k1) (_ : k1 ≤ ρ 30 0) (_ : seenI (cand F) (fun m => ¬ wayM F (ρ 31) (ρ 38) c1 m) k1) (_ : (ρ 30 0 - k1).toNat < n) (H : Heap) (locs : List Loc) (_ : va_P G gcl (wM am ty τ (up (up ρ 27 wU) 28 qU) ++ cs) H) (_ : va_D A (wM am ty τ (up (up ρ 27 wU) 28 qU) ++ cs)) (_ : va_S A s.heap H locs) (ls : Array Slot), lv_has ls 5 [(2, .int (ii k1)), (0, .ref (am 0)), (1, .int (ii c1))] → W p l e (rm4 3 0 0 81) s m args below meth c H locs 0 0 Q (F0 m 7 ls []) := by
    intro n
    induction n with
    | zero =>
      intro k1 wU qU hSt hal hk0 hk1 hse hm
      exact absurd hm (Nat.not_lt_zero _)
    | succ n ih =>
      intro k1 wU qU hSt hal hk0 hk1 hse hm H locs hP hD hS ls hl
      refine lv_iload_n hx hb dX12_wayFrom_7 rfl (lv_at hl 0 rfl) ?_
      refine lv_aload_n hx hb dX12_wayFrom_8 rfl (lv_at hl 1 rfl) ?_
      refine va_get (D := G) (ci := 11) (v := .int (ii (ρ 30 0))) (C := RX12) (T := TX12) (N := 52) hx hb hts in_X12 hown hK hP 0 (aM_0 _ _ _ _ _) rfl 30 (by decide) (hts _ q1295) (fun _ h9 => h9) rfl dX12_wayFrom_9 ?_
      refine li_icmp_ge (tgt := 93) hx hb ⟨by omega, by omega⟩ ⟨by omega, by omega⟩ dX12_wayFrom_12 (by decide) (fun c12 => ?_) (fun c12 => ?_)
      · refine li_bipush hx hb dX12_wayFrom_93 (by decide) ?_
        exact eMi hQ hx hb hr hlk hP hD hS (Nat.le_of_ble_eq_true rfl) (Nat.le_of_ble_eq_true rfl) dX12_wayFrom_95 (⟨-4, wU, qU, rfl, rfl, hSt, leastM_no (fun m q => (seenI_all hse hCL cand_b (by omega)) m (leg_cand hW q.1) q), ⟨by decide, by decide⟩⟩)
      · obtain ⟨ha0, ha1, hcd, hcn⟩ := LL_at hCL (by decide) hk0 c12
        have hdd := isT_m hcd.1
        have hm00 := hcd.1.1
        have hm01 := hcd.1.2.1
        have hvb := mvV_b hW hcd.1
        refine lv_aload_n hx hb dX12_wayFrom_15 rfl (lv_at hl 1 rfl) ?_
        refine lv_aload_n hx hb dX12_wayFrom_16 rfl (lv_at hl 1 rfl) ?_
        refine va_get (D := G) (ci := 11) (v := .ref (am 18)) (C := RX12) (T := TX12) (N := 52) hx hb hts in_X12 hown hK hP 0 (aM_0 _ _ _ _ _) rfl 29 (by decide) (hts _ q1294) (fun _ h9 => h9) rfl dX12_wayFrom_17 ?_
        refine lv_iload_n hx hb dX12_wayFrom_20 rfl (lv_at hl 0 rfl) ?_
        refine li_iald (g := (ρ 29)) hx hb hK hP 18 0 (aM_18 _ _ _ _ _) rfl (by omega) (by omega) (by decide) dX12_wayFrom_21 ?_
        refine kR (va_runV (As := [.int (ii (ρ 29 k1))]) (rest := []) ⟨hx, hb, hml, hown, hts⟩ (m_minutesOfM l G am ty τ (up (up ρ 27 wU) 28 qU) cs (ρ 29 k1) _ (show okF F from hF) (show Sim F τ from hSm) (show wfS wU qU from hSt) (show isT (ρ 29 k1) from hcd.1)) (cwV 1 hts (lw_V q1522 q1524 qs48 q87 q1525) rfl rfl rfl (by decide +kernel) ⟨Nat.le_of_ble_eq_true rfl, Nat.le_of_ble_eq_true rfl⟩) (pvR (r := (RX12, TX12, 52)) hK hP hD hX 0 (aM_0 _ _ _ _ _) rfl) rfl rfl hl.1 rfl (lv_room (Nat.le_of_ble_eq_true rfl)) dX12_wayFrom_22 ⟨Nat.le_of_ble_eq_true rfl, Nat.le_of_ble_eq_true rfl⟩) (fun v hv => ?_)
        obtain ⟨z22, rfl, hz22⟩ := hv
        have hz22 : (mvOk F wU qU (ρ 29 k1) ∧ z22 = mvV F (ρ 29 k1)) ∨ (¬ mvOk F wU qU (ρ 29 k1) ∧ z22 = -1) := hz22
        have hzr22 : -1 ≤ z22 ∧ z22 ≤ 312 := mz_b hW (hcd.1) hz22
        refine lv_istore_n (lv' := [(3, .int (ii z22)), (2, .int (ii k1)), (0, .ref (am 0)), (1, .int (ii c1))]) hx hb dX12_wayFrom_25 rfl hl (by decide) rfl (fun ls hl => ?_)
        refine lv_iload_n hx hb dX12_wayFrom_26 rfl (lv_at hl 0 rfl) ?_
        refine li_if_lt (tgt := 87) hx hb (rg4 ⟨Int.le_trans (by decide) hzr22.1, Int.le_trans hzr22.2 (by decide)⟩) dX12_wayFrom_27 (by decide) (fun c27 => ?_) (fun c27 => ?_)
        · refine li_iinc (a := k1) (lv' := [(2, .int (ii (k1 + 1))), (3, .int (ii z22)), (0, .ref (am 0)), (1, .int (ii c1))]) hx hb dX12_wayFrom_87 hl (k := 1) rfl (by decide) rfl (fun ls hl => ?_)
          refine lv_goto (tgt := 7) hx hb dX12_wayFrom_90 (by decide) ?_
          exact ih (k1 + 1) wU qU (hSt) (hal) (by omega) (by omega) (seenI_s hse cand_n hcd hcn (fun q => absurd q.1 (fun q => (hz22.resolve_left (fun r => by have := r.2; omega)).1 (((congrFun (lgl_al hal) _).mpr q).2)))) (by omega) H locs hP hD hS ls (lv_sub hl [0, 2, 3] rfl)
        · obtain ⟨hok, hval⟩ := hz22.resolve_right (fun q => by omega)
          have hleg : leg F c1 (ρ 29 k1) := (congrFun (lgl_al hal) _).mp ⟨hcd.1, hok⟩
          obtain ⟨hnx, hnl⟩ := hSo.next hW hc hmf hleg
          have hq01 := hgb _ hnx hnl
          obtain ⟨hnx0, hnx1⟩ := id hnx
          have hSn := nx_wf hcd.1 hSt
          have hr1 := hSo.toMet.rg hc
          have hr2 := hSo.toMet.rg hnx
          refine lv_aload_n hx hb dX12_wayFrom_30 rfl (lv_at hl 2 rfl) ?_
          refine lv_aload_n hx hb dX12_wayFrom_31 rfl (lv_at hl 2 rfl) ?_
          refine va_get (D := G) (ci := 11) (v := .ref (am 18)) (C := RX12) (T := TX12) (N := 52) hx hb hts in_X12 hown hK hP 0 (aM_0 _ _ _ _ _) rfl 29 (by decide) (hts _ q1294) (fun _ h9 => h9) rfl dX12_wayFrom_32 ?_
          refine lv_iload_n hx hb dX12_wayFrom_35 rfl (lv_at hl 1 rfl) ?_
          refine li_iald (g := (ρ 29)) hx hb hK hP 18 0 (aM_18 _ _ _ _ _) rfl (by omega) (by omega) (by decide) dX12_wayFrom_36 ?_
          refine li_iconst hx hb dX12_wayFrom_37 ?_
          refine kM (va_runV (As := [.int (ii (ρ 29 k1)), .int (ii 0)]) (rest := []) ⟨hx, hb, hml, hown, hts⟩ ((m_makeM0 l G am ty τ (up (up ρ 27 wU) 28 qU) cs (ρ 29 k1) _ (show okF F from hF) (show Sim F τ from hSm) (show wfS wU qU from hSt) (show isT (ρ 29 k1) from hcd.1) (show (ρ 29 k1) / 1000 % 10 < p2 (F 9 0) from cand_p2 h9a h9b hcd) (show (ρ 29 k1) / 10000 = 3 → (ρ 29 k1) / 100 % 10 = 0 from cand_r3 hcd)) H.size) (cwV 2 hts (lw_V q1550 q1552 qs53 q87 q1553) rfl rfl rfl (by decide +kernel) ⟨Nat.le_of_ble_eq_true rfl, Nat.le_of_ble_eq_true rfl⟩) (pvM (r := (RX12, TX12, 52)) hK hP hD hX 0 (aM_0 _ _ _ _ _) rfl) rfl rfl hl.1 rfl (lv_room (Nat.le_of_ble_eq_true rfl)) dX12_wayFrom_38 ⟨Nat.le_of_ble_eq_true rfl, Nat.le_of_ble_eq_true rfl⟩) hD hS hA (fun v ws1 H locs hv hP hD hS => ?_)
          obtain ⟨rfl, rfl⟩ := hv
          have hP : va_P G gcl (wM am ty τ (up (up ρ 27 (mvw ((ρ 29 k1) / 1000 % 10) ((ρ 29 k1) % 10) wU)) 28 ((mvq ((ρ 29 k1) / 10000) ((ρ 29 k1) / 100 % 10) ((ρ 29 k1) % 10) qU))) ++ cs) H := hP
          have hD : va_D A (wM am ty τ (up (up ρ 27 (mvw ((ρ 29 k1) / 1000 % 10) ((ρ 29 k1) % 10) wU)) 28 ((mvq ((ρ 29 k1) / 10000) ((ρ 29 k1) / 100 % 10) ((ρ 29 k1) % 10) qU))) ++ cs) := hD
          refine lv_aload_n hx hb dX12_wayFrom_41 rfl (lv_at hl 2 rfl) ?_
          refine kR (va_runV (As := []) (rest := []) ⟨hx, hb, hml, hown, hts⟩ (m_closedM l G am ty τ (up (up ρ 27 (mvw ((ρ 29 k1) / 1000 % 10) ((ρ 29 k1) % 10) wU)) 28 ((mvq ((ρ 29 k1) / 10000) ((ρ 29 k1) / 100 % 10) ((ρ 29 k1) % 10) qU))) cs (show wfS (mvw ((ρ 29 k1) / 1000 % 10) ((ρ 29 k1) % 10) wU) ((mvq ((ρ 29 k1) / 10000) ((ρ 29 k1) / 100 % 10) ((ρ 29 k1) % 10) qU)) from nx_wf hcd.1 hSt)) (cwV 0 hts (lw_V q1599 q1601 qs61 q87 q1602) rfl rfl rfl (by decide +kernel) ⟨Nat.le_of_ble_eq_true rfl, Nat.le_of_ble_eq_true rfl⟩) (pvR (r := (RX12, TX12, 52)) hK hP hD hX 0 (aM_0 _ _ _ _ _) rfl) rfl rfl hl.1 rfl (lv_room (Nat.le_of_ble_eq_true rfl)) dX12_wayFrom_42 ⟨Nat.le_of_ble_eq_true rfl, Nat.le_of_ble_eq_true rfl⟩) (fun v hv => ?_)
          have hv := hv
          subst hv
          refine li_topx (z := nx c1 (ρ 29 k1)) (congrArg ii (nxS_al _ hal)) ?_
          refine lv_istore (lv' := [(4, .int (ii (nx c1 (ρ 29 k1)))), (3, .int (ii z22)), (2, .int (ii k1)), (0, .ref (am 0)), (1, .int (ii c1))]) hx hb dX12_wayFrom_45 hl (by decide) rfl (fun ls hl => ?_)
          refine lv_aload_n hx hb dX12_wayFrom_47 rfl (lv_at hl 3 rfl) ?_
          refine lv_iload_n hx hb dX12_wayFrom_48 rfl (lv_at hl 4 rfl) ?_
          refine kM (va_runV (As := [.int (ii c1)]) (rest := []) ⟨hx, hb, hml, hown, hts⟩ ((m_openM l G am ty τ (up (up ρ 27 (mvw ((ρ 29 k1) / 1000 % 10) ((ρ 29 k1) % 10) wU)) 28 ((mvq ((ρ 29 k1) / 10000) ((ρ 29 k1) / 100 % 10) ((ρ 29 k1) % 10) qU))) cs c1 (show inSt c1 from hc)) H.size) (cwV 1 hts (lw_V q1518 q1520 qs47 q87 q1521) rfl rfl rfl (by decide +kernel) ⟨Nat.le_of_ble_eq_true rfl, Nat.le_of_ble_eq_true rfl⟩) (pvM (r := (RX12, TX12, 52)) hK hP hD hX 0 (aM_0 _ _ _ _ _) rfl) rfl rfl hl.1 rfl (lv_room (Nat.le_of_ble_eq_true rfl)) dX12_wayFrom_49 ⟨Nat.le_of_ble_eq_true rfl, Nat.le_of_ble_eq_true rfl⟩) hD hS hA (fun v ws1 H locs hv hP hD hS => ?_)
          obtain ⟨rfl, rfl, hal49⟩ := hv
          have hP : va_P G gcl (wM am ty τ (up (up ρ 27 (dcw c1 (mvw ((ρ 29 k1) / 1000 % 10) ((ρ 29 k1) % 10) wU))) 28 (dcq c1 ((mvq ((ρ 29 k1) / 10000) ((ρ 29 k1) / 100 % 10) ((ρ 29 k1) % 10) qU)))) ++ cs) H := hP
          have hD : va_D A (wM am ty τ (up (up ρ 27 (dcw c1 (mvw ((ρ 29 k1) / 1000 % 10) ((ρ 29 k1) % 10) wU))) 28 (dcq c1 ((mvq ((ρ 29 k1) / 10000) ((ρ 29 k1) / 100 % 10) ((ρ 29 k1) % 10) qU)))) ++ cs) := hD
          have hal49 : alike (dcw c1 (mvw ((ρ 29 k1) / 1000 % 10) ((ρ 29 k1) % 10) wU)) (dcq c1 ((mvq ((ρ 29 k1) / 10000) ((ρ 29 k1) / 100 % 10) ((ρ 29 k1) % 10) qU))) (stW c1) (stQ c1) := hal49
          have hS3 : wfS (dcw c1 (mvw (ρ 29 k1 / 1000 % 10) (ρ 29 k1 % 10) wU)) (dcq c1 (mvq (ρ 29 k1 / 10000) (ρ 29 k1 / 100 % 10) (ρ 29 k1 % 10) qU)) := ⟨dcw_b hSn.1, dcq_b hSn.2⟩
          refine lv_aload_n hx hb dX12_wayFrom_52 rfl (lv_at hl 3 rfl) ?_
          refine va_get (D := G) (ci := 11) (v := .ref (am 23)) (C := RX12) (T := TX12) (N := 52) hx hb hts in_X12 hown hK hP 0 (aM_0 _ _ _ _ _) rfl 38 (by decide) (hts _ q1303) (fun _ h9 => h9) rfl dX12_wayFrom_53 ?_
          refine lv_iload hx hb dX12_wayFrom_56 (lv_at hl 0 rfl) ?_
          refine li_zald (g := (ρ 38)) hx hb hK hP 23 1 (aM_23 _ _ _ _ _) rfl (by omega) (by omega) (by decide) dX12_wayFrom_58 ?_
          refine li_if_eq (tgt := 87) hx hb ⟨by omega, by omega⟩ dX12_wayFrom_59 (by decide) (fun c59 => ?_) (fun c59 => ?_)
          · refine li_iinc (a := k1) (lv' := [(2, .int (ii (k1 + 1))), (4, .int (ii (nx c1 (ρ 29 k1)))), (3, .int (ii z22)), (0, .ref (am 0)), (1, .int (ii c1))]) hx hb dX12_wayFrom_87 hl (k := 2) rfl (by decide) rfl (fun ls hl => ?_)
            refine lv_goto (tgt := 7) hx hb dX12_wayFrom_90 (by decide) ?_
            exact ih (k1 + 1) (dcw c1 (mvw ((ρ 29 k1) / 1000 % 10) ((ρ 29 k1) % 10) wU)) (dcq c1 ((mvq ((ρ 29 k1) / 10000) ((ρ 29 k1) / 100 % 10) ((ρ 29 k1) % 10) qU))) (hS3) (alike_dc _ _ _) (by omega) (by omega) (seenI_s hse cand_n hcd hcn (fun q => by have h1 := q.2.1; have h2 := q.2.2; omega)) (by omega) H locs hP hD hS ls (lv_sub hl [0, 3, 4] rfl)
          · refine lv_aload_n hx hb dX12_wayFrom_62 rfl (lv_at hl 3 rfl) ?_
            refine va_get (D := G) (ci := 11) (v := .ref (am 19)) (C := RX12) (T := TX12) (N := 52) hx hb hts in_X12 hown hK hP 0 (aM_0 _ _ _ _ _) rfl 31 (by decide) (hts _ q1296) (fun _ h9 => h9) rfl dX12_wayFrom_63 ?_
            refine lv_iload_n hx hb dX12_wayFrom_66 rfl (lv_at hl 4 rfl) ?_
            refine li_iald (g := (ρ 31)) hx hb hK hP 19 0 (aM_19 _ _ _ _ _) rfl (by omega) (by omega) (by decide) dX12_wayFrom_67 ?_
            refine lv_iload_n hx hb dX12_wayFrom_68 rfl (lv_at hl 1 rfl) ?_
            refine li_add hx hb dX12_wayFrom_69 ?_
            refine lv_aload_n hx hb dX12_wayFrom_70 rfl (lv_at hl 3 rfl) ?_
            refine va_get (D := G) (ci := 11) (v := .ref (am 19)) (C := RX12) (T := TX12) (N := 52) hx hb hts in_X12 hown hK hP 0 (aM_0 _ _ _ _ _) rfl 31 (by decide) (hts _ q1296) (fun _ h9 => h9) rfl dX12_wayFrom_71 ?_
            refine lv_iload hx hb dX12_wayFrom_74 (lv_at hl 0 rfl) ?_
            refine li_iald (g := (ρ 31)) hx hb hK hP 19 0 (aM_19 _ _ _ _ _) rfl (by omega) (by omega) (by decide) dX12_wayFrom_76 ?_
            refine li_icmp_ne (tgt := 87) hx hb ⟨by omega, by omega⟩ ⟨by omega, by omega⟩ dX12_wayFrom_77 (by decide) (fun c77 => ?_) (fun c77 => ?_)
            · refine li_iinc (a := k1) (lv' := [(2, .int (ii (k1 + 1))), (4, .int (ii (nx c1 (ρ 29 k1)))), (3, .int (ii z22)), (0, .ref (am 0)), (1, .int (ii c1))]) hx hb dX12_wayFrom_87 hl (k := 2) rfl (by decide) rfl (fun ls hl => ?_)
              refine lv_goto (tgt := 7) hx hb dX12_wayFrom_90 (by decide) ?_
              exact ih (k1 + 1) (dcw c1 (mvw ((ρ 29 k1) / 1000 % 10) ((ρ 29 k1) % 10) wU)) (dcq c1 ((mvq ((ρ 29 k1) / 10000) ((ρ 29 k1) / 100 % 10) ((ρ 29 k1) % 10) qU))) (hS3) (alike_dc _ _ _) (by omega) (by omega) (seenI_s hse cand_n hcd hcn (fun q => by have h1 := q.2.1; have h2 := q.2.2; omega)) (by omega) H locs hP hD hS ls (lv_sub hl [0, 3, 4] rfl)
            · refine lv_aload_n hx hb dX12_wayFrom_80 rfl (lv_at hl 3 rfl) ?_
              refine va_get (D := G) (ci := 11) (v := .ref (am 18)) (C := RX12) (T := TX12) (N := 52) hx hb hts in_X12 hown hK hP 0 (aM_0 _ _ _ _ _) rfl 29 (by decide) (hts _ q1294) (fun _ h9 => h9) rfl dX12_wayFrom_81 ?_
              refine lv_iload_n hx hb dX12_wayFrom_84 rfl (lv_at hl 2 rfl) ?_
              refine li_iald (g := (ρ 29)) hx hb hK hP 18 0 (aM_18 _ _ _ _ _) rfl (by omega) (by omega) (by decide) dX12_wayFrom_85 ?_
              exact eMi hQ hx hb hr hlk hP hD hS (Nat.le_of_ble_eq_true rfl) (Nat.le_of_ble_eq_true rfl) dX12_wayFrom_86 (⟨ρ 29 k1, (dcw c1 (mvw ((ρ 29 k1) / 1000 % 10) ((ρ 29 k1) % 10) wU)), (dcq c1 ((mvq ((ρ 29 k1) / 10000) ((ρ 29 k1) / 100 % 10) ((ρ 29 k1) % 10) qU))), rfl, rfl, hS3, leastM_hit hse (fun m q => leg_cand hW q.1) cand_n ⟨hleg, by omega, by omega⟩ hcn, ⟨by omega, by omega⟩⟩)
  exact L7 _ 0 (dcw c1 (ρ 27)) (dcq c1 (ρ 28)) (hS1) (hal2) (by omega) (by omega) (seenI_0 _ cand_n) (Nat.lt_succ_self _) H locs hP hD hS ls (lv_sub hl [0, 1, 2] rfl)
set_option maxHeartbeats 4000000 in
theorem m_firstM (l : Launch) (G : va_G) (am : Nat → Nat) (ty : Nat → ClassId) (τ ρ : mem) (cs : va_W)  (F : mem) (hF : okF F) (hSm : Sim F τ) (hSt : wfS (ρ 27) (ρ 28)) (hZ : zerF F) (hci : CIx F (ρ 36 0) (ρ 37 0) (ρ 31) (ρ 32) (ρ 33 0) (ρ 29) (ρ 30 0) (ρ 39)) : cM l yX12_first (ws_ yX12_first cX12_first 5 (some .int)) (rm4 6 0 0 153) G ty (wM am ty τ ρ ++ cs) [.ref (am 0)] 0 0 (fun r W' => ∃ (z : Int) (wT : Int → Int) (qT : Int → Int) (gm : Int → Int) (nm : Int) (la : Int → Int) (me : Int → Int) (n8 : Int) (qu : Int → Int) (qd : Int → Int) (is : Int) (il : Int) (ow : Int → Int), r = some (.int (ii z)) ∧ W' = wM am ty τ (up (up (up (up (up (up (up (up (up (up (up (up (up ρ 14 (sc (0))) 27 wT) 28 qT) 29 gm) 30 (sc (nm))) 31 la) 32 me) 33 (sc (n8))) 34 qu) 35 qd) 36 (sc (is))) 37 (sc (il))) 38 ow) ++ cs ∧ (wfS wT qT) ∧ (CIx F is il la me n8 gm nm (ρ 39)) ∧ (FirstP F (cdv (F 6) (F 7)) z)) := by
  refine cM.of (by decide) (Nat.le_of_ble_eq_true rfl) ?_
  intro p e s m args below meth c A Q H locs hQ hx hb hr hml hown hlk hname hts hK hP hD hS hA hX ls hl
  have hl : lv_has ls 5 [(0, .ref (am 0))] := hl
  obtain ⟨hW, hWS, hlg⟩ := id hF
  obtain ⟨hw0, hw1, hw2, hw3, hw4, hw5, h8a, h8b, h9a, h9b, h10a, h10b⟩ := id hW
  obtain ⟨mL, mP, mR, mC, mK, mM, mA, mB, mD⟩ := id hSm
  have hst0 := (cdv_dig hWS.1 hWS.2).1
  obtain ⟨hsta, hstb⟩ := id hst0
  refine lv_aload_n hx hb dX12_first_0 rfl (lv_at hl 0 rfl) ?_
  refine li_iconst hx hb dX12_first_1 ?_
  refine va_put (D := G) (ci := 11) (v := .int (ii 0)) (ty := .int) (C := RX12) (T := TX12) (N := 52) hx hb hts in_X12 tyX12 tyX12_ok nmX12 hown hK hP hD hS 0 (aM_0 _ _ _ _ _) rfl 14 (by decide) (hts _ q1279) (fun _ h9 => h9) rfl (tyX12_ok 14 (by decide)) rfl rfl (Nat.le_of_ble_eq_true rfl) dX12_first_2 (fun H locs hP hD hS => ?_)
  have hP : va_P G gcl (wM am ty τ (up ρ 14 (sc (0))) ++ cs) H := hP
  have hD : va_D A (wM am ty τ (up ρ 14 (sc (0))) ++ cs) := hD
  refine lv_aload_n hx hb dX12_first_5 rfl (lv_at hl 0 rfl) ?_
  refine kM (va_runV (As := []) (rest := []) ⟨hx, hb, hml, hown, hts⟩ ((m_soonestNowM l G am ty τ (up ρ 14 (sc (0))) cs _ (show okF F from hF) (show Sim F τ from hSm) (show wfS (ρ 27) (ρ 28) from hSt) (show zerF F from hZ) (show CIx F (ρ 36 0) (ρ 37 0) (ρ 31) (ρ 32) (ρ 33 0) (ρ 29) (ρ 30 0) (ρ 39) from hci)) H.size) (cwV 0 hts (lw_V q1586 q1588 qs58 q87 q1589) rfl rfl rfl (by decide +kernel) ⟨Nat.le_of_ble_eq_true rfl, Nat.le_of_ble_eq_true rfl⟩) (pvM (r := (RX12, TX12, 52)) hK hP hD hX 0 (aM_0 _ _ _ _ _) rfl) rfl rfl hl.1 rfl (lv_room (Nat.le_of_ble_eq_true rfl)) dX12_first_6 ⟨Nat.le_of_ble_eq_true rfl, Nat.le_of_ble_eq_true rfl⟩) hD hS hA (fun v ws1 H locs hv hP hD hS => ?_)
  obtain ⟨z6, wT6, qT6, gm6, nm6, la6, me6, n86, qu6, qd6, is6, il6, rfl, rfl, hSt6, hSo6, hCL6, hnm6, hci6, hi16, hil6, hz6, hzr6⟩ := hv
  have hP : va_P G gcl (wM am ty τ (up (up (up (up (up (up (up (up (up (up (up (up ρ 14 (sc (0))) 27 wT6) 28 qT6) 29 gm6) 30 (sc (nm6))) 31 la6) 32 me6) 33 (sc (n86))) 34 qu6) 35 qd6) 36 (sc (is6))) 37 (sc (il6))) ++ cs) H := hP
  have hD : va_D A (wM am ty τ (up (up (up (up (up (up (up (up (up (up (up (up ρ 14 (sc (0))) 27 wT6) 28 qT6) 29 gm6) 30 (sc (nm6))) 31 la6) 32 me6) 33 (sc (n86))) 34 qu6) 35 qd6) 36 (sc (is6))) 37 (sc (il6))) ++ cs) := hD
  have hSt6 : wfS wT6 qT6 := hSt6
  have hSo6 : Sought (EF F) (cdv (F 6) (F 7)) la6 me6 n86 := hSo6
  have hCL6 : LL (cand F) gm6 nm6 70000 := hCL6
  have hnm6 : 0 ≤ nm6 ∧ nm6 ≤ 2400 := hnm6
  have hci6 : CIx F is6 il6 la6 me6 n86 gm6 nm6 (ρ 39) := hci6
  have hi16 : is6 = 1 := hi16
  have hil6 : il6 = 0 ∨ il6 = 1 := hil6
  have hz6 : soonP (dn F) la6 z6 := hz6
  have hzr6 : -4 ≤ z6 ∧ z6 ≤ 1000000000 := hzr6
  have hn1 := hSo6.n1
  have hn2 := hSo6.toMet.n2
  refine lv_istore_n (lv' := [(1, .int (ii z6)), (0, .ref (am 0))]) hx hb dX12_first_9 rfl hl (by decide) rfl (fun ls hl => ?_)
  refine lv_iload_n hx hb dX12_first_10 rfl (lv_at hl 0 rfl) ?_
  refine li_if_gt (tgt := 17) hx hb (rg4 hzr6) dX12_first_11 (by decide) (fun c11 => ?_) (fun c11 => ?_)
  · refine li_iconst hx hb dX12_first_17 ?_
    refine lv_istore_n (lv' := [(2, .int (ii 0)), (1, .int (ii z6)), (0, .ref (am 0))]) hx hb dX12_first_18 rfl hl (by decide) rfl (fun ls hl => ?_)
    have X19 : ∀ (k2 : Int) (wT : Int → Int) (qT : Int → Int) (g1 : Int → Int) (_ : wfS wT qT) (_ : ∀ c, inSt c → la6 c ≠ FARc → g1 c = 0 ∨ g1 c = 1) (_ : owP F la6 z6 g1) (H : Heap) (locs : List Loc) (_ : va_P G gcl (wM am ty τ (up (up (up (up (up (up (up (up (up (up (up (up (up ρ 14 (sc (0))) 29 gm6) 30 (sc (nm6))) 31 la6) 32 me6) 33 (sc (n86))) 34 qu6) 35 qd6) 36 (sc (is6))) 37 (sc (il6))) 27 wT) 28 qT) 38 g1) ++ cs) H) (_ : va_D A (wM am ty τ (up (up (up (up (up (up (up (up (up (up (up (up (up ρ 14 (sc (0))) 29 gm6) 30 (sc (nm6))) 31 la6) 32 me6) 33 (sc (n86))) 34 qu6) 35 qd6) 36 (sc (is6))) 37 (sc (il6))) 27 wT) 28 qT) 38 g1) ++ cs)) (_ : va_S A s.heap H locs) (ls : Array Slot), lv_has ls 5 [(1, .int (ii z6)), (0, .ref (am 0))] → W p l e (rm4 6 0 0 153) s m args below meth c H locs 0 0 Q (F0 m 77 ls []) := by
      intro k2 wT qT g1 hSt hgc hgS H locs hP hD hS ls hl
      refine li_iconst hx hb dX12_first_77 ?_
      refine lv_istore_n (lv' := [(2, .int (ii 1)), (1, .int (ii z6)), (0, .ref (am 0))]) hx hb dX12_first_78 rfl hl (by decide) rfl (fun ls hl => ?_)
      have L79 : ∀ (n : Nat) (mo : Int) (wT : Int → Int) (qT : Int → Int) (gc0 : Int → Int) (_ : wfS wT qT) (_ : mo = 0 ∨ mo = 1) (_ : ∀ c, inSt c → la6 c ≠ FARc → gc0 c = 0 ∨ gc0 c = 1) (_ : owP F la6 z6 gc0) (_ : mo = 0 → stabW F la6 me6 gc0 z6 (-1) n86) (_ : (2 * (4500 - smN (msk la6 gc0) 4500) + mo).toNat < n) (H : Heap) (locs : List Loc) (_ : va_P G gcl (wM am ty τ (up (up (up (up (up (up (up (up (up (up (up (up (up ρ 14 (sc (0))) 29 gm6) 30 (sc (nm6))) 31 la6) 32 me6) 33 (sc (n86))) 34 qu6) 35 qd6) 36 (sc (is6))) 37 (sc (il6))) 27 wT) 28 qT) 38 gc0) ++ cs) H) (_ : va_D A (wM am ty τ (up (up (up (up (up (up (up (up (up (up (up (up (up ρ 14 (sc (0))) 29 gm6) 30 (sc (nm6))) 31 la6) 32 me6) 33 (sc (n86))) 34 qu6) 35 qd6) 36 (sc (is6))) 37 (sc (il6))) 27 wT) 28 qT) 38 gc0) ++ cs)) (_ : va_S A s.heap H locs) (ls : Array Slot), lv_has ls 5 [(2, .int (ii mo)), (1, .int (ii z6)), (0, .ref (am 0))] → W p l e (rm4 6 0 0 153) s m args below meth c H locs 0 0 Q (F0 m 79 ls []) := by
        intro n
        induction n with
        | zero =>
          intro mo wT qT gc0 hSt hmo hgc hgS hst hm
          exact absurd hm (Nat.not_lt_zero _)
        | succ n ih =>
          intro mo wT qT gc0 hSt hmo hgc hgS hst hm H locs hP hD hS ls hl
          have hsm := sm_le (msk_01 hgc)
          refine lv_iload_n hx hb dX12_first_79 rfl (lv_at hl 0 rfl) ?_
          refine li_if_eq (tgt := 153) hx hb ⟨by omega, by omega⟩ dX12_first_80 (by decide) (fun c80 => ?_) (fun c80 => ?_)
          · refine lv_aload_n hx hb dX12_first_153 rfl (lv_at hl 2 rfl) ?_
            refine lv_aload_n hx hb dX12_first_154 rfl (lv_at hl 2 rfl) ?_
            refine kR (va_runV (As := []) (rest := [.ref (am 0)]) ⟨hx, hb, hml, hown, hts⟩ (m_stateNowM l G am ty τ (up (up (up (up (up (up (up (up (up (up (up (up (up ρ 14 (sc (0))) 29 gm6) 30 (sc (nm6))) 31 la6) 32 me6) 33 (sc (n86))) 34 qu6) 35 qd6) 36 (sc (is6))) 37 (sc (il6))) 27 wT) 28 qT) 38 gc0) cs _ (show okF F from hF) (show Sim F τ from hSm) (show zerF F from hZ)) (cwV 0 hts (lw_V q1514 q1516 qs46 q87 q1517) rfl rfl rfl (by decide +kernel) ⟨Nat.le_of_ble_eq_true rfl, Nat.le_of_ble_eq_true rfl⟩) (pvR (r := (RX12, TX12, 52)) hK hP hD hX 0 (aM_0 _ _ _ _ _) rfl) rfl rfl hl.1 rfl (lv_room (Nat.le_of_ble_eq_true rfl)) dX12_first_155 ⟨Nat.le_of_ble_eq_true rfl, Nat.le_of_ble_eq_true rfl⟩) (fun v hv => ?_)
            have hv := hv
            subst hv
            refine kM (va_runV (As := [.int (ii (cdv (F 6) (F 7)))]) (rest := []) ⟨hx, hb, hml, hown, hts⟩ ((m_wayFromM l G am ty τ (up (up (up (up (up (up (up (up (up (up (up (up (up ρ 14 (sc (0))) 29 gm6) 30 (sc (nm6))) 31 la6) 32 me6) 33 (sc (n86))) 34 qu6) 35 qd6) 36 (sc (is6))) 37 (sc (il6))) 27 wT) 28 qT) 38 gc0) cs (cdv (F 6) (F 7)) _ (cdv (F 6) (F 7)) (show okF F from hF) (show Sim F τ from hSm) (show wfS wT qT from hSt) (show inSt (cdv (F 6) (F 7)) from hst0) (show LL (cand F) gm6 nm6 70000 from hCL6) (show 0 ≤ nm6 ∧ nm6 ≤ 2400 from hnm6) (show Sought (EF F) (cdv (F 6) (F 7)) la6 me6 n86 from hSo6) (show la6 (cdv (F 6) (F 7)) ≠ FARc from (by rw [hSo6.h0]; decide)) (show ∀ c, inSt c → la6 c ≠ FARc → gc0 c = 0 ∨ gc0 c = 1 from hgc)) H.size) (cwV 1 hts (lw_V q1611 q1613 qs63 q87 q1614) rfl rfl rfl (by decide +kernel) ⟨Nat.le_of_ble_eq_true rfl, Nat.le_of_ble_eq_true rfl⟩) (pvM (r := (RX12, TX12, 52)) hK hP hD hX 0 (aM_0 _ _ _ _ _) rfl) rfl rfl hl.1 rfl (lv_room (Nat.le_of_ble_eq_true rfl)) dX12_first_158 ⟨Nat.le_of_ble_eq_true rfl, Nat.le_of_ble_eq_true rfl⟩) hD hS hA (fun v ws1 H locs hv hP hD hS => ?_)
            obtain ⟨z158, wT158, qT158, rfl, rfl, hSt158, hz158, hzr158⟩ := hv
            have hP : va_P G gcl (wM am ty τ (up (up (up (up (up (up (up (up (up (up (up (up (up ρ 14 (sc (0))) 29 gm6) 30 (sc (nm6))) 31 la6) 32 me6) 33 (sc (n86))) 34 qu6) 35 qd6) 36 (sc (is6))) 37 (sc (il6))) 38 gc0) 27 wT158) 28 qT158) ++ cs) H := hP
            have hD : va_D A (wM am ty τ (up (up (up (up (up (up (up (up (up (up (up (up (up ρ 14 (sc (0))) 29 gm6) 30 (sc (nm6))) 31 la6) 32 me6) 33 (sc (n86))) 34 qu6) 35 qd6) 36 (sc (is6))) 37 (sc (il6))) 38 gc0) 27 wT158) 28 qT158) ++ cs) := hD
            have hSt158 : wfS wT158 qT158 := hSt158
            have hz158 : leastM (wayM F la6 gc0 (cdv (F 6) (F 7))) z158 := hz158
            have hzr158 : -4 ≤ z158 ∧ z158 ≤ 70000 := hzr158
            exact eMi hQ hx hb hr hlk hP hD hS (Nat.le_of_ble_eq_true rfl) (Nat.le_of_ble_eq_true rfl) dX12_first_161 (⟨z158, wT158, qT158, gm6, nm6, la6, me6, n86, qu6, qd6, is6, il6, gc0, rfl, rfl, hSt158, hci6, first_of hW hSo6 hz6 (by omega) hgS (hst c80) hz158⟩)
          · refine li_iconst hx hb dX12_first_83 ?_
            refine lv_istore_n (lv' := [(2, .int (ii 0)), (1, .int (ii z6)), (0, .ref (am 0))]) hx hb dX12_first_84 rfl hl (by decide) rfl (fun ls hl => ?_)
            refine lv_aload_n hx hb dX12_first_85 rfl (lv_at hl 2 rfl) ?_
            refine va_get (D := G) (ci := 11) (v := .int (ii n86)) (C := RX12) (T := TX12) (N := 52) hx hb hts in_X12 hown hK hP 0 (aM_0 _ _ _ _ _) rfl 33 (by decide) (hts _ q1298) (fun _ h9 => h9) rfl dX12_first_86 ?_
            refine li_iconst hx hb dX12_first_89 ?_
            refine li_sub hx hb dX12_first_90 ?_
            refine lv_istore_n (lv' := [(3, .int (ii (n86 - 1))), (2, .int (ii 0)), (1, .int (ii z6)), (0, .ref (am 0))]) hx hb dX12_first_91 rfl hl (by decide) rfl (fun ls hl => ?_)
            have X92 : ∀ (k3 : Int) (mp : Int) (wU : Int → Int) (qU : Int → Int) (gc : Int → Int) (_ : wfS wU qU) (_ : mp = 0 ∨ mp = 1) (_ : (mp = 0 ∧ smN (msk la6 gc) 4500 = smN (msk la6 gc0) 4500) ∨ (mp = 1 ∧ smN (msk la6 gc0) 4500 < smN (msk la6 gc) 4500)) (_ : ∀ c, inSt c → la6 c ≠ FARc → gc c = 0 ∨ gc c = 1) (_ : owP F la6 z6 gc) (_ : mp = 0 → stabW F la6 me6 gc z6 (-1) n86) (H : Heap) (locs : List Loc) (_ : va_P G gcl (wM am ty τ (up (up (up (up (up (up (up (up (up (up (up (up (up ρ 14 (sc (0))) 29 gm6) 30 (sc (nm6))) 31 la6) 32 me6) 33 (sc (n86))) 34 qu6) 35 qd6) 36 (sc (is6))) 37 (sc (il6))) 27 wU) 28 qU) 38 gc) ++ cs) H) (_ : va_D A (wM am ty τ (up (up (up (up (up (up (up (up (up (up (up (up (up ρ 14 (sc (0))) 29 gm6) 30 (sc (nm6))) 31 la6) 32 me6) 33 (sc (n86))) 34 qu6) 35 qd6) 36 (sc (is6))) 37 (sc (il6))) 27 wU) 28 qU) 38 gc) ++ cs)) (_ : va_S A s.heap H locs) (ls : Array Slot), lv_has ls 5 [(2, .int (ii mp)), (1, .int (ii z6)), (0, .ref (am 0))] → W p l e (rm4 6 0 0 153) s m args below meth c H locs 0 0 Q (F0 m 150 ls []) := by
              intro k3 mp wU qU gc hSt hmo2 hdec hgc hgS hst H locs hP hD hS ls hl
              have hsm2 := sm_le (msk_01 hgc)
              refine lv_goto (tgt := 79) hx hb dX12_first_150 (by decide) ?_
              exact ih mp wU qU gc (hSt) (by omega) (hgc) (hgS) (hst) (by omega) H locs hP hD hS ls (lv_sub hl [0, 1, 2] rfl)
            have L92 : ∀ (n : Nat) (k3 : Int) (mp : Int) (wU : Int → Int) (qU : Int → Int) (gc : Int → Int) (_ : wfS wU qU) (_ : -1 ≤ k3) (_ : k3 < n86) (_ : (mp = 0 ∧ smN (msk la6 gc) 4500 = smN (msk la6 gc0) 4500) ∨ (mp = 1 ∧ smN (msk la6 gc0) 4500 < smN (msk la6 gc) 4500)) (_ : ∀ c, inSt c → la6 c ≠ FARc → gc c = 0 ∨ gc c = 1) (_ : owP F la6 z6 gc) (_ : mp = 0 → stabW F la6 me6 gc z6 k3 n86) (_ : (k3 + 1).toNat < n) (H : Heap) (locs : List Loc) (_ : va_P G gcl (wM am ty τ (up (up (up (up (up (up (up (up (up (up (up (up (up ρ 14 (sc (0))) 29 gm6) 30 (sc (nm6))) 31 la6) 32 me6) 33 (sc (n86))) 34 qu6) 35 qd6) 36 (sc (is6))) 37 (sc (il6))) 27 wU) 28 qU) 38 gc) ++ cs) H) (_ : va_D A (wM am ty τ (up (up (up (up (up (up (up (up (up (up (up (up (up ρ 14 (sc (0))) 29 gm6) 30 (sc (nm6))) 31 la6) 32 me6) 33 (sc (n86))) 34 qu6) 35 qd6) 36 (sc (is6))) 37 (sc (il6))) 27 wU) 28 qU) 38 gc) ++ cs)) (_ : va_S A s.heap H locs) (ls : Array Slot), lv_has ls 5 [(3, .int (ii k3)), (2, .int (ii mp)), (1, .int (ii z6)), (0, .ref (am 0))] → W p l e (rm4 6 0 0 153) s m args below meth c H locs 0 0 Q (F0 m 92 ls []) := by
              intro n
              induction n with
              | zero =>
                intro k3 mp wU qU gc hSt hk3 hk4 hmp hgc hgS hst hm
                exact absurd hm (Nat.not_lt_zero _)
              | succ n ih =>
                intro k3 mp wU qU gc hSt hk3 hk4 hmp hgc hgS hst hm H locs hP hD hS ls hl
                refine lv_iload_n hx hb dX12_first_92 rfl (lv_at hl 0 rfl) ?_
                refine li_if_lt (tgt := 150) hx hb ⟨by omega, by omega⟩ dX12_first_93 (by decide) (fun c93 => ?_) (fun c93 => ?_)
                · exact X92 k3 mp wU qU gc (hSt) (by omega) (hmp) (hgc) (hgS) (fun q => by have := hst q; rw [show k3 = -1 by omega] at this; exact this) H locs hP hD hS ls (lv_sub hl [1, 2, 3] rfl)
                · have hmk := (hSo6.mt k3 c93 (by omega)).1
                  have hmq := (hSo6.mt k3 c93 (by omega)).2
                  obtain ⟨hmk0, hmk1⟩ := id hmk
                  have hg01 := hgc _ hmk hmq
                  have hmr := hSo6.toMet.rg hmk
                  refine lv_aload_n hx hb dX12_first_96 rfl (lv_at hl 3 rfl) ?_
                  refine va_get (D := G) (ci := 11) (v := .ref (am 20)) (C := RX12) (T := TX12) (N := 52) hx hb hts in_X12 hown hK hP 0 (aM_0 _ _ _ _ _) rfl 32 (by decide) (hts _ q1297) (fun _ h9 => h9) rfl dX12_first_97 ?_
                  refine lv_iload_n hx hb dX12_first_100 rfl (lv_at hl 0 rfl) ?_
                  refine li_iald (g := me6) hx hb hK hP 20 0 (aM_20 _ _ _ _ _) rfl (by omega) (by omega) (by decide) dX12_first_101 ?_
                  refine lv_istore (lv' := [(4, .int (ii (me6 k3))), (3, .int (ii k3)), (2, .int (ii mp)), (1, .int (ii z6)), (0, .ref (am 0))]) hx hb dX12_first_102 hl (by decide) rfl (fun ls hl => ?_)
                  refine lv_aload_n hx hb dX12_first_104 rfl (lv_at hl 4 rfl) ?_
                  refine va_get (D := G) (ci := 11) (v := .ref (am 23)) (C := RX12) (T := TX12) (N := 52) hx hb hts in_X12 hown hK hP 0 (aM_0 _ _ _ _ _) rfl 38 (by decide) (hts _ q1303) (fun _ h9 => h9) rfl dX12_first_105 ?_
                  refine lv_iload hx hb dX12_first_108 (lv_at hl 0 rfl) ?_
                  refine li_zald (g := gc) hx hb hK hP 23 1 (aM_23 _ _ _ _ _) rfl (by omega) (by omega) (by decide) dX12_first_110 ?_
                  refine li_if_ne (tgt := 144) hx hb ⟨by omega, by omega⟩ dX12_first_111 (by decide) (fun c111 => ?_) (fun c111 => ?_)
                  · refine li_iinc (a := k3) (lv' := [(3, .int (ii (k3 + (-1)))), (4, .int (ii (me6 k3))), (2, .int (ii mp)), (1, .int (ii z6)), (0, .ref (am 0))]) hx hb dX12_first_144 hl (k := 1) rfl (by decide) rfl (fun ls hl => ?_)
                    refine lv_goto (tgt := 92) hx hb dX12_first_147 (by decide) ?_
                    exact ih (k3 + (-1)) mp wU qU gc (hSt) (by omega) (by omega) (hmp) (hgc) (hgS) (fun q => stabW_s (hst q) (.inl (by omega))) (by omega) H locs hP hD hS ls (lv_sub hl [0, 2, 3, 4] rfl)
                  · refine lv_aload_n hx hb dX12_first_114 rfl (lv_at hl 4 rfl) ?_
                    refine va_get (D := G) (ci := 11) (v := .ref (am 19)) (C := RX12) (T := TX12) (N := 52) hx hb hts in_X12 hown hK hP 0 (aM_0 _ _ _ _ _) rfl 31 (by decide) (hts _ q1296) (fun _ h9 => h9) rfl dX12_first_115 ?_
                    refine lv_iload hx hb dX12_first_118 (lv_at hl 0 rfl) ?_
                    refine li_iald (g := la6) hx hb hK hP 19 0 (aM_19 _ _ _ _ _) rfl (by omega) (by omega) (by decide) dX12_first_120 ?_
                    refine lv_iload_n hx hb dX12_first_121 rfl (lv_at hl 3 rfl) ?_
                    refine li_icmp_ge (tgt := 144) hx hb ⟨by omega, by omega⟩ (rg4 hzr6) dX12_first_122 (by decide) (fun c122 => ?_) (fun c122 => ?_)
                    · refine li_iinc (a := k3) (lv' := [(3, .int (ii (k3 + (-1)))), (4, .int (ii (me6 k3))), (2, .int (ii mp)), (1, .int (ii z6)), (0, .ref (am 0))]) hx hb dX12_first_144 hl (k := 1) rfl (by decide) rfl (fun ls hl => ?_)
                      refine lv_goto (tgt := 92) hx hb dX12_first_147 (by decide) ?_
                      exact ih (k3 + (-1)) mp wU qU gc (hSt) (by omega) (by omega) (hmp) (hgc) (hgS) (fun q => stabW_s (hst q) (.inr (.inl (by omega)))) (by omega) H locs hP hD hS ls (lv_sub hl [0, 2, 3, 4] rfl)
                    · refine lv_aload_n hx hb dX12_first_125 rfl (lv_at hl 4 rfl) ?_
                      refine lv_iload hx hb dX12_first_126 (lv_at hl 0 rfl) ?_
                      refine kM (va_runV (As := [.int (ii (me6 k3))]) (rest := []) ⟨hx, hb, hml, hown, hts⟩ ((m_wayFromM l G am ty τ (up (up (up (up (up (up (up (up (up (up (up (up (up ρ 14 (sc (0))) 29 gm6) 30 (sc (nm6))) 31 la6) 32 me6) 33 (sc (n86))) 34 qu6) 35 qd6) 36 (sc (is6))) 37 (sc (il6))) 27 wU) 28 qU) 38 gc) cs (me6 k3) _ (cdv (F 6) (F 7)) (show okF F from hF) (show Sim F τ from hSm) (show wfS wU qU from hSt) (show inSt (me6 k3) from hmk) (show LL (cand F) gm6 nm6 70000 from hCL6) (show 0 ≤ nm6 ∧ nm6 ≤ 2400 from hnm6) (show Sought (EF F) (cdv (F 6) (F 7)) la6 me6 n86 from hSo6) (show la6 (me6 k3) ≠ FARc from hmq) (show ∀ c, inSt c → la6 c ≠ FARc → gc c = 0 ∨ gc c = 1 from hgc)) H.size) (cwV 1 hts (lw_V q1611 q1613 qs63 q87 q1614) rfl rfl rfl (by decide +kernel) ⟨Nat.le_of_ble_eq_true rfl, Nat.le_of_ble_eq_true rfl⟩) (pvM (r := (RX12, TX12, 52)) hK hP hD hX 0 (aM_0 _ _ _ _ _) rfl) rfl rfl hl.1 rfl (lv_room (Nat.le_of_ble_eq_true rfl)) dX12_first_128 ⟨Nat.le_of_ble_eq_true rfl, Nat.le_of_ble_eq_true rfl⟩) hD hS hA (fun v ws1 H locs hv hP hD hS => ?_)
                      obtain ⟨z128, wT128, qT128, rfl, rfl, hSt128, hz128, hzr128⟩ := hv
                      have hP : va_P G gcl (wM am ty τ (up (up (up (up (up (up (up (up (up (up (up (up (up ρ 14 (sc (0))) 29 gm6) 30 (sc (nm6))) 31 la6) 32 me6) 33 (sc (n86))) 34 qu6) 35 qd6) 36 (sc (is6))) 37 (sc (il6))) 38 gc) 27 wT128) 28 qT128) ++ cs) H := hP
                      have hD : va_D A (wM am ty τ (up (up (up (up (up (up (up (up (up (up (up (up (up ρ 14 (sc (0))) 29 gm6) 30 (sc (nm6))) 31 la6) 32 me6) 33 (sc (n86))) 34 qu6) 35 qd6) 36 (sc (is6))) 37 (sc (il6))) 38 gc) 27 wT128) 28 qT128) ++ cs) := hD
                      have hSt128 : wfS wT128 qT128 := hSt128
                      have hz128 : leastM (wayM F la6 gc (me6 k3)) z128 := hz128
                      have hzr128 : -4 ≤ z128 ∧ z128 ≤ 70000 := hzr128
                      refine li_if_lt (tgt := 144) hx hb (rg4 ⟨hzr128.1, Int.le_trans hzr128.2 (by decide)⟩) dX12_first_131 (by decide) (fun c131 => ?_) (fun c131 => ?_)
                      · refine li_iinc (a := k3) (lv' := [(3, .int (ii (k3 + (-1)))), (4, .int (ii (me6 k3))), (2, .int (ii mp)), (1, .int (ii z6)), (0, .ref (am 0))]) hx hb dX12_first_144 hl (k := 1) rfl (by decide) rfl (fun ls hl => ?_)
                        refine lv_goto (tgt := 92) hx hb dX12_first_147 (by decide) ?_
                        exact ih (k3 + (-1)) mp wT128 qT128 gc (hSt128) (by omega) (by omega) (hmp) (hgc) (hgS) (fun q => stabW_s (hst q) (.inr (.inr (leastM_np hz128 (by omega) (fun m q => q.1.1.1))))) (by omega) H locs hP hD hS ls (lv_sub hl [0, 2, 3, 4] rfl)
                      · refine lv_aload_n hx hb dX12_first_134 rfl (lv_at hl 4 rfl) ?_
                        refine va_get (D := G) (ci := 11) (v := .ref (am 23)) (C := RX12) (T := TX12) (N := 52) hx hb hts in_X12 hown hK hP 0 (aM_0 _ _ _ _ _) rfl 38 (by decide) (hts _ q1303) (fun _ h9 => h9) rfl dX12_first_135 ?_
                        refine lv_iload hx hb dX12_first_138 (lv_at hl 0 rfl) ?_
                        refine li_iconst hx hb dX12_first_140 ?_
                        refine li_zast (g := gc) (W2 := wM am ty τ (up (up (up (up (up (up (up (up (up (up (up (up (up ρ 14 (sc (0))) 29 gm6) 30 (sc (nm6))) 31 la6) 32 me6) 33 (sc (n86))) 34 qu6) 35 qd6) 36 (sc (is6))) 37 (sc (il6))) 27 wT128) 28 qT128) 38 (ug gc (me6 k3) 1)) ++ cs) hx hb hK hP hD hS 23 1 (aM_23 _ _ _ _ _) rfl (by omega) (by omega) (by decide) (by omega) rfl dX12_first_141 (fun H locs hP hD hS => ?_)
                        refine li_iconst hx hb dX12_first_142 ?_
                        refine lv_istore_n (lv' := [(2, .int (ii 1)), (4, .int (ii (me6 k3))), (3, .int (ii k3)), (1, .int (ii z6)), (0, .ref (am 0))]) hx hb dX12_first_143 rfl hl (by decide) rfl (fun ls hl => ?_)
                        refine li_iinc (a := k3) (lv' := [(3, .int (ii (k3 + (-1)))), (2, .int (ii 1)), (4, .int (ii (me6 k3))), (1, .int (ii z6)), (0, .ref (am 0))]) hx hb dX12_first_144 hl (k := 2) rfl (by decide) rfl (fun ls hl => ?_)
                        refine lv_goto (tgt := 92) hx hb dX12_first_147 (by decide) ?_
                        exact ih (k3 + (-1)) 1 wT128 qT128 (ug gc (me6 k3) 1) (hSt128) (by omega) (by omega) (by have := msk_more (g := gc) hmk hmq (by omega); omega) (ug_m1 hgc) (owP_s hgS hSo6 hW hmk hmq c122 (leastM_p hz128 (by omega))) (fun q => by omega) (by omega) H locs hP hD hS ls (lv_sub hl [0, 1, 3, 4] rfl)
            exact L92 _ (n86 - 1) 0 wT qT gc0 (hSt) (by omega) (by omega) (.inl ⟨rfl, rfl⟩) (hgc) (hgS) (fun _ => stabW_0 _ _ _ _ _ _) (Nat.lt_succ_self _) H locs hP hD hS ls (lv_sub hl [0, 1, 2, 3] rfl)
      exact L79 _ 1 wT qT g1 (hSt) (.inr rfl) (hgc) (hgS) (fun q => by omega) (Nat.lt_succ_self _) H locs hP hD hS ls (lv_sub hl [0, 1, 2] rfl)
    have L19 : ∀ (n : Nat) (k2 : Int) (wT : Int → Int) (qT : Int → Int) (g1 : Int → Int) (_ : wfS wT qT) (_ : 0 ≤ k2) (_ : k2 ≤ n86) (_ : fgI (fun c => la6 c = z6 ∧ dn F c) me6 k2 g1) (_ : (n86 - k2).toNat < n) (H : Heap) (locs : List Loc) (_ : va_P G gcl (wM am ty τ (up (up (up (up (up (up (up (up (up (up (up (up (up ρ 14 (sc (0))) 29 gm6) 30 (sc (nm6))) 31 la6) 32 me6) 33 (sc (n86))) 34 qu6) 35 qd6) 36 (sc (is6))) 37 (sc (il6))) 27 wT) 28 qT) 38 g1) ++ cs) H) (_ : va_D A (wM am ty τ (up (up (up (up (up (up (up (up (up (up (up (up (up ρ 14 (sc (0))) 29 gm6) 30 (sc (nm6))) 31 la6) 32 me6) 33 (sc (n86))) 34 qu6) 35 qd6) 36 (sc (is6))) 37 (sc (il6))) 27 wT) 28 qT) 38 g1) ++ cs)) (_ : va_S A s.heap H locs) (ls : Array Slot), lv_has ls 5 [(2, .int (ii k2)), (1, .int (ii z6)), (0, .ref (am 0))] → W p l e (rm4 6 0 0 153) s m args below meth c H locs 0 0 Q (F0 m 19 ls []) := by
      intro n
      induction n with
      | zero =>
        intro k2 wT qT g1 hSt hk0 hk1 hgi hm
        exact absurd hm (Nat.not_lt_zero _)
      | succ n ih =>
        intro k2 wT qT g1 hSt hk0 hk1 hgi hm H locs hP hD hS ls hl
        refine lv_iload_n hx hb dX12_first_19 rfl (lv_at hl 0 rfl) ?_
        refine lv_aload_n hx hb dX12_first_20 rfl (lv_at hl 2 rfl) ?_
        refine va_get (D := G) (ci := 11) (v := .int (ii n86)) (C := RX12) (T := TX12) (N := 52) hx hb hts in_X12 hown hK hP 0 (aM_0 _ _ _ _ _) rfl 33 (by decide) (hts _ q1298) (fun _ h9 => h9) rfl dX12_first_21 ?_
        refine li_icmp_ge (tgt := 77) hx hb ⟨by omega, by omega⟩ ⟨by omega, by omega⟩ dX12_first_24 (by decide) (fun c24 => ?_) (fun c24 => ?_)
        · exact X19 k2 wT qT g1 (hSt) ((owI_e hSo6 hgi (by omega)).1) ((owI_e hSo6 hgi (by omega)).2) H locs hP hD hS ls (lv_sub hl [1, 2] rfl)
        · have hmk := (hSo6.mt k2 hk0 c24).1
          obtain ⟨hmk0, hmk1⟩ := id hmk
          have hmr := hSo6.toMet.rg hmk
          refine lv_aload_n hx hb dX12_first_27 rfl (lv_at hl 2 rfl) ?_
          refine va_get (D := G) (ci := 11) (v := .ref (am 23)) (C := RX12) (T := TX12) (N := 52) hx hb hts in_X12 hown hK hP 0 (aM_0 _ _ _ _ _) rfl 38 (by decide) (hts _ q1303) (fun _ h9 => h9) rfl dX12_first_28 ?_
          refine lv_aload_n hx hb dX12_first_31 rfl (lv_at hl 2 rfl) ?_
          refine va_get (D := G) (ci := 11) (v := .ref (am 20)) (C := RX12) (T := TX12) (N := 52) hx hb hts in_X12 hown hK hP 0 (aM_0 _ _ _ _ _) rfl 32 (by decide) (hts _ q1297) (fun _ h9 => h9) rfl dX12_first_32 ?_
          refine lv_iload_n hx hb dX12_first_35 rfl (lv_at hl 0 rfl) ?_
          refine li_iald (g := me6) hx hb hK hP 20 0 (aM_20 _ _ _ _ _) rfl (by omega) (by omega) (by decide) dX12_first_36 ?_
          refine lv_aload_n hx hb dX12_first_37 rfl (lv_at hl 2 rfl) ?_
          refine va_get (D := G) (ci := 11) (v := .ref (am 19)) (C := RX12) (T := TX12) (N := 52) hx hb hts in_X12 hown hK hP 0 (aM_0 _ _ _ _ _) rfl 31 (by decide) (hts _ q1296) (fun _ h9 => h9) rfl dX12_first_38 ?_
          refine lv_aload_n hx hb dX12_first_41 rfl (lv_at hl 2 rfl) ?_
          refine va_get (D := G) (ci := 11) (v := .ref (am 20)) (C := RX12) (T := TX12) (N := 52) hx hb hts in_X12 hown hK hP 0 (aM_0 _ _ _ _ _) rfl 32 (by decide) (hts _ q1297) (fun _ h9 => h9) rfl dX12_first_42 ?_
          refine lv_iload_n hx hb dX12_first_45 rfl (lv_at hl 0 rfl) ?_
          refine li_iald (g := me6) hx hb hK hP 20 0 (aM_20 _ _ _ _ _) rfl (by omega) (by omega) (by decide) dX12_first_46 ?_
          refine li_iald (g := la6) hx hb hK hP 19 0 (aM_19 _ _ _ _ _) rfl (by omega) (by omega) (by decide) dX12_first_47 ?_
          refine lv_iload_n hx hb dX12_first_48 rfl (lv_at hl 1 rfl) ?_
          refine li_icmp_ne (tgt := 69) hx hb ⟨by omega, by omega⟩ (rg4 hzr6) dX12_first_49 (by decide) (fun c49 => ?_) (fun c49 => ?_)
          · refine li_iconst hx hb dX12_first_69 ?_
            refine li_zast (g := g1) (W2 := wM am ty τ (up (up (up (up (up (up (up (up (up (up (up (up (up ρ 14 (sc (0))) 29 gm6) 30 (sc (nm6))) 31 la6) 32 me6) 33 (sc (n86))) 34 qu6) 35 qd6) 36 (sc (is6))) 37 (sc (il6))) 27 wT) 28 qT) 38 (ug g1 (me6 k2) 0)) ++ cs) hx hb hK hP hD hS 23 1 (aM_23 _ _ _ _ _) rfl (by omega) (by omega) (by decide) (by omega) rfl dX12_first_70 (fun H locs hP hD hS => ?_)
            refine li_iinc (a := k2) (lv' := [(2, .int (ii (k2 + 1))), (1, .int (ii z6)), (0, .ref (am 0))]) hx hb dX12_first_71 hl (k := 0) rfl (by decide) rfl (fun ls hl => ?_)
            refine lv_goto (tgt := 19) hx hb dX12_first_74 (by decide) ?_
            exact ih (k2 + 1) wT qT (ug g1 (me6 k2) 0) (hSt) (by omega) (by omega) (fgI_n hgi (fun q => by have := q.1; omega)) (by omega) H locs hP hD hS ls (lv_sub hl [0, 1, 2] rfl)
          · refine lv_aload_n hx hb dX12_first_52 rfl (lv_at hl 2 rfl) ?_
            refine lv_aload_n hx hb dX12_first_53 rfl (lv_at hl 2 rfl) ?_
            refine va_get (D := G) (ci := 11) (v := .ref (am 20)) (C := RX12) (T := TX12) (N := 52) hx hb hts in_X12 hown hK hP 0 (aM_0 _ _ _ _ _) rfl 32 (by decide) (hts _ q1297) (fun _ h9 => h9) rfl dX12_first_54 ?_
            refine lv_iload_n hx hb dX12_first_57 rfl (lv_at hl 0 rfl) ?_
            refine li_iald (g := me6) hx hb hK hP 20 0 (aM_20 _ _ _ _ _) rfl (by omega) (by omega) (by decide) dX12_first_58 ?_
            refine kM (va_runV (As := [.int (ii (me6 k2))]) (rest := [.int (ii (me6 k2)), .ref (am 23)]) ⟨hx, hb, hml, hown, hts⟩ ((m_isDownStateM l G am ty τ (up (up (up (up (up (up (up (up (up (up (up (up (up ρ 14 (sc (0))) 29 gm6) 30 (sc (nm6))) 31 la6) 32 me6) 33 (sc (n86))) 34 qu6) 35 qd6) 36 (sc (is6))) 37 (sc (il6))) 27 wT) 28 qT) 38 g1) cs (me6 k2) _ (show okF F from hF) (show Sim F τ from hSm) (show wfS wT qT from hSt) (show inSt (me6 k2) from hmk)) H.size) (cwV 1 hts (lw_V q1603 q1605 qs62 q87 q1606) rfl rfl rfl (by decide +kernel) ⟨Nat.le_of_ble_eq_true rfl, Nat.le_of_ble_eq_true rfl⟩) (pvM (r := (RX12, TX12, 52)) hK hP hD hX 0 (aM_0 _ _ _ _ _) rfl) rfl rfl hl.1 rfl (lv_room (Nat.le_of_ble_eq_true rfl)) dX12_first_59 ⟨Nat.le_of_ble_eq_true rfl, Nat.le_of_ble_eq_true rfl⟩) hD hS hA (fun v ws1 H locs hv hP hD hS => ?_)
            obtain ⟨z59, wT59, qT59, rfl, rfl, hSt59, ⟨rfl, hb59⟩ | ⟨rfl, hb59⟩⟩ := hv
            · have hP : va_P G gcl (wM am ty τ (up (up (up (up (up (up (up (up (up (up (up (up (up ρ 14 (sc (0))) 29 gm6) 30 (sc (nm6))) 31 la6) 32 me6) 33 (sc (n86))) 34 qu6) 35 qd6) 36 (sc (is6))) 37 (sc (il6))) 38 g1) 27 wT59) 28 qT59) ++ cs) H := hP
              have hD : va_D A (wM am ty τ (up (up (up (up (up (up (up (up (up (up (up (up (up ρ 14 (sc (0))) 29 gm6) 30 (sc (nm6))) 31 la6) 32 me6) 33 (sc (n86))) 34 qu6) 35 qd6) 36 (sc (is6))) 37 (sc (il6))) 38 g1) 27 wT59) 28 qT59) ++ cs) := hD
              have hSt59 : wfS wT59 qT59 := hSt59
              have hb59 : dn F (me6 k2) := hb59
              refine li_if_eq (tgt := 69) hx hb ⟨by decide, by decide⟩ dX12_first_62 (by decide) (fun c62 => ?_) (fun c62 => ?_)
              · exact absurd c62 (by decide)
              · refine li_iconst hx hb dX12_first_65 ?_
                refine lv_goto (tgt := 70) hx hb dX12_first_66 (by decide) ?_
                refine li_zast (g := g1) (W2 := wM am ty τ (up (up (up (up (up (up (up (up (up (up (up (up (up ρ 14 (sc (0))) 29 gm6) 30 (sc (nm6))) 31 la6) 32 me6) 33 (sc (n86))) 34 qu6) 35 qd6) 36 (sc (is6))) 37 (sc (il6))) 27 wT59) 28 qT59) 38 (ug g1 (me6 k2) 1)) ++ cs) hx hb hK hP hD hS 23 1 (aM_23 _ _ _ _ _) rfl (by omega) (by omega) (by decide) (by omega) rfl dX12_first_70 (fun H locs hP hD hS => ?_)
                refine li_iinc (a := k2) (lv' := [(2, .int (ii (k2 + 1))), (1, .int (ii z6)), (0, .ref (am 0))]) hx hb dX12_first_71 hl (k := 0) rfl (by decide) rfl (fun ls hl => ?_)
                refine lv_goto (tgt := 19) hx hb dX12_first_74 (by decide) ?_
                exact ih (k2 + 1) wT59 qT59 (ug g1 (me6 k2) 1) (hSt59) (by omega) (by omega) (fgI_s hgi ⟨by omega, hb59⟩) (by omega) H locs hP hD hS ls (lv_sub hl [0, 1, 2] rfl)
            · have hP : va_P G gcl (wM am ty τ (up (up (up (up (up (up (up (up (up (up (up (up (up ρ 14 (sc (0))) 29 gm6) 30 (sc (nm6))) 31 la6) 32 me6) 33 (sc (n86))) 34 qu6) 35 qd6) 36 (sc (is6))) 37 (sc (il6))) 38 g1) 27 wT59) 28 qT59) ++ cs) H := hP
              have hD : va_D A (wM am ty τ (up (up (up (up (up (up (up (up (up (up (up (up (up ρ 14 (sc (0))) 29 gm6) 30 (sc (nm6))) 31 la6) 32 me6) 33 (sc (n86))) 34 qu6) 35 qd6) 36 (sc (is6))) 37 (sc (il6))) 38 g1) 27 wT59) 28 qT59) ++ cs) := hD
              have hSt59 : wfS wT59 qT59 := hSt59
              have hb59 : ¬ dn F (me6 k2) := hb59
              refine li_if_eq (tgt := 69) hx hb ⟨by decide, by decide⟩ dX12_first_62 (by decide) (fun c62 => ?_) (fun c62 => ?_)
              · refine li_iconst hx hb dX12_first_69 ?_
                refine li_zast (g := g1) (W2 := wM am ty τ (up (up (up (up (up (up (up (up (up (up (up (up (up ρ 14 (sc (0))) 29 gm6) 30 (sc (nm6))) 31 la6) 32 me6) 33 (sc (n86))) 34 qu6) 35 qd6) 36 (sc (is6))) 37 (sc (il6))) 27 wT59) 28 qT59) 38 (ug g1 (me6 k2) 0)) ++ cs) hx hb hK hP hD hS 23 1 (aM_23 _ _ _ _ _) rfl (by omega) (by omega) (by decide) (by omega) rfl dX12_first_70 (fun H locs hP hD hS => ?_)
                refine li_iinc (a := k2) (lv' := [(2, .int (ii (k2 + 1))), (1, .int (ii z6)), (0, .ref (am 0))]) hx hb dX12_first_71 hl (k := 0) rfl (by decide) rfl (fun ls hl => ?_)
                refine lv_goto (tgt := 19) hx hb dX12_first_74 (by decide) ?_
                exact ih (k2 + 1) wT59 qT59 (ug g1 (me6 k2) 0) (hSt59) (by omega) (by omega) (fgI_n hgi (fun q => hb59 q.2)) (by omega) H locs hP hD hS ls (lv_sub hl [0, 1, 2] rfl)
              · exact absurd c62 (by decide)
    exact L19 _ 0 wT6 qT6 (ρ 38) (hSt6) (by omega) (by omega) (fgI_0 _ _ _) (Nat.lt_succ_self _) H locs hP hD hS ls (lv_sub hl [0, 1, 2] rfl)
  · refine li_bipush hx hb dX12_first_14 (by decide) ?_
    exact eMi hQ hx hb hr hlk hP hD hS (Nat.le_of_ble_eq_true rfl) (Nat.le_of_ble_eq_true rfl) dX12_first_16 (⟨-4, wT6, qT6, gm6, nm6, la6, me6, n86, qu6, qd6, is6, il6, (ρ 38), rfl, rfl, hSt6, hci6, ⟨z6, IsSoon.w hW ⟨_, _, _, hSo6, hz6⟩, .inl ⟨by omega, rfl⟩⟩⟩)
set_option maxHeartbeats 4000000 in
theorem m_hasWayM (l : Launch) (G : va_G) (am : Nat → Nat) (ty : Nat → ClassId) (τ ρ : mem) (cs : va_W)  (F : mem) (hF : okF F) (hSm : Sim F τ) (hSt : wfS (ρ 27) (ρ 28)) (hZ : zerF F) (hil0 : (ρ 37 0) = 0 ∨ (ρ 37 0) = 1) : cM l yX12_hasWay (ws_ yX12_hasWay cX12_hasWay 1 (some .boolean)) (rm4 6 0 0 153) G ty (wM am ty τ ρ ++ cs) [.ref (am 0)] 0 0 (fun r W' => ∃ (z : Int) (wT : Int → Int) (qT : Int → Int) (gm : Int → Int) (nm : Int) (la : Int → Int) (me : Int → Int) (n8 : Int) (qu : Int → Int) (qd : Int → Int) (is : Int) (il : Int), r = some (.int (ii z)) ∧ W' = wM am ty τ (up (up (up (up (up (up (up (up (up (up (up ρ 27 wT) 28 qT) 29 gm) 30 (sc (nm))) 31 la) 32 me) 33 (sc (n8))) 34 qu) 35 qd) 36 (sc (is))) 37 (sc (il))) ++ cs ∧ (wfS wT qT) ∧ (il = 0 ∨ il = 1) ∧ ((z = 1 ∧ (∃ z, IsSoon F (cdv (F 6) (F 7)) z ∧ ¬ z = -4)) ∨ (z = 0 ∧ (IsSoon F (cdv (F 6) (F 7)) (-4))))) := by
  refine cM.of (by decide) (Nat.le_of_ble_eq_true rfl) ?_
  intro p e s m args below meth c A Q H locs hQ hx hb hr hml hown hlk hname hts hK hP hD hS hA hX ls hl
  have hl : lv_has ls 1 [(0, .ref (am 0))] := hl
  obtain ⟨hW, hWS, hlg⟩ := id hF
  obtain ⟨hw0, hw1, hw2, hw3, hw4, hw5, h8a, h8b, h9a, h9b, h10a, h10b⟩ := id hW
  obtain ⟨mL, mP, mR, mC, mK, mM, mA, mB, mD⟩ := id hSm
  refine lv_aload_n hx hb dX12_hasWay_0 rfl (lv_at hl 0 rfl) ?_
  refine li_iconst hx hb dX12_hasWay_1 ?_
  refine va_put (D := G) (ci := 11) (v := .int (ii 0)) (ty := .boolean) (C := RX12) (T := TX12) (N := 52) hx hb hts in_X12 tyX12 tyX12_ok nmX12 hown hK hP hD hS 0 (aM_0 _ _ _ _ _) rfl 36 (by decide) (hts _ q1301) (fun _ h9 => h9) rfl (tyX12_ok 36 (by decide)) (nrw_z (by omega)) (fit_z (by omega)) (Nat.le_of_ble_eq_true rfl) dX12_hasWay_2 (fun H locs hP hD hS => ?_)
  have hP : va_P G gcl (wM am ty τ (up ρ 36 (sc (0))) ++ cs) H := hP
  have hD : va_D A (wM am ty τ (up ρ 36 (sc (0))) ++ cs) := hD
  refine lv_aload_n hx hb dX12_hasWay_5 rfl (lv_at hl 0 rfl) ?_
  refine kM (va_runV (As := []) (rest := []) ⟨hx, hb, hml, hown, hts⟩ ((m_soonestNowM l G am ty τ (up ρ 36 (sc (0))) cs _ (show okF F from hF) (show Sim F τ from hSm) (show wfS (ρ 27) (ρ 28) from hSt) (show zerF F from hZ) (show CIx F 0 (ρ 37 0) (ρ 31) (ρ 32) (ρ 33 0) (ρ 29) (ρ 30 0) (ρ 39) from CIx_0 hil0)) H.size) (cwV 0 hts (lw_V q1586 q1588 qs58 q87 q1589) rfl rfl rfl (by decide +kernel) ⟨Nat.le_of_ble_eq_true rfl, Nat.le_of_ble_eq_true rfl⟩) (pvM (r := (RX12, TX12, 52)) hK hP hD hX 0 (aM_0 _ _ _ _ _) rfl) rfl rfl hl.1 rfl (lv_room (Nat.le_of_ble_eq_true rfl)) dX12_hasWay_6 ⟨Nat.le_of_ble_eq_true rfl, Nat.le_of_ble_eq_true rfl⟩) hD hS hA (fun v ws1 H locs hv hP hD hS => ?_)
  obtain ⟨z6, wT6, qT6, gm6, nm6, la6, me6, n86, qu6, qd6, is6, il6, rfl, rfl, hSt6, hSo6, hCL6, hnm6, hci6, hi16, hil6, hz6, hzr6⟩ := hv
  have hP : va_P G gcl (wM am ty τ (up (up (up (up (up (up (up (up (up (up (up ρ 27 wT6) 28 qT6) 29 gm6) 30 (sc (nm6))) 31 la6) 32 me6) 33 (sc (n86))) 34 qu6) 35 qd6) 36 (sc (is6))) 37 (sc (il6))) ++ cs) H := hP
  have hD : va_D A (wM am ty τ (up (up (up (up (up (up (up (up (up (up (up ρ 27 wT6) 28 qT6) 29 gm6) 30 (sc (nm6))) 31 la6) 32 me6) 33 (sc (n86))) 34 qu6) 35 qd6) 36 (sc (is6))) 37 (sc (il6))) ++ cs) := hD
  have hSt6 : wfS wT6 qT6 := hSt6
  have hSo6 : Sought (EF F) (cdv (F 6) (F 7)) la6 me6 n86 := hSo6
  have hCL6 : LL (cand F) gm6 nm6 70000 := hCL6
  have hnm6 : 0 ≤ nm6 ∧ nm6 ≤ 2400 := hnm6
  have hci6 : CIx F is6 il6 la6 me6 n86 gm6 nm6 (ρ 39) := hci6
  have hi16 : is6 = 1 := hi16
  have hil6 : il6 = 0 ∨ il6 = 1 := hil6
  have hz6 : soonP (dn F) la6 z6 := hz6
  have hzr6 : -4 ≤ z6 ∧ z6 ≤ 1000000000 := hzr6
  refine li_if_lt (tgt := 16) hx hb (rg4 hzr6) dX12_hasWay_9 (by decide) (fun c9 => ?_) (fun c9 => ?_)
  · refine li_iconst hx hb dX12_hasWay_16 ?_
    exact eMz hQ hx hb hr hlk hP hD hS (Nat.le_of_ble_eq_true rfl) (Nat.le_of_ble_eq_true rfl) dX12_hasWay_17 (.inl rfl) (⟨0, wT6, qT6, gm6, nm6, la6, me6, n86, qu6, qd6, is6, il6, rfl, rfl, hSt6, hil6, .inr ⟨rfl, _, _, _, hSo6, by rw [← soon_neg hSo6.toMet hz6 (by omega)]; exact hz6⟩⟩)
  · refine li_iconst hx hb dX12_hasWay_12 ?_
    refine lv_goto (tgt := 17) hx hb dX12_hasWay_13 (by decide) ?_
    exact eMz hQ hx hb hr hlk hP hD hS (Nat.le_of_ble_eq_true rfl) (Nat.le_of_ble_eq_true rfl) dX12_hasWay_17 (.inr rfl) (⟨1, wT6, qT6, gm6, nm6, la6, me6, n86, qu6, qd6, is6, il6, rfl, rfl, hSt6, hil6, .inl ⟨rfl, _, ⟨_, _, _, hSo6, hz6⟩, by omega⟩⟩)
