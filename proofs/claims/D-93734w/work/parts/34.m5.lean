/-! DownRopeModel: leadsOn, findLeads, traps, isAlone, mayBeLast, last (written by gen/m5.py) -/
set_option maxRecDepth 100000
set_option maxHeartbeats 4000000 in
theorem m_leadsOnM (l : Launch) (G : va_G) (am : Nat → Nat) (ty : Nat → ClassId) (τ ρ : mem) (cs : va_W) (c1 : Int) (F : mem) (s1 : Int) (hF : okF F) (hSm : Sim F τ) (hSt : wfS (ρ 27) (ρ 28)) (hc : inSt c1) (hCL : LL (cand F) (ρ 29) (ρ 30 0) 70000) (hnm : 0 ≤ (ρ 30 0) ∧ (ρ 30 0) ≤ 2400) (hSo : Sought (EF F) s1 (ρ 31) (ρ 32) (ρ 33 0)) (hmf : (ρ 31) c1 ≠ FARc) (hgb : ∀ c, inSt c → (ρ 31) c ≠ FARc → (ρ 39) c = 0 ∨ (ρ 39) c = 1) : cM l yX12_leadsOn (ws_ yX12_leadsOn cX12_leadsOn 3 (some .boolean)) (rm4 3 0 0 81) G ty (wM am ty τ ρ ++ cs) [.ref (am 0), .int (ii c1)] 0 0 (fun r W' => ∃ (z : Int) (wT : Int → Int) (qT : Int → Int), r = some (.int (ii z)) ∧ W' = wM am ty τ (up (up ρ 27 wT) 28 qT) ++ cs ∧ (wfS wT qT) ∧ ((z = 1 ∧ (∃ d, stepA F (-1) c1 d ∧ (ρ 39) d = 1)) ∨ (z = 0 ∧ (¬ ∃ d, stepA F (-1) c1 d ∧ (ρ 39) d = 1)))) := by
  refine cM.of (by decide) (Nat.le_of_ble_eq_true rfl) ?_
  intro p e s m args below meth c A Q H locs hQ hx hb hr hml hown hlk hname hts hK hP hD hS hA hX ls hl
  have hl : lv_has ls 3 [(0, .ref (am 0)), (1, .int (ii c1))] := hl
  obtain ⟨hW, hWS, hlg⟩ := id hF
  obtain ⟨hw0, hw1, hw2, hw3, hw4, hw5, h8a, h8b, h9a, h9b, h10a, h10b⟩ := id hW
  obtain ⟨mL, mP, mR, mC, mK, mM, mA, mB, mD⟩ := id hSm
  refine lv_aload_n hx hb dX12_leadsOn_0 rfl (lv_at hl 0 rfl) ?_
  refine lv_iload_n hx hb dX12_leadsOn_1 rfl (lv_at hl 1 rfl) ?_
  refine kM (va_runV (As := [.int (ii c1)]) (rest := []) ⟨hx, hb, hml, hown, hts⟩ ((m_openM l G am ty τ ρ cs c1 (show inSt c1 from hc)) H.size) (cwV 1 hts (lw_V q1518 q1520 qs47 q87 q1521) rfl rfl rfl (by decide +kernel) ⟨Nat.le_of_ble_eq_true rfl, Nat.le_of_ble_eq_true rfl⟩) (pvM (r := (RX12, TX12, 52)) hK hP hD hX 0 (aM_0 _ _ _ _ _) rfl) rfl rfl hl.1 rfl (lv_room (Nat.le_of_ble_eq_true rfl)) dX12_leadsOn_2 ⟨Nat.le_of_ble_eq_true rfl, Nat.le_of_ble_eq_true rfl⟩) hD hS hA (fun v ws1 H locs hv hP hD hS => ?_)
  obtain ⟨rfl, rfl, hal2⟩ := hv
  have hP : va_P G gcl (wM am ty τ (up (up ρ 27 (dcw c1 (ρ 27))) 28 (dcq c1 (ρ 28))) ++ cs) H := hP
  have hD : va_D A (wM am ty τ (up (up ρ 27 (dcw c1 (ρ 27))) 28 (dcq c1 (ρ 28))) ++ cs) := hD
  have hal2 : alike (dcw c1 (ρ 27)) (dcq c1 (ρ 28)) (stW c1) (stQ c1) := hal2
  have hS1 : wfS (dcw c1 (ρ 27)) (dcq c1 (ρ 28)) := ⟨dcw_b hSt.1, dcq_b hSt.2⟩
  refine li_iconst hx hb dX12_leadsOn_5 ?_
  refine lv_istore_n (lv' := [(2, .int (ii 0)), (0, .ref (am 0)), (1, .int (ii c1))]) hx hb dX12_leadsOn_6 rfl hl (by decide) rfl (fun ls hl => ?_)
  have L7 : ∀ (n : Nat) (k1 : Int) (wU : Int → Int) (qU : Int → Int) (_ : wfS wU qU) (_ : alike wU qU (stW c1) (stQ c1)) (_ : 0 ≤ k1) (_ : k1 ≤ ρ 30 0) (_ : seenI (cand F) (fun m => leg F c1 m → ¬ ρ 39 (nx c1 m) = 1) k1) (_ : (ρ 30 0 - k1).toNat < n) (H : Heap) (locs : List Loc) (_ : va_P G gcl (wM am ty τ (up (up ρ 27 wU) 28 qU) ++ cs) H) (_ : va_D A (wM am ty τ (up (up ρ 27 wU) 28 qU) ++ cs)) (_ : va_S A s.heap H locs) (ls : Array Slot), lv_has ls 3 [(2, .int (ii k1)), (0, .ref (am 0)), (1, .int (ii c1))] → W p l e (rm4 3 0 0 81) s m args below meth c H locs 0 0 Q (F0 m 7 ls []) := by
    intro n
    induction n with
    | zero =>
      intro k1 wU qU hSt hal hk0 hk1 hse hm
      exact absurd hm (Nat.not_lt_zero _)
    | succ n ih =>
      intro k1 wU qU hSt hal hk0 hk1 hse hm H locs hP hD hS ls hl
      refine lv_iload_n hx hb dX12_leadsOn_7 rfl (lv_at hl 0 rfl) ?_
      refine lv_aload_n hx hb dX12_leadsOn_8 rfl (lv_at hl 1 rfl) ?_
      refine va_get (D := G) (ci := 11) (v := .int (ii (ρ 30 0))) (C := RX12) (T := TX12) (N := 52) hx hb hts in_X12 hown hK hP 0 (aM_0 _ _ _ _ _) rfl 30 (by decide) (hts _ q1295) (fun _ h9 => h9) rfl dX12_leadsOn_9 ?_
      refine li_icmp_ge (tgt := 64) hx hb ⟨by omega, by omega⟩ ⟨by omega, by omega⟩ dX12_leadsOn_12 (by decide) (fun c12 => ?_) (fun c12 => ?_)
      · refine li_iconst hx hb dX12_leadsOn_64 ?_
        exact eMz hQ hx hb hr hlk hP hD hS (Nat.le_of_ble_eq_true rfl) (Nat.le_of_ble_eq_true rfl) dX12_leadsOn_65 (.inl rfl) (⟨0, wU, qU, rfl, rfl, hSt, .inr ⟨rfl, fun ⟨d, ⟨m, h1, h2, h3⟩, h4⟩ => (seenI_all hse hCL cand_b (by omega)) m (leg_cand hW h1) h1 (by rw [← h3]; exact h4)⟩⟩)
      · obtain ⟨ha0, ha1, hcd, hcn⟩ := LL_at hCL (by decide) hk0 c12
        have hdd := isT_m hcd.1
        have hm00 := hcd.1.1
        have hm01 := hcd.1.2.1
        have hvb := mvV_b hW hcd.1
        refine lv_aload_n hx hb dX12_leadsOn_15 rfl (lv_at hl 1 rfl) ?_
        refine lv_aload_n hx hb dX12_leadsOn_16 rfl (lv_at hl 1 rfl) ?_
        refine va_get (D := G) (ci := 11) (v := .ref (am 18)) (C := RX12) (T := TX12) (N := 52) hx hb hts in_X12 hown hK hP 0 (aM_0 _ _ _ _ _) rfl 29 (by decide) (hts _ q1294) (fun _ h9 => h9) rfl dX12_leadsOn_17 ?_
        refine lv_iload_n hx hb dX12_leadsOn_20 rfl (lv_at hl 0 rfl) ?_
        refine li_iald (g := (ρ 29)) hx hb hK hP 18 0 (aM_18 _ _ _ _ _) rfl (by omega) (by omega) (by decide) dX12_leadsOn_21 ?_
        refine kR (va_runV (As := [.int (ii (ρ 29 k1))]) (rest := []) ⟨hx, hb, hml, hown, hts⟩ (m_minutesOfM l G am ty τ (up (up ρ 27 wU) 28 qU) cs (ρ 29 k1) _ (show okF F from hF) (show Sim F τ from hSm) (show wfS wU qU from hSt) (show isT (ρ 29 k1) from hcd.1)) (cwV 1 hts (lw_V q1522 q1524 qs48 q87 q1525) rfl rfl rfl (by decide +kernel) ⟨Nat.le_of_ble_eq_true rfl, Nat.le_of_ble_eq_true rfl⟩) (pvR (r := (RX12, TX12, 52)) hK hP hD hX 0 (aM_0 _ _ _ _ _) rfl) rfl rfl hl.1 rfl (lv_room (Nat.le_of_ble_eq_true rfl)) dX12_leadsOn_22 ⟨Nat.le_of_ble_eq_true rfl, Nat.le_of_ble_eq_true rfl⟩) (fun v hv => ?_)
        obtain ⟨z22, rfl, hz22⟩ := hv
        have hz22 : (mvOk F wU qU (ρ 29 k1) ∧ z22 = mvV F (ρ 29 k1)) ∨ (¬ mvOk F wU qU (ρ 29 k1) ∧ z22 = -1) := hz22
        have hzr22 : -1 ≤ z22 ∧ z22 ≤ 312 := mz_b hW (hcd.1) hz22
        refine li_if_lt (tgt := 58) hx hb (rg4 ⟨Int.le_trans (by decide) hzr22.1, Int.le_trans hzr22.2 (by decide)⟩) dX12_leadsOn_25 (by decide) (fun c25 => ?_) (fun c25 => ?_)
        · refine li_iinc (a := k1) (lv' := [(2, .int (ii (k1 + 1))), (0, .ref (am 0)), (1, .int (ii c1))]) hx hb dX12_leadsOn_58 hl (k := 0) rfl (by decide) rfl (fun ls hl => ?_)
          refine lv_goto (tgt := 7) hx hb dX12_leadsOn_61 (by decide) ?_
          exact ih (k1 + 1) wU qU (hSt) (hal) (by omega) (by omega) (seenI_s hse cand_n hcd hcn (fun q => absurd q (fun q => (hz22.resolve_left (fun r => by have := r.2; omega)).1 (((congrFun (lgl_al hal) _).mpr q).2)))) (by omega) H locs hP hD hS ls (lv_sub hl [0, 1, 2] rfl)
        · obtain ⟨hok, hval⟩ := hz22.resolve_right (fun q => by omega)
          have hleg : leg F c1 (ρ 29 k1) := (congrFun (lgl_al hal) _).mp ⟨hcd.1, hok⟩
          obtain ⟨hnx, hnl⟩ := hSo.next hW hc hmf hleg
          have hq01 := hgb _ hnx hnl
          obtain ⟨hnx0, hnx1⟩ := id hnx
          have hSn := nx_wf hcd.1 hSt
          refine lv_aload_n hx hb dX12_leadsOn_28 rfl (lv_at hl 1 rfl) ?_
          refine lv_aload_n hx hb dX12_leadsOn_29 rfl (lv_at hl 1 rfl) ?_
          refine va_get (D := G) (ci := 11) (v := .ref (am 18)) (C := RX12) (T := TX12) (N := 52) hx hb hts in_X12 hown hK hP 0 (aM_0 _ _ _ _ _) rfl 29 (by decide) (hts _ q1294) (fun _ h9 => h9) rfl dX12_leadsOn_30 ?_
          refine lv_iload_n hx hb dX12_leadsOn_33 rfl (lv_at hl 0 rfl) ?_
          refine li_iald (g := (ρ 29)) hx hb hK hP 18 0 (aM_18 _ _ _ _ _) rfl (by omega) (by omega) (by decide) dX12_leadsOn_34 ?_
          refine li_iconst hx hb dX12_leadsOn_35 ?_
          refine kM (va_runV (As := [.int (ii (ρ 29 k1)), .int (ii 0)]) (rest := []) ⟨hx, hb, hml, hown, hts⟩ ((m_makeM0 l G am ty τ (up (up ρ 27 wU) 28 qU) cs (ρ 29 k1) _ (show okF F from hF) (show Sim F τ from hSm) (show wfS wU qU from hSt) (show isT (ρ 29 k1) from hcd.1) (show (ρ 29 k1) / 1000 % 10 < p2 (F 9 0) from cand_p2 h9a h9b hcd) (show (ρ 29 k1) / 10000 = 3 → (ρ 29 k1) / 100 % 10 = 0 from cand_r3 hcd)) H.size) (cwV 2 hts (lw_V q1550 q1552 qs53 q87 q1553) rfl rfl rfl (by decide +kernel) ⟨Nat.le_of_ble_eq_true rfl, Nat.le_of_ble_eq_true rfl⟩) (pvM (r := (RX12, TX12, 52)) hK hP hD hX 0 (aM_0 _ _ _ _ _) rfl) rfl rfl hl.1 rfl (lv_room (Nat.le_of_ble_eq_true rfl)) dX12_leadsOn_36 ⟨Nat.le_of_ble_eq_true rfl, Nat.le_of_ble_eq_true rfl⟩) hD hS hA (fun v ws1 H locs hv hP hD hS => ?_)
          obtain ⟨rfl, rfl⟩ := hv
          have hP : va_P G gcl (wM am ty τ (up (up ρ 27 (mvw ((ρ 29 k1) / 1000 % 10) ((ρ 29 k1) % 10) wU)) 28 ((mvq ((ρ 29 k1) / 10000) ((ρ 29 k1) / 100 % 10) ((ρ 29 k1) % 10) qU))) ++ cs) H := hP
          have hD : va_D A (wM am ty τ (up (up ρ 27 (mvw ((ρ 29 k1) / 1000 % 10) ((ρ 29 k1) % 10) wU)) 28 ((mvq ((ρ 29 k1) / 10000) ((ρ 29 k1) / 100 % 10) ((ρ 29 k1) % 10) qU))) ++ cs) := hD
          refine lv_aload_n hx hb dX12_leadsOn_39 rfl (lv_at hl 1 rfl) ?_
          refine va_get (D := G) (ci := 11) (v := .ref (am 24)) (C := RX12) (T := TX12) (N := 52) hx hb hts in_X12 hown hK hP 0 (aM_0 _ _ _ _ _) rfl 39 (by decide) (hts _ q1304) (fun _ h9 => h9) rfl dX12_leadsOn_40 ?_
          refine lv_aload_n hx hb dX12_leadsOn_43 rfl (lv_at hl 1 rfl) ?_
          refine kR (va_runV (As := []) (rest := [.ref (am 24)]) ⟨hx, hb, hml, hown, hts⟩ (m_closedM l G am ty τ (up (up ρ 27 (mvw ((ρ 29 k1) / 1000 % 10) ((ρ 29 k1) % 10) wU)) 28 ((mvq ((ρ 29 k1) / 10000) ((ρ 29 k1) / 100 % 10) ((ρ 29 k1) % 10) qU))) cs (show wfS (mvw ((ρ 29 k1) / 1000 % 10) ((ρ 29 k1) % 10) wU) ((mvq ((ρ 29 k1) / 10000) ((ρ 29 k1) / 100 % 10) ((ρ 29 k1) % 10) qU)) from nx_wf hcd.1 hSt)) (cwV 0 hts (lw_V q1599 q1601 qs61 q87 q1602) rfl rfl rfl (by decide +kernel) ⟨Nat.le_of_ble_eq_true rfl, Nat.le_of_ble_eq_true rfl⟩) (pvR (r := (RX12, TX12, 52)) hK hP hD hX 0 (aM_0 _ _ _ _ _) rfl) rfl rfl hl.1 rfl (lv_room (Nat.le_of_ble_eq_true rfl)) dX12_leadsOn_44 ⟨Nat.le_of_ble_eq_true rfl, Nat.le_of_ble_eq_true rfl⟩) (fun v hv => ?_)
          have hv := hv
          subst hv
          refine li_topx (z := nx c1 (ρ 29 k1)) (congrArg ii (nxS_al _ hal)) ?_
          refine li_zald (g := (ρ 39)) hx hb hK hP 24 1 (aM_24 _ _ _ _ _) rfl (by omega) (by omega) (by decide) dX12_leadsOn_47 ?_
          refine li_if_eq (tgt := 53) hx hb ⟨by omega, by omega⟩ dX12_leadsOn_48 (by decide) (fun c48 => ?_) (fun c48 => ?_)
          · refine lv_aload_n hx hb dX12_leadsOn_53 rfl (lv_at hl 1 rfl) ?_
            refine lv_iload_n hx hb dX12_leadsOn_54 rfl (lv_at hl 2 rfl) ?_
            refine kM (va_runV (As := [.int (ii c1)]) (rest := []) ⟨hx, hb, hml, hown, hts⟩ ((m_openM l G am ty τ (up (up ρ 27 (mvw ((ρ 29 k1) / 1000 % 10) ((ρ 29 k1) % 10) wU)) 28 ((mvq ((ρ 29 k1) / 10000) ((ρ 29 k1) / 100 % 10) ((ρ 29 k1) % 10) qU))) cs c1 (show inSt c1 from hc)) H.size) (cwV 1 hts (lw_V q1518 q1520 qs47 q87 q1521) rfl rfl rfl (by decide +kernel) ⟨Nat.le_of_ble_eq_true rfl, Nat.le_of_ble_eq_true rfl⟩) (pvM (r := (RX12, TX12, 52)) hK hP hD hX 0 (aM_0 _ _ _ _ _) rfl) rfl rfl hl.1 rfl (lv_room (Nat.le_of_ble_eq_true rfl)) dX12_leadsOn_55 ⟨Nat.le_of_ble_eq_true rfl, Nat.le_of_ble_eq_true rfl⟩) hD hS hA (fun v ws1 H locs hv hP hD hS => ?_)
            obtain ⟨rfl, rfl, hal55⟩ := hv
            have hP : va_P G gcl (wM am ty τ (up (up ρ 27 (dcw c1 (mvw ((ρ 29 k1) / 1000 % 10) ((ρ 29 k1) % 10) wU))) 28 (dcq c1 ((mvq ((ρ 29 k1) / 10000) ((ρ 29 k1) / 100 % 10) ((ρ 29 k1) % 10) qU)))) ++ cs) H := hP
            have hD : va_D A (wM am ty τ (up (up ρ 27 (dcw c1 (mvw ((ρ 29 k1) / 1000 % 10) ((ρ 29 k1) % 10) wU))) 28 (dcq c1 ((mvq ((ρ 29 k1) / 10000) ((ρ 29 k1) / 100 % 10) ((ρ 29 k1) % 10) qU)))) ++ cs) := hD
            have hal55 : alike (dcw c1 (mvw ((ρ 29 k1) / 1000 % 10) ((ρ 29 k1) % 10) wU)) (dcq c1 ((mvq ((ρ 29 k1) / 10000) ((ρ 29 k1) / 100 % 10) ((ρ 29 k1) % 10) qU))) (stW c1) (stQ c1) := hal55
            refine li_iinc (a := k1) (lv' := [(2, .int (ii (k1 + 1))), (0, .ref (am 0)), (1, .int (ii c1))]) hx hb dX12_leadsOn_58 hl (k := 0) rfl (by decide) rfl (fun ls hl => ?_)
            refine lv_goto (tgt := 7) hx hb dX12_leadsOn_61 (by decide) ?_
            exact ih (k1 + 1) (dcw c1 (mvw ((ρ 29 k1) / 1000 % 10) ((ρ 29 k1) % 10) wU)) (dcq c1 ((mvq ((ρ 29 k1) / 10000) ((ρ 29 k1) / 100 % 10) ((ρ 29 k1) % 10) qU))) (⟨dcw_b hSn.1, dcq_b hSn.2⟩) (alike_dc _ _ _) (by omega) (by omega) (seenI_s hse cand_n hcd hcn (fun _ => by omega)) (by omega) H locs hP hD hS ls (lv_sub hl [0, 1, 2] rfl)
          · refine li_iconst hx hb dX12_leadsOn_51 ?_
            exact eMz hQ hx hb hr hlk hP hD hS (Nat.le_of_ble_eq_true rfl) (Nat.le_of_ble_eq_true rfl) dX12_leadsOn_52 (.inr rfl) (⟨1, (mvw ((ρ 29 k1) / 1000 % 10) ((ρ 29 k1) % 10) wU), ((mvq ((ρ 29 k1) / 10000) ((ρ 29 k1) / 100 % 10) ((ρ 29 k1) % 10) qU)), rfl, rfl, hSn, .inl ⟨rfl, nx c1 (ρ 29 k1), ⟨_, hleg, .inl rfl, rfl⟩, by omega⟩⟩)
  exact L7 _ 0 (dcw c1 (ρ 27)) (dcq c1 (ρ 28)) (hS1) (hal2) (by omega) (by omega) (seenI_0 _ cand_n) (Nat.lt_succ_self _) H locs hP hD hS ls (lv_sub hl [0, 1, 2] rfl)
set_option maxHeartbeats 4000000 in
theorem m_findLeadsM (l : Launch) (G : va_G) (am : Nat → Nat) (ty : Nat → ClassId) (τ ρ : mem) (cs : va_W)  (F : mem) (hF : okF F) (hSm : Sim F τ) (hSt : wfS (ρ 27) (ρ 28)) (hZ : zerF F) (hci : CIx F (ρ 36 0) (ρ 37 0) (ρ 31) (ρ 32) (ρ 33 0) (ρ 29) (ρ 30 0) (ρ 39)) : cM l yX12_findLeads (ws_ yX12_findLeads cX12_findLeads 3 none) (rm4 5 0 0 130) G ty (wM am ty τ ρ ++ cs) [.ref (am 0)] 0 0 (fun r W' => ∃ (wT : Int → Int) (qT : Int → Int) (gm : Int → Int) (nm : Int) (la : Int → Int) (me : Int → Int) (n8 : Int) (qu : Int → Int) (qd : Int → Int) (is : Int) (il : Int) (ld : Int → Int), r = none ∧ W' = wM am ty τ (up (up (up (up (up (up (up (up (up (up (up (up ρ 27 wT) 28 qT) 29 gm) 30 (sc (nm))) 31 la) 32 me) 33 (sc (n8))) 34 qu) 35 qd) 36 (sc (is))) 37 (sc (il))) 39 ld) ++ cs ∧ (wfS wT qT) ∧ (Sought (EF F) (cdv (F 6) (F 7)) la me n8) ∧ (LL (cand F) gm nm 70000) ∧ (0 ≤ nm ∧ nm ≤ 2400) ∧ (ldP F la ld) ∧ (CIx F is il la me n8 gm nm ld)) := by
  refine cM.of (by decide) (Nat.le_of_ble_eq_true rfl) ?_
  intro p e s m args below meth c A Q H locs hQ hx hb hr hml hown hlk hname hts hK hP hD hS hA hX ls hl
  have hl : lv_has ls 3 [(0, .ref (am 0))] := hl
  obtain ⟨hW, hWS, hlg⟩ := id hF
  obtain ⟨hw0, hw1, hw2, hw3, hw4, hw5, h8a, h8b, h9a, h9b, h10a, h10b⟩ := id hW
  obtain ⟨mL, mP, mR, mC, mK, mM, mA, mB, mD⟩ := id hSm
  refine lv_aload_n hx hb dX12_findLeads_0 rfl (lv_at hl 0 rfl) ?_
  refine kM (va_runV (As := []) (rest := []) ⟨hx, hb, hml, hown, hts⟩ ((m_seekNowM l G am ty τ ρ cs _ (show okF F from hF) (show Sim F τ from hSm) (show wfS (ρ 27) (ρ 28) from hSt) (show zerF F from hZ) (show CIx F (ρ 36 0) (ρ 37 0) (ρ 31) (ρ 32) (ρ 33 0) (ρ 29) (ρ 30 0) (ρ 39) from hci)) H.size) (cwV 0 hts (lw_V q1590 q1592 qs59 q87 q1593) rfl rfl rfl (by decide +kernel) ⟨Nat.le_of_ble_eq_true rfl, Nat.le_of_ble_eq_true rfl⟩) (pvM (r := (RX12, TX12, 52)) hK hP hD hX 0 (aM_0 _ _ _ _ _) rfl) rfl rfl hl.1 rfl (lv_room (Nat.le_of_ble_eq_true rfl)) dX12_findLeads_1 ⟨Nat.le_of_ble_eq_true rfl, Nat.le_of_ble_eq_true rfl⟩) hD hS hA (fun v ws1 H locs hv hP hD hS => ?_)
  obtain ⟨wT1, qT1, gm1, nm1, la1, me1, n81, qu1, qd1, is1, il1, rfl, rfl, hSt1, hSo1, hCL1, hnm1, hci1, hi11, hil1⟩ := hv
  have hP : va_P G gcl (wM am ty τ (up (up (up (up (up (up (up (up (up (up (up ρ 27 wT1) 28 qT1) 29 gm1) 30 (sc (nm1))) 31 la1) 32 me1) 33 (sc (n81))) 34 qu1) 35 qd1) 36 (sc (is1))) 37 (sc (il1))) ++ cs) H := hP
  have hD : va_D A (wM am ty τ (up (up (up (up (up (up (up (up (up (up (up ρ 27 wT1) 28 qT1) 29 gm1) 30 (sc (nm1))) 31 la1) 32 me1) 33 (sc (n81))) 34 qu1) 35 qd1) 36 (sc (is1))) 37 (sc (il1))) ++ cs) := hD
  have hSt1 : wfS wT1 qT1 := hSt1
  have hSo1 : Sought (EF F) (cdv (F 6) (F 7)) la1 me1 n81 := hSo1
  have hCL1 : LL (cand F) gm1 nm1 70000 := hCL1
  have hnm1 : 0 ≤ nm1 ∧ nm1 ≤ 2400 := hnm1
  have hci1 : CIx F is1 il1 la1 me1 n81 gm1 nm1 (ρ 39) := hci1
  have hi11 : is1 = 1 := hi11
  have hil1 : il1 = 0 ∨ il1 = 1 := hil1
  have hn1 := hSo1.n1
  have hn2 := hSo1.toMet.n2
  refine lv_aload_n hx hb dX12_findLeads_4 rfl (lv_at hl 0 rfl) ?_
  refine va_get (D := G) (ci := 11) (v := .int (ii il1)) (C := RX12) (T := TX12) (N := 52) hx hb hts in_X12 hown hK hP 0 (aM_0 _ _ _ _ _) rfl 37 (by decide) (hts _ q1302) (fun _ h9 => h9) rfl dX12_findLeads_5 ?_
  refine li_if_eq (tgt := 12) hx hb ⟨by omega, by omega⟩ dX12_findLeads_8 (by decide) (fun c8 => ?_) (fun c8 => ?_)
  · refine lv_aload_n hx hb dX12_findLeads_12 rfl (lv_at hl 0 rfl) ?_
    refine li_iconst hx hb dX12_findLeads_13 ?_
    refine va_put (D := G) (ci := 11) (v := .int (ii 1)) (ty := .boolean) (C := RX12) (T := TX12) (N := 52) hx hb hts in_X12 tyX12 tyX12_ok nmX12 hown hK hP hD hS 0 (aM_0 _ _ _ _ _) rfl 37 (by decide) (hts _ q1302) (fun _ h9 => h9) rfl (tyX12_ok 37 (by decide)) (nrw_z (by omega)) (fit_z (by omega)) (Nat.le_of_ble_eq_true rfl) dX12_findLeads_14 (fun H locs hP hD hS => ?_)
    have hP : va_P G gcl (wM am ty τ (up (up (up (up (up (up (up (up (up (up (up ρ 27 wT1) 28 qT1) 29 gm1) 30 (sc (nm1))) 31 la1) 32 me1) 33 (sc (n81))) 34 qu1) 35 qd1) 36 (sc (is1))) 37 (sc (1))) ++ cs) H := hP
    have hD : va_D A (wM am ty τ (up (up (up (up (up (up (up (up (up (up (up ρ 27 wT1) 28 qT1) 29 gm1) 30 (sc (nm1))) 31 la1) 32 me1) 33 (sc (n81))) 34 qu1) 35 qd1) 36 (sc (is1))) 37 (sc (1))) ++ cs) := hD
    refine li_iconst hx hb dX12_findLeads_17 ?_
    refine lv_istore_n (lv' := [(1, .int (ii 0)), (0, .ref (am 0))]) hx hb dX12_findLeads_18 rfl hl (by decide) rfl (fun ls hl => ?_)
    have X19 : ∀ (k2 : Int) (wT : Int → Int) (qT : Int → Int) (g1 : Int → Int) (_ : wfS wT qT) (_ : ∀ c, inSt c → la1 c ≠ FARc → g1 c = 0 ∨ g1 c = 1) (_ : fgP F (-1) la1 g1) (H : Heap) (locs : List Loc) (_ : va_P G gcl (wM am ty τ (up (up (up (up (up (up (up (up (up (up (up (up ρ 29 gm1) 30 (sc (nm1))) 31 la1) 32 me1) 33 (sc (n81))) 34 qu1) 35 qd1) 36 (sc (is1))) 37 (sc (1))) 27 wT) 28 qT) 39 g1) ++ cs) H) (_ : va_D A (wM am ty τ (up (up (up (up (up (up (up (up (up (up (up (up ρ 29 gm1) 30 (sc (nm1))) 31 la1) 32 me1) 33 (sc (n81))) 34 qu1) 35 qd1) 36 (sc (is1))) 37 (sc (1))) 27 wT) 28 qT) 39 g1) ++ cs)) (_ : va_S A s.heap H locs) (ls : Array Slot), lv_has ls 3 [(0, .ref (am 0))] → W p l e (rm4 5 0 0 130) s m args below meth c H locs 0 0 Q (F0 m 54 ls []) := by
      intro k2 wT qT g1 hSt hgc hgS H locs hP hD hS ls hl
      refine li_iconst hx hb dX12_findLeads_54 ?_
      refine lv_istore_n (lv' := [(1, .int (ii 1)), (0, .ref (am 0))]) hx hb dX12_findLeads_55 rfl hl (by decide) rfl (fun ls hl => ?_)
      have L56 : ∀ (n : Nat) (mo : Int) (wT : Int → Int) (qT : Int → Int) (gc0 : Int → Int) (_ : wfS wT qT) (_ : mo = 0 ∨ mo = 1) (_ : ∀ c, inSt c → la1 c ≠ FARc → gc0 c = 0 ∨ gc0 c = 1) (_ : fgP F (-1) la1 gc0) (_ : mo = 0 → stab F (-1) me1 gc0 (-1) n81) (_ : (2 * (4500 - smN (msk la1 gc0) 4500) + mo).toNat < n) (H : Heap) (locs : List Loc) (_ : va_P G gcl (wM am ty τ (up (up (up (up (up (up (up (up (up (up (up (up ρ 29 gm1) 30 (sc (nm1))) 31 la1) 32 me1) 33 (sc (n81))) 34 qu1) 35 qd1) 36 (sc (is1))) 37 (sc (1))) 27 wT) 28 qT) 39 gc0) ++ cs) H) (_ : va_D A (wM am ty τ (up (up (up (up (up (up (up (up (up (up (up (up ρ 29 gm1) 30 (sc (nm1))) 31 la1) 32 me1) 33 (sc (n81))) 34 qu1) 35 qd1) 36 (sc (is1))) 37 (sc (1))) 27 wT) 28 qT) 39 gc0) ++ cs)) (_ : va_S A s.heap H locs) (ls : Array Slot), lv_has ls 3 [(1, .int (ii mo)), (0, .ref (am 0))] → W p l e (rm4 5 0 0 130) s m args below meth c H locs 0 0 Q (F0 m 56 ls []) := by
        intro n
        induction n with
        | zero =>
          intro mo wT qT gc0 hSt hmo hgc hgS hst hm
          exact absurd hm (Nat.not_lt_zero _)
        | succ n ih =>
          intro mo wT qT gc0 hSt hmo hgc hgS hst hm H locs hP hD hS ls hl
          have hsm := sm_le (msk_01 hgc)
          refine lv_iload_n hx hb dX12_findLeads_56 rfl (lv_at hl 0 rfl) ?_
          refine li_if_eq (tgt := 123) hx hb ⟨by omega, by omega⟩ dX12_findLeads_57 (by decide) (fun c57 => ?_) (fun c57 => ?_)
          · exact eMv hQ hx hb hr hlk hP hD hS (Nat.le_of_ble_eq_true rfl) (Nat.le_of_ble_eq_true rfl) dX12_findLeads_123 (⟨wT, qT, gm1, nm1, la1, me1, n81, qu1, qd1, is1, 1, gc0, rfl, rfl, hSt, hSo1, hCL1, hnm1, ⟨hgc, fun c hc hl => fgP_e hSo1 hW hgS (hst c57) hc hl⟩, by rw [hi11]; exact CIx_2 hSo1 hCL1 hnm1 ⟨hgc, fun c hc hl => fgP_e hSo1 hW hgS (hst c57) hc hl⟩⟩)
          · refine li_iconst hx hb dX12_findLeads_60 ?_
            refine lv_istore_n (lv' := [(1, .int (ii 0)), (0, .ref (am 0))]) hx hb dX12_findLeads_61 rfl hl (by decide) rfl (fun ls hl => ?_)
            refine lv_aload_n hx hb dX12_findLeads_62 rfl (lv_at hl 1 rfl) ?_
            refine va_get (D := G) (ci := 11) (v := .int (ii n81)) (C := RX12) (T := TX12) (N := 52) hx hb hts in_X12 hown hK hP 0 (aM_0 _ _ _ _ _) rfl 33 (by decide) (hts _ q1298) (fun _ h9 => h9) rfl dX12_findLeads_63 ?_
            refine li_iconst hx hb dX12_findLeads_66 ?_
            refine li_sub hx hb dX12_findLeads_67 ?_
            refine lv_istore_n (lv' := [(2, .int (ii (n81 - 1))), (1, .int (ii 0)), (0, .ref (am 0))]) hx hb dX12_findLeads_68 rfl hl (by decide) rfl (fun ls hl => ?_)
            have X69 : ∀ (k3 : Int) (mp : Int) (wU : Int → Int) (qU : Int → Int) (gc : Int → Int) (_ : wfS wU qU) (_ : mp = 0 ∨ mp = 1) (_ : (mp = 0 ∧ smN (msk la1 gc) 4500 = smN (msk la1 gc0) 4500) ∨ (mp = 1 ∧ smN (msk la1 gc0) 4500 < smN (msk la1 gc) 4500)) (_ : ∀ c, inSt c → la1 c ≠ FARc → gc c = 0 ∨ gc c = 1) (_ : fgP F (-1) la1 gc) (_ : mp = 0 → stab F (-1) me1 gc (-1) n81) (H : Heap) (locs : List Loc) (_ : va_P G gcl (wM am ty τ (up (up (up (up (up (up (up (up (up (up (up (up ρ 29 gm1) 30 (sc (nm1))) 31 la1) 32 me1) 33 (sc (n81))) 34 qu1) 35 qd1) 36 (sc (is1))) 37 (sc (1))) 27 wU) 28 qU) 39 gc) ++ cs) H) (_ : va_D A (wM am ty τ (up (up (up (up (up (up (up (up (up (up (up (up ρ 29 gm1) 30 (sc (nm1))) 31 la1) 32 me1) 33 (sc (n81))) 34 qu1) 35 qd1) 36 (sc (is1))) 37 (sc (1))) 27 wU) 28 qU) 39 gc) ++ cs)) (_ : va_S A s.heap H locs) (ls : Array Slot), lv_has ls 3 [(1, .int (ii mp)), (0, .ref (am 0))] → W p l e (rm4 5 0 0 130) s m args below meth c H locs 0 0 Q (F0 m 120 ls []) := by
              intro k3 mp wU qU gc hSt hmo2 hdec hgc hgS hst H locs hP hD hS ls hl
              have hsm2 := sm_le (msk_01 hgc)
              refine lv_goto (tgt := 56) hx hb dX12_findLeads_120 (by decide) ?_
              exact ih mp wU qU gc (hSt) (by omega) (hgc) (hgS) (hst) (by omega) H locs hP hD hS ls (lv_sub hl [0, 1] rfl)
            have L69 : ∀ (n : Nat) (k3 : Int) (mp : Int) (wU : Int → Int) (qU : Int → Int) (gc : Int → Int) (_ : wfS wU qU) (_ : -1 ≤ k3) (_ : k3 < n81) (_ : (mp = 0 ∧ smN (msk la1 gc) 4500 = smN (msk la1 gc0) 4500) ∨ (mp = 1 ∧ smN (msk la1 gc0) 4500 < smN (msk la1 gc) 4500)) (_ : ∀ c, inSt c → la1 c ≠ FARc → gc c = 0 ∨ gc c = 1) (_ : fgP F (-1) la1 gc) (_ : mp = 0 → stab F (-1) me1 gc k3 n81) (_ : (k3 + 1).toNat < n) (H : Heap) (locs : List Loc) (_ : va_P G gcl (wM am ty τ (up (up (up (up (up (up (up (up (up (up (up (up ρ 29 gm1) 30 (sc (nm1))) 31 la1) 32 me1) 33 (sc (n81))) 34 qu1) 35 qd1) 36 (sc (is1))) 37 (sc (1))) 27 wU) 28 qU) 39 gc) ++ cs) H) (_ : va_D A (wM am ty τ (up (up (up (up (up (up (up (up (up (up (up (up ρ 29 gm1) 30 (sc (nm1))) 31 la1) 32 me1) 33 (sc (n81))) 34 qu1) 35 qd1) 36 (sc (is1))) 37 (sc (1))) 27 wU) 28 qU) 39 gc) ++ cs)) (_ : va_S A s.heap H locs) (ls : Array Slot), lv_has ls 3 [(2, .int (ii k3)), (1, .int (ii mp)), (0, .ref (am 0))] → W p l e (rm4 5 0 0 130) s m args below meth c H locs 0 0 Q (F0 m 69 ls []) := by
              intro n
              induction n with
              | zero =>
                intro k3 mp wU qU gc hSt hk3 hk4 hmp hgc hgS hst hm
                exact absurd hm (Nat.not_lt_zero _)
              | succ n ih =>
                intro k3 mp wU qU gc hSt hk3 hk4 hmp hgc hgS hst hm H locs hP hD hS ls hl
                refine lv_iload_n hx hb dX12_findLeads_69 rfl (lv_at hl 0 rfl) ?_
                refine li_if_lt (tgt := 120) hx hb ⟨by omega, by omega⟩ dX12_findLeads_70 (by decide) (fun c70 => ?_) (fun c70 => ?_)
                · exact X69 k3 mp wU qU gc (hSt) (by omega) (hmp) (hgc) (hgS) (fun q => by have := hst q; rw [show k3 = -1 by omega] at this; exact this) H locs hP hD hS ls (lv_sub hl [1, 2] rfl)
                · have hmk := (hSo1.mt k3 c70 (by omega)).1
                  have hmq := (hSo1.mt k3 c70 (by omega)).2
                  obtain ⟨hmk0, hmk1⟩ := id hmk
                  have hg01 := hgc _ hmk hmq
                  refine lv_aload_n hx hb dX12_findLeads_73 rfl (lv_at hl 2 rfl) ?_
                  refine va_get (D := G) (ci := 11) (v := .ref (am 24)) (C := RX12) (T := TX12) (N := 52) hx hb hts in_X12 hown hK hP 0 (aM_0 _ _ _ _ _) rfl 39 (by decide) (hts _ q1304) (fun _ h9 => h9) rfl dX12_findLeads_74 ?_
                  refine lv_aload_n hx hb dX12_findLeads_77 rfl (lv_at hl 2 rfl) ?_
                  refine va_get (D := G) (ci := 11) (v := .ref (am 20)) (C := RX12) (T := TX12) (N := 52) hx hb hts in_X12 hown hK hP 0 (aM_0 _ _ _ _ _) rfl 32 (by decide) (hts _ q1297) (fun _ h9 => h9) rfl dX12_findLeads_78 ?_
                  refine lv_iload_n hx hb dX12_findLeads_81 rfl (lv_at hl 0 rfl) ?_
                  refine li_iald (g := me1) hx hb hK hP 20 0 (aM_20 _ _ _ _ _) rfl (by omega) (by omega) (by decide) dX12_findLeads_82 ?_
                  refine li_zald (g := gc) hx hb hK hP 24 1 (aM_24 _ _ _ _ _) rfl (by omega) (by omega) (by decide) dX12_findLeads_83 ?_
                  refine li_if_ne (tgt := 114) hx hb ⟨by omega, by omega⟩ dX12_findLeads_84 (by decide) (fun c84 => ?_) (fun c84 => ?_)
                  · refine li_iinc (a := k3) (lv' := [(2, .int (ii (k3 + (-1)))), (1, .int (ii mp)), (0, .ref (am 0))]) hx hb dX12_findLeads_114 hl (k := 0) rfl (by decide) rfl (fun ls hl => ?_)
                    refine lv_goto (tgt := 69) hx hb dX12_findLeads_117 (by decide) ?_
                    exact ih (k3 + (-1)) mp wU qU gc (hSt) (by omega) (by omega) (hmp) (hgc) (hgS) (fun q => stab_s (hst q) (.inl (by omega))) (by omega) H locs hP hD hS ls (lv_sub hl [0, 1, 2] rfl)
                  · refine lv_aload_n hx hb dX12_findLeads_87 rfl (lv_at hl 2 rfl) ?_
                    refine lv_aload_n hx hb dX12_findLeads_88 rfl (lv_at hl 2 rfl) ?_
                    refine va_get (D := G) (ci := 11) (v := .ref (am 20)) (C := RX12) (T := TX12) (N := 52) hx hb hts in_X12 hown hK hP 0 (aM_0 _ _ _ _ _) rfl 32 (by decide) (hts _ q1297) (fun _ h9 => h9) rfl dX12_findLeads_89 ?_
                    refine lv_iload_n hx hb dX12_findLeads_92 rfl (lv_at hl 0 rfl) ?_
                    refine li_iald (g := me1) hx hb hK hP 20 0 (aM_20 _ _ _ _ _) rfl (by omega) (by omega) (by decide) dX12_findLeads_93 ?_
                    refine kM (va_runV (As := [.int (ii (me1 k3))]) (rest := []) ⟨hx, hb, hml, hown, hts⟩ ((m_leadsOnM l G am ty τ (up (up (up (up (up (up (up (up (up (up (up (up ρ 29 gm1) 30 (sc (nm1))) 31 la1) 32 me1) 33 (sc (n81))) 34 qu1) 35 qd1) 36 (sc (is1))) 37 (sc (1))) 27 wU) 28 qU) 39 gc) cs (me1 k3) _ (cdv (F 6) (F 7)) (show okF F from hF) (show Sim F τ from hSm) (show wfS wU qU from hSt) (show inSt (me1 k3) from hmk) (show LL (cand F) gm1 nm1 70000 from hCL1) (show 0 ≤ nm1 ∧ nm1 ≤ 2400 from hnm1) (show Sought (EF F) (cdv (F 6) (F 7)) la1 me1 n81 from hSo1) (show la1 (me1 k3) ≠ FARc from hmq) (show ∀ c, inSt c → la1 c ≠ FARc → gc c = 0 ∨ gc c = 1 from hgc)) H.size) (cwV 1 hts (lw_V q1652 q1654 qs69 q87 q1655) rfl rfl rfl (by decide +kernel) ⟨Nat.le_of_ble_eq_true rfl, Nat.le_of_ble_eq_true rfl⟩) (pvM (r := (RX12, TX12, 52)) hK hP hD hX 0 (aM_0 _ _ _ _ _) rfl) rfl rfl hl.1 rfl (lv_room (Nat.le_of_ble_eq_true rfl)) dX12_findLeads_94 ⟨Nat.le_of_ble_eq_true rfl, Nat.le_of_ble_eq_true rfl⟩) hD hS hA (fun v ws1 H locs hv hP hD hS => ?_)
                    obtain ⟨z94, wT94, qT94, rfl, rfl, hSt94, ⟨rfl, hb94⟩ | ⟨rfl, hb94⟩⟩ := hv
                    · have hP : va_P G gcl (wM am ty τ (up (up (up (up (up (up (up (up (up (up (up (up ρ 29 gm1) 30 (sc (nm1))) 31 la1) 32 me1) 33 (sc (n81))) 34 qu1) 35 qd1) 36 (sc (is1))) 37 (sc (1))) 39 gc) 27 wT94) 28 qT94) ++ cs) H := hP
                      have hD : va_D A (wM am ty τ (up (up (up (up (up (up (up (up (up (up (up (up ρ 29 gm1) 30 (sc (nm1))) 31 la1) 32 me1) 33 (sc (n81))) 34 qu1) 35 qd1) 36 (sc (is1))) 37 (sc (1))) 39 gc) 27 wT94) 28 qT94) ++ cs) := hD
                      have hSt94 : wfS wT94 qT94 := hSt94
                      have hb94 : ∃ d, stepA F (-1) (me1 k3) d ∧ gc d = 1 := hb94
                      refine li_if_eq (tgt := 114) hx hb ⟨by decide, by decide⟩ dX12_findLeads_97 (by decide) (fun c97 => ?_) (fun c97 => ?_)
                      · exact absurd c97 (by decide)
                      · refine lv_aload_n hx hb dX12_findLeads_100 rfl (lv_at hl 2 rfl) ?_
                        refine va_get (D := G) (ci := 11) (v := .ref (am 24)) (C := RX12) (T := TX12) (N := 52) hx hb hts in_X12 hown hK hP 0 (aM_0 _ _ _ _ _) rfl 39 (by decide) (hts _ q1304) (fun _ h9 => h9) rfl dX12_findLeads_101 ?_
                        refine lv_aload_n hx hb dX12_findLeads_104 rfl (lv_at hl 2 rfl) ?_
                        refine va_get (D := G) (ci := 11) (v := .ref (am 20)) (C := RX12) (T := TX12) (N := 52) hx hb hts in_X12 hown hK hP 0 (aM_0 _ _ _ _ _) rfl 32 (by decide) (hts _ q1297) (fun _ h9 => h9) rfl dX12_findLeads_105 ?_
                        refine lv_iload_n hx hb dX12_findLeads_108 rfl (lv_at hl 0 rfl) ?_
                        refine li_iald (g := me1) hx hb hK hP 20 0 (aM_20 _ _ _ _ _) rfl (by omega) (by omega) (by decide) dX12_findLeads_109 ?_
                        refine li_iconst hx hb dX12_findLeads_110 ?_
                        refine li_zast (g := gc) (W2 := wM am ty τ (up (up (up (up (up (up (up (up (up (up (up (up ρ 29 gm1) 30 (sc (nm1))) 31 la1) 32 me1) 33 (sc (n81))) 34 qu1) 35 qd1) 36 (sc (is1))) 37 (sc (1))) 27 wT94) 28 qT94) 39 (ug gc (me1 k3) 1)) ++ cs) hx hb hK hP hD hS 24 1 (aM_24 _ _ _ _ _) rfl (by omega) (by omega) (by decide) (by omega) rfl dX12_findLeads_111 (fun H locs hP hD hS => ?_)
                        refine li_iconst hx hb dX12_findLeads_112 ?_
                        refine lv_istore_n (lv' := [(1, .int (ii 1)), (2, .int (ii k3)), (0, .ref (am 0))]) hx hb dX12_findLeads_113 rfl hl (by decide) rfl (fun ls hl => ?_)
                        refine li_iinc (a := k3) (lv' := [(2, .int (ii (k3 + (-1)))), (1, .int (ii 1)), (0, .ref (am 0))]) hx hb dX12_findLeads_114 hl (k := 1) rfl (by decide) rfl (fun ls hl => ?_)
                        refine lv_goto (tgt := 69) hx hb dX12_findLeads_117 (by decide) ?_
                        exact ih (k3 + (-1)) 1 wT94 qT94 (ug gc (me1 k3) 1) (hSt94) (by omega) (by omega) (by have := msk_more (g := gc) hmk hmq (by omega); omega) (ug_m1 hgc) (fgP_s hgS hSo1 hW hmk hmq (Or.inl rfl) hb94) (fun q => by omega) (by omega) H locs hP hD hS ls (lv_sub hl [0, 1, 2] rfl)
                    · have hP : va_P G gcl (wM am ty τ (up (up (up (up (up (up (up (up (up (up (up (up ρ 29 gm1) 30 (sc (nm1))) 31 la1) 32 me1) 33 (sc (n81))) 34 qu1) 35 qd1) 36 (sc (is1))) 37 (sc (1))) 39 gc) 27 wT94) 28 qT94) ++ cs) H := hP
                      have hD : va_D A (wM am ty τ (up (up (up (up (up (up (up (up (up (up (up (up ρ 29 gm1) 30 (sc (nm1))) 31 la1) 32 me1) 33 (sc (n81))) 34 qu1) 35 qd1) 36 (sc (is1))) 37 (sc (1))) 39 gc) 27 wT94) 28 qT94) ++ cs) := hD
                      have hSt94 : wfS wT94 qT94 := hSt94
                      have hb94 : ¬ ∃ d, stepA F (-1) (me1 k3) d ∧ gc d = 1 := hb94
                      refine li_if_eq (tgt := 114) hx hb ⟨by decide, by decide⟩ dX12_findLeads_97 (by decide) (fun c97 => ?_) (fun c97 => ?_)
                      · refine li_iinc (a := k3) (lv' := [(2, .int (ii (k3 + (-1)))), (1, .int (ii mp)), (0, .ref (am 0))]) hx hb dX12_findLeads_114 hl (k := 0) rfl (by decide) rfl (fun ls hl => ?_)
                        refine lv_goto (tgt := 69) hx hb dX12_findLeads_117 (by decide) ?_
                        exact ih (k3 + (-1)) mp wT94 qT94 gc (hSt94) (by omega) (by omega) (hmp) (hgc) (hgS) (fun q => stab_s (hst q) (.inr (.inr hb94))) (by omega) H locs hP hD hS ls (lv_sub hl [0, 1, 2] rfl)
                      · exact absurd c97 (by decide)
            exact L69 _ (n81 - 1) 0 wT qT gc0 (hSt) (by omega) (by omega) (.inl ⟨rfl, rfl⟩) (hgc) (hgS) (fun _ => stab_0 _ _ _ _ _) (Nat.lt_succ_self _) H locs hP hD hS ls (lv_sub hl [0, 1, 2] rfl)
      exact L56 _ 1 wT qT g1 (hSt) (.inr rfl) (hgc) (hgS) (fun q => by omega) (Nat.lt_succ_self _) H locs hP hD hS ls (lv_sub hl [0, 1] rfl)
    have L19 : ∀ (n : Nat) (k2 : Int) (wT : Int → Int) (qT : Int → Int) (g1 : Int → Int) (_ : wfS wT qT) (_ : 0 ≤ k2) (_ : k2 ≤ n81) (_ : fgI (dn F) me1 k2 g1) (_ : (n81 - k2).toNat < n) (H : Heap) (locs : List Loc) (_ : va_P G gcl (wM am ty τ (up (up (up (up (up (up (up (up (up (up (up (up ρ 29 gm1) 30 (sc (nm1))) 31 la1) 32 me1) 33 (sc (n81))) 34 qu1) 35 qd1) 36 (sc (is1))) 37 (sc (1))) 27 wT) 28 qT) 39 g1) ++ cs) H) (_ : va_D A (wM am ty τ (up (up (up (up (up (up (up (up (up (up (up (up ρ 29 gm1) 30 (sc (nm1))) 31 la1) 32 me1) 33 (sc (n81))) 34 qu1) 35 qd1) 36 (sc (is1))) 37 (sc (1))) 27 wT) 28 qT) 39 g1) ++ cs)) (_ : va_S A s.heap H locs) (ls : Array Slot), lv_has ls 3 [(1, .int (ii k2)), (0, .ref (am 0))] → W p l e (rm4 5 0 0 130) s m args below meth c H locs 0 0 Q (F0 m 19 ls []) := by
      intro n
      induction n with
      | zero =>
        intro k2 wT qT g1 hSt hk0 hk1 hgi hm
        exact absurd hm (Nat.not_lt_zero _)
      | succ n ih =>
        intro k2 wT qT g1 hSt hk0 hk1 hgi hm H locs hP hD hS ls hl
        refine lv_iload_n hx hb dX12_findLeads_19 rfl (lv_at hl 0 rfl) ?_
        refine lv_aload_n hx hb dX12_findLeads_20 rfl (lv_at hl 1 rfl) ?_
        refine va_get (D := G) (ci := 11) (v := .int (ii n81)) (C := RX12) (T := TX12) (N := 52) hx hb hts in_X12 hown hK hP 0 (aM_0 _ _ _ _ _) rfl 33 (by decide) (hts _ q1298) (fun _ h9 => h9) rfl dX12_findLeads_21 ?_
        refine li_icmp_ge (tgt := 54) hx hb ⟨by omega, by omega⟩ ⟨by omega, by omega⟩ dX12_findLeads_24 (by decide) (fun c24 => ?_) (fun c24 => ?_)
        · exact X19 k2 wT qT g1 (hSt) ((fgI_e (a := -1) hSo1 hgi (by omega)).1) ((fgI_e hSo1 hgi (by omega)).2) H locs hP hD hS ls (lv_sub hl [1] rfl)
        · have hmk := (hSo1.mt k2 hk0 c24).1
          obtain ⟨hmk0, hmk1⟩ := id hmk
          refine lv_aload_n hx hb dX12_findLeads_27 rfl (lv_at hl 1 rfl) ?_
          refine va_get (D := G) (ci := 11) (v := .ref (am 24)) (C := RX12) (T := TX12) (N := 52) hx hb hts in_X12 hown hK hP 0 (aM_0 _ _ _ _ _) rfl 39 (by decide) (hts _ q1304) (fun _ h9 => h9) rfl dX12_findLeads_28 ?_
          refine lv_aload_n hx hb dX12_findLeads_31 rfl (lv_at hl 1 rfl) ?_
          refine va_get (D := G) (ci := 11) (v := .ref (am 20)) (C := RX12) (T := TX12) (N := 52) hx hb hts in_X12 hown hK hP 0 (aM_0 _ _ _ _ _) rfl 32 (by decide) (hts _ q1297) (fun _ h9 => h9) rfl dX12_findLeads_32 ?_
          refine lv_iload_n hx hb dX12_findLeads_35 rfl (lv_at hl 0 rfl) ?_
          refine li_iald (g := me1) hx hb hK hP 20 0 (aM_20 _ _ _ _ _) rfl (by omega) (by omega) (by decide) dX12_findLeads_36 ?_
          refine lv_aload_n hx hb dX12_findLeads_37 rfl (lv_at hl 1 rfl) ?_
          refine lv_aload_n hx hb dX12_findLeads_38 rfl (lv_at hl 1 rfl) ?_
          refine va_get (D := G) (ci := 11) (v := .ref (am 20)) (C := RX12) (T := TX12) (N := 52) hx hb hts in_X12 hown hK hP 0 (aM_0 _ _ _ _ _) rfl 32 (by decide) (hts _ q1297) (fun _ h9 => h9) rfl dX12_findLeads_39 ?_
          refine lv_iload_n hx hb dX12_findLeads_42 rfl (lv_at hl 0 rfl) ?_
          refine li_iald (g := me1) hx hb hK hP 20 0 (aM_20 _ _ _ _ _) rfl (by omega) (by omega) (by decide) dX12_findLeads_43 ?_
          refine kM (va_runV (As := [.int (ii (me1 k2))]) (rest := [.int (ii (me1 k2)), .ref (am 24)]) ⟨hx, hb, hml, hown, hts⟩ ((m_isDownStateM l G am ty τ (up (up (up (up (up (up (up (up (up (up (up (up ρ 29 gm1) 30 (sc (nm1))) 31 la1) 32 me1) 33 (sc (n81))) 34 qu1) 35 qd1) 36 (sc (is1))) 37 (sc (1))) 27 wT) 28 qT) 39 g1) cs (me1 k2) _ (show okF F from hF) (show Sim F τ from hSm) (show wfS wT qT from hSt) (show inSt (me1 k2) from hmk)) H.size) (cwV 1 hts (lw_V q1603 q1605 qs62 q87 q1606) rfl rfl rfl (by decide +kernel) ⟨Nat.le_of_ble_eq_true rfl, Nat.le_of_ble_eq_true rfl⟩) (pvM (r := (RX12, TX12, 52)) hK hP hD hX 0 (aM_0 _ _ _ _ _) rfl) rfl rfl hl.1 rfl (lv_room (Nat.le_of_ble_eq_true rfl)) dX12_findLeads_44 ⟨Nat.le_of_ble_eq_true rfl, Nat.le_of_ble_eq_true rfl⟩) hD hS hA (fun v ws1 H locs hv hP hD hS => ?_)
          obtain ⟨z44, wT44, qT44, rfl, rfl, hSt44, ⟨rfl, hb44⟩ | ⟨rfl, hb44⟩⟩ := hv
          · have hP : va_P G gcl (wM am ty τ (up (up (up (up (up (up (up (up (up (up (up (up ρ 29 gm1) 30 (sc (nm1))) 31 la1) 32 me1) 33 (sc (n81))) 34 qu1) 35 qd1) 36 (sc (is1))) 37 (sc (1))) 39 g1) 27 wT44) 28 qT44) ++ cs) H := hP
            have hD : va_D A (wM am ty τ (up (up (up (up (up (up (up (up (up (up (up (up ρ 29 gm1) 30 (sc (nm1))) 31 la1) 32 me1) 33 (sc (n81))) 34 qu1) 35 qd1) 36 (sc (is1))) 37 (sc (1))) 39 g1) 27 wT44) 28 qT44) ++ cs) := hD
            have hSt44 : wfS wT44 qT44 := hSt44
            have hb44 : dn F (me1 k2) := hb44
            refine li_zast (g := g1) (W2 := wM am ty τ (up (up (up (up (up (up (up (up (up (up (up (up ρ 29 gm1) 30 (sc (nm1))) 31 la1) 32 me1) 33 (sc (n81))) 34 qu1) 35 qd1) 36 (sc (is1))) 37 (sc (1))) 27 wT44) 28 qT44) 39 (ug g1 (me1 k2) 1)) ++ cs) hx hb hK hP hD hS 24 1 (aM_24 _ _ _ _ _) rfl (by omega) (by omega) (by decide) (by omega) rfl dX12_findLeads_47 (fun H locs hP hD hS => ?_)
            refine li_iinc (a := k2) (lv' := [(1, .int (ii (k2 + 1))), (0, .ref (am 0))]) hx hb dX12_findLeads_48 hl (k := 0) rfl (by decide) rfl (fun ls hl => ?_)
            refine lv_goto (tgt := 19) hx hb dX12_findLeads_51 (by decide) ?_
            exact ih (k2 + 1) wT44 qT44 (ug g1 (me1 k2) 1) (hSt44) (by omega) (by omega) (fgI_s hgi hb44) (by omega) H locs hP hD hS ls (lv_sub hl [0, 1] rfl)
          · have hP : va_P G gcl (wM am ty τ (up (up (up (up (up (up (up (up (up (up (up (up ρ 29 gm1) 30 (sc (nm1))) 31 la1) 32 me1) 33 (sc (n81))) 34 qu1) 35 qd1) 36 (sc (is1))) 37 (sc (1))) 39 g1) 27 wT44) 28 qT44) ++ cs) H := hP
            have hD : va_D A (wM am ty τ (up (up (up (up (up (up (up (up (up (up (up (up ρ 29 gm1) 30 (sc (nm1))) 31 la1) 32 me1) 33 (sc (n81))) 34 qu1) 35 qd1) 36 (sc (is1))) 37 (sc (1))) 39 g1) 27 wT44) 28 qT44) ++ cs) := hD
            have hSt44 : wfS wT44 qT44 := hSt44
            have hb44 : ¬ dn F (me1 k2) := hb44
            refine li_zast (g := g1) (W2 := wM am ty τ (up (up (up (up (up (up (up (up (up (up (up (up ρ 29 gm1) 30 (sc (nm1))) 31 la1) 32 me1) 33 (sc (n81))) 34 qu1) 35 qd1) 36 (sc (is1))) 37 (sc (1))) 27 wT44) 28 qT44) 39 (ug g1 (me1 k2) 0)) ++ cs) hx hb hK hP hD hS 24 1 (aM_24 _ _ _ _ _) rfl (by omega) (by omega) (by decide) (by omega) rfl dX12_findLeads_47 (fun H locs hP hD hS => ?_)
            refine li_iinc (a := k2) (lv' := [(1, .int (ii (k2 + 1))), (0, .ref (am 0))]) hx hb dX12_findLeads_48 hl (k := 0) rfl (by decide) rfl (fun ls hl => ?_)
            refine lv_goto (tgt := 19) hx hb dX12_findLeads_51 (by decide) ?_
            exact ih (k2 + 1) wT44 qT44 (ug g1 (me1 k2) 0) (hSt44) (by omega) (by omega) (fgI_n hgi hb44) (by omega) H locs hP hD hS ls (lv_sub hl [0, 1] rfl)
    exact L19 _ 0 wT1 qT1 (ρ 39) (hSt1) (by omega) (by omega) (fgI_0 _ _ _) (Nat.lt_succ_self _) H locs hP hD hS ls (lv_sub hl [0, 1] rfl)
  · exact eMv hQ hx hb hr hlk hP hD hS (Nat.le_of_ble_eq_true rfl) (Nat.le_of_ble_eq_true rfl) dX12_findLeads_11 (⟨wT1, qT1, gm1, nm1, la1, me1, n81, qu1, qd1, is1, il1, (ρ 39), rfl, rfl, hSt1, hSo1, hCL1, hnm1, ((hci1.2.2 hi11).2.2.2 (by omega)), hci1⟩)
set_option maxHeartbeats 4000000 in
theorem m_trapsM (l : Launch) (G : va_G) (am : Nat → Nat) (ty : Nat → ClassId) (τ ρ : mem) (cs : va_W)  (F : mem) (hF : okF F) (hSm : Sim F τ) (hSt : wfS (ρ 27) (ρ 28)) (hZ : zerF F) (hci : CIx F (ρ 36 0) (ρ 37 0) (ρ 31) (ρ 32) (ρ 33 0) (ρ 29) (ρ 30 0) (ρ 39)) : cM l yX12_traps (ws_ yX12_traps cX12_traps 3 (some .int)) (rm4 6 0 0 152) G ty (wM am ty τ ρ ++ cs) [.ref (am 0)] 0 0 (fun r W' => ∃ (z : Int) (wT : Int → Int) (qT : Int → Int) (gm : Int → Int) (nm : Int) (la : Int → Int) (me : Int → Int) (n8 : Int) (qu : Int → Int) (qd : Int → Int) (is : Int) (il : Int) (ld : Int → Int), r = some (.int (ii z)) ∧ W' = wM am ty τ (up (up (up (up (up (up (up (up (up (up (up (up (up ρ 14 (sc (0))) 27 wT) 28 qT) 29 gm) 30 (sc (nm))) 31 la) 32 me) 33 (sc (n8))) 34 qu) 35 qd) 36 (sc (is))) 37 (sc (il))) 39 ld) ++ cs ∧ (wfS wT qT) ∧ (CIx F is il la me n8 gm nm ld) ∧ (IsTraps F (cdv (F 6) (F 7)) z)) := by
  refine cM.of (by decide) (Nat.le_of_ble_eq_true rfl) ?_
  intro p e s m args below meth c A Q H locs hQ hx hb hr hml hown hlk hname hts hK hP hD hS hA hX ls hl
  have hl : lv_has ls 3 [(0, .ref (am 0))] := hl
  obtain ⟨hW, hWS, hlg⟩ := id hF
  obtain ⟨hw0, hw1, hw2, hw3, hw4, hw5, h8a, h8b, h9a, h9b, h10a, h10b⟩ := id hW
  obtain ⟨mL, mP, mR, mC, mK, mM, mA, mB, mD⟩ := id hSm
  refine lv_aload_n hx hb dX12_traps_0 rfl (lv_at hl 0 rfl) ?_
  refine li_iconst hx hb dX12_traps_1 ?_
  refine va_put (D := G) (ci := 11) (v := .int (ii 0)) (ty := .int) (C := RX12) (T := TX12) (N := 52) hx hb hts in_X12 tyX12 tyX12_ok nmX12 hown hK hP hD hS 0 (aM_0 _ _ _ _ _) rfl 14 (by decide) (hts _ q1279) (fun _ h9 => h9) rfl (tyX12_ok 14 (by decide)) rfl rfl (Nat.le_of_ble_eq_true rfl) dX12_traps_2 (fun H locs hP hD hS => ?_)
  have hP : va_P G gcl (wM am ty τ (up ρ 14 (sc (0))) ++ cs) H := hP
  have hD : va_D A (wM am ty τ (up ρ 14 (sc (0))) ++ cs) := hD
  refine lv_aload_n hx hb dX12_traps_5 rfl (lv_at hl 0 rfl) ?_
  refine kM (va_runV (As := []) (rest := []) ⟨hx, hb, hml, hown, hts⟩ ((m_findLeadsM l G am ty τ (up ρ 14 (sc (0))) cs _ (show okF F from hF) (show Sim F τ from hSm) (show wfS (ρ 27) (ρ 28) from hSt) (show zerF F from hZ) (show CIx F (ρ 36 0) (ρ 37 0) (ρ 31) (ρ 32) (ρ 33 0) (ρ 29) (ρ 30 0) (ρ 39) from hci)) H.size) (cwV 0 hts (lw_V q1648 q1650 qs68 q87 q1651) rfl rfl rfl (by decide +kernel) ⟨Nat.le_of_ble_eq_true rfl, Nat.le_of_ble_eq_true rfl⟩) (pvM (r := (RX12, TX12, 52)) hK hP hD hX 0 (aM_0 _ _ _ _ _) rfl) rfl rfl hl.1 rfl (lv_room (Nat.le_of_ble_eq_true rfl)) dX12_traps_6 ⟨Nat.le_of_ble_eq_true rfl, Nat.le_of_ble_eq_true rfl⟩) hD hS hA (fun v ws1 H locs hv hP hD hS => ?_)
  obtain ⟨wT6, qT6, gm6, nm6, la6, me6, n86, qu6, qd6, is6, il6, ld6, rfl, rfl, hSt6, hSo6, hCL6, hnm6, hld6, hci6⟩ := hv
  have hP : va_P G gcl (wM am ty τ (up (up (up (up (up (up (up (up (up (up (up (up (up ρ 14 (sc (0))) 27 wT6) 28 qT6) 29 gm6) 30 (sc (nm6))) 31 la6) 32 me6) 33 (sc (n86))) 34 qu6) 35 qd6) 36 (sc (is6))) 37 (sc (il6))) 39 ld6) ++ cs) H := hP
  have hD : va_D A (wM am ty τ (up (up (up (up (up (up (up (up (up (up (up (up (up ρ 14 (sc (0))) 27 wT6) 28 qT6) 29 gm6) 30 (sc (nm6))) 31 la6) 32 me6) 33 (sc (n86))) 34 qu6) 35 qd6) 36 (sc (is6))) 37 (sc (il6))) 39 ld6) ++ cs) := hD
  have hSt6 : wfS wT6 qT6 := hSt6
  have hSo6 : Sought (EF F) (cdv (F 6) (F 7)) la6 me6 n86 := hSo6
  have hCL6 : LL (cand F) gm6 nm6 70000 := hCL6
  have hnm6 : 0 ≤ nm6 ∧ nm6 ≤ 2400 := hnm6
  have hld6 : ldP F la6 ld6 := hld6
  have hci6 : CIx F is6 il6 la6 me6 n86 gm6 nm6 ld6 := hci6
  refine li_iconst hx hb dX12_traps_9 ?_
  refine lv_istore_n (lv' := [(1, .int (ii 0)), (0, .ref (am 0))]) hx hb dX12_traps_10 rfl hl (by decide) rfl (fun ls hl => ?_)
  refine li_iconst hx hb dX12_traps_11 ?_
  refine lv_istore_n (lv' := [(2, .int (ii 0)), (1, .int (ii 0)), (0, .ref (am 0))]) hx hb dX12_traps_12 rfl hl (by decide) rfl (fun ls hl => ?_)
  have L13 : ∀ (n : Nat) (k1 : Int) (t1 : Int) (_ : 0 ≤ k1) (_ : k1 ≤ n86) (_ : t1 = cn (fun i => ¬ LeadA F (-1) (me6 i)) k1) (_ : (n86 - k1).toNat < n) (H : Heap) (locs : List Loc) (_ : va_P G gcl (wM am ty τ (up (up (up (up (up (up (up (up (up (up (up (up (up ρ 14 (sc (0))) 27 wT6) 28 qT6) 29 gm6) 30 (sc (nm6))) 31 la6) 32 me6) 33 (sc (n86))) 34 qu6) 35 qd6) 36 (sc (is6))) 37 (sc (il6))) 39 ld6) ++ cs) H) (_ : va_D A (wM am ty τ (up (up (up (up (up (up (up (up (up (up (up (up (up ρ 14 (sc (0))) 27 wT6) 28 qT6) 29 gm6) 30 (sc (nm6))) 31 la6) 32 me6) 33 (sc (n86))) 34 qu6) 35 qd6) 36 (sc (is6))) 37 (sc (il6))) 39 ld6) ++ cs)) (_ : va_S A s.heap H locs) (ls : Array Slot), lv_has ls 3 [(2, .int (ii k1)), (1, .int (ii t1)), (0, .ref (am 0))] → W p l e (rm4 6 0 0 152) s m args below meth c H locs 0 0 Q (F0 m 13 ls []) := by
    intro n
    induction n with
    | zero =>
      intro k1 t1 hk0 hk1 hct hm
      exact absurd hm (Nat.not_lt_zero _)
    | succ n ih =>
      intro k1 t1 hk0 hk1 hct hm H locs hP hD hS ls hl
      have hn1 := hSo6.n1
      have hn2 := hSo6.toMet.n2
      refine lv_iload_n hx hb dX12_traps_13 rfl (lv_at hl 0 rfl) ?_
      refine lv_aload_n hx hb dX12_traps_14 rfl (lv_at hl 2 rfl) ?_
      refine va_get (D := G) (ci := 11) (v := .int (ii n86)) (C := RX12) (T := TX12) (N := 52) hx hb hts in_X12 hown hK hP 0 (aM_0 _ _ _ _ _) rfl 33 (by decide) (hts _ q1298) (fun _ h9 => h9) rfl dX12_traps_15 ?_
      refine li_icmp_ge (tgt := 49) hx hb ⟨by omega, by omega⟩ ⟨by omega, by omega⟩ dX12_traps_18 (by decide) (fun c18 => ?_) (fun c18 => ?_)
      · refine lv_iload_n hx hb dX12_traps_49 rfl (lv_at hl 1 rfl) ?_
        exact eMi hQ hx hb hr hlk hP hD hS (Nat.le_of_ble_eq_true rfl) (Nat.le_of_ble_eq_true rfl) dX12_traps_50 (⟨t1, wT6, qT6, gm6, nm6, la6, me6, n86, qu6, qd6, is6, il6, ld6, rfl, rfl, hSt6, hci6, ⟨_, _, _, hSo6, by rw [hct, show k1 = n86 by omega]⟩⟩)
      · have hmk := (hSo6.mt k1 hk0 c18).1
        have hmq := (hSo6.mt k1 hk0 c18).2
        obtain ⟨hmk0, hmk1⟩ := id hmk
        have hg01 := hld6.1 _ hmk hmq
        have hgl := hld6.2 _ hmk hmq
        refine lv_iload_n hx hb dX12_traps_21 rfl (lv_at hl 1 rfl) ?_
        refine lv_aload_n hx hb dX12_traps_22 rfl (lv_at hl 2 rfl) ?_
        refine va_get (D := G) (ci := 11) (v := .ref (am 24)) (C := RX12) (T := TX12) (N := 52) hx hb hts in_X12 hown hK hP 0 (aM_0 _ _ _ _ _) rfl 39 (by decide) (hts _ q1304) (fun _ h9 => h9) rfl dX12_traps_23 ?_
        refine lv_aload_n hx hb dX12_traps_26 rfl (lv_at hl 2 rfl) ?_
        refine va_get (D := G) (ci := 11) (v := .ref (am 20)) (C := RX12) (T := TX12) (N := 52) hx hb hts in_X12 hown hK hP 0 (aM_0 _ _ _ _ _) rfl 32 (by decide) (hts _ q1297) (fun _ h9 => h9) rfl dX12_traps_27 ?_
        refine lv_iload_n hx hb dX12_traps_30 rfl (lv_at hl 0 rfl) ?_
        refine li_iald (g := me6) hx hb hK hP 20 0 (aM_20 _ _ _ _ _) rfl (by omega) (by omega) (by decide) dX12_traps_31 ?_
        refine li_zald (g := ld6) hx hb hK hP 24 1 (aM_24 _ _ _ _ _) rfl (by omega) (by omega) (by decide) dX12_traps_32 ?_
        refine li_if_eq (tgt := 40) hx hb ⟨by omega, by omega⟩ dX12_traps_33 (by decide) (fun c33 => ?_) (fun c33 => ?_)
        · refine li_iconst hx hb dX12_traps_40 ?_
          refine li_add hx hb dX12_traps_41 ?_
          refine lv_istore_n (lv' := [(1, .int (ii (t1 + 1))), (2, .int (ii k1)), (0, .ref (am 0))]) hx hb dX12_traps_42 rfl hl (by decide) rfl (fun ls hl => ?_)
          refine li_iinc (a := k1) (lv' := [(2, .int (ii (k1 + 1))), (1, .int (ii (t1 + 1))), (0, .ref (am 0))]) hx hb dX12_traps_43 hl (k := 1) rfl (by decide) rfl (fun ls hl => ?_)
          refine lv_goto (tgt := 13) hx hb dX12_traps_46 (by decide) ?_
          exact ih (k1 + 1) (t1 + 1) (by omega) (by omega) (by rw [cn_s (P := fun i => ¬ LeadA F (-1) (me6 i)) hk0 (fun q => by have := hgl.mpr q; omega), hct]) (by omega) H locs hP hD hS ls (lv_sub hl [0, 1, 2] rfl)
        · refine li_iconst hx hb dX12_traps_36 ?_
          refine lv_goto (tgt := 41) hx hb dX12_traps_37 (by decide) ?_
          refine li_add hx hb dX12_traps_41 ?_
          refine lv_istore_n (lv' := [(1, .int (ii (t1 + 0))), (2, .int (ii k1)), (0, .ref (am 0))]) hx hb dX12_traps_42 rfl hl (by decide) rfl (fun ls hl => ?_)
          refine li_iinc (a := k1) (lv' := [(2, .int (ii (k1 + 1))), (1, .int (ii (t1 + 0))), (0, .ref (am 0))]) hx hb dX12_traps_43 hl (k := 1) rfl (by decide) rfl (fun ls hl => ?_)
          refine lv_goto (tgt := 13) hx hb dX12_traps_46 (by decide) ?_
          exact ih (k1 + 1) (t1 + 0) (by omega) (by omega) (by rw [cn_n (P := fun i => ¬ LeadA F (-1) (me6 i)) hk0 (fun q => q (hgl.mp (by omega))), hct]; omega) (by omega) H locs hP hD hS ls (lv_sub hl [0, 1, 2] rfl)
  exact L13 _ 0 0 (by omega) (by have := hSo6.n1; omega) ((cn_0 _).symm) (Nat.lt_succ_self _) H locs hP hD hS ls (lv_sub hl [0, 1, 2] rfl)
set_option maxHeartbeats 4000000 in
theorem m_isAloneM (l : Launch) (G : va_G) (am : Nat → Nat) (ty : Nat → ClassId) (τ ρ : mem) (cs : va_W) (a1 : Int) (F : mem) (hF : okF F) (hSm : Sim F τ) (hSt : wfS (ρ 27) (ρ 28)) (ha : 0 ≤ a1 ∧ a1 < F 9 0) : cR l yX12_isAlone (ws_ yX12_isAlone cX12_isAlone 4 (some .boolean)) (rm4 0 0 0 0) G ty (wM am ty τ ρ ++ cs) [.ref (am 0), .int (ii a1)] (fun r => ∃ (z : Int), r = some (.int (ii z)) ∧ ((z = 1 ∧ (aloneW F a1 (ρ 27))) ∨ (z = 0 ∧ (¬ aloneW F a1 (ρ 27))))) := by
  refine cR.of (by decide) (Nat.le_of_ble_eq_true rfl) ?_
  intro p e s m args below meth c Q hQ hx hb hr hml hown hlk hts hK hP hD hX ls hl
  have hl : lv_has ls 4 [(0, .ref (am 0)), (1, .int (ii a1))] := hl
  obtain ⟨hW, hWS, hlg⟩ := id hF
  obtain ⟨hw0, hw1, hw2, hw3, hw4, hw5, h8a, h8b, h9a, h9b, h10a, h10b⟩ := id hW
  obtain ⟨mL, mP, mR, mC, mK, mM, mA, mB, mD⟩ := id hSm
  obtain ⟨hs0, hs1⟩ := id hSt
  obtain ⟨ha0, ha1⟩ := id ha
  have e0 : a1 = 0 → ρ 27 a1 = ρ 27 0 := fun q => by rw [q]
  have e1 : a1 = 1 → ρ 27 a1 = ρ 27 1 := fun q => by rw [q]
  have e2 : a1 = 2 → ρ 27 a1 = ρ 27 2 := fun q => by rw [q]
  refine lv_aload_n hx hb dX12_isAlone_0 rfl (lv_at hl 0 rfl) ?_
  refine va_get (D := G) (ci := 11) (v := .ref (am 16)) (C := RX12) (T := TX12) (N := 52) hx hb hts in_X12 hown hK hP 0 (aM_0 _ _ _ _ _) rfl 27 (by decide) (hts _ q1292) (fun _ h9 => h9) rfl dX12_isAlone_1 ?_
  refine lv_iload_n hx hb dX12_isAlone_4 rfl (lv_at hl 1 rfl) ?_
  refine li_iald (g := (ρ 27)) hx hb hK hP 16 0 (aM_16 _ _ _ _ _) rfl (by omega) (by omega) (by decide) dX12_isAlone_5 ?_
  have r6 := hs0 a1
  refine lv_aload_n hx hb dX12_isAlone_6 rfl (lv_at hl 0 rfl) ?_
  refine va_get (D := G) (ci := 11) (v := .int (ii (τ 0 0))) (C := RX12) (T := TX12) (N := 52) hx hb hts in_X12 hown hK hP 0 (aM_0 _ _ _ _ _) rfl 0 (by decide) (hts _ q1265) (fun _ h9 => h9) rfl dX12_isAlone_7 ?_
  refine li_iconst hx hb dX12_isAlone_10 ?_
  refine li_sub hx hb dX12_isAlone_11 ?_
  have J12 : ∀ (y12_0 : Int) (_ : (((ρ 27 a1) = (τ 0 0 - 1)) ∧ y12_0 = 0) ∨ ((¬ (ρ 27 a1) = (τ 0 0 - 1)) ∧ y12_0 = 1)) (ls : Array Slot), lv_has ls 4 [(0, .ref (am 0)), (1, .int (ii a1))] → W p l e (rm4 0 0 0 0) s m args below meth c s.heap [] 0 0 Q (F0 m 20 ls [.int (ii y12_0)]) := by
    intro y12_0 hj12 ls hl
    refine lv_istore_n (lv' := [(2, .int (ii y12_0)), (0, .ref (am 0)), (1, .int (ii a1))]) hx hb dX12_isAlone_20 rfl hl (by decide) rfl (fun ls hl => ?_)
    refine li_iconst hx hb dX12_isAlone_21 ?_
    refine lv_istore_n (lv' := [(3, .int (ii 0)), (2, .int (ii y12_0)), (0, .ref (am 0)), (1, .int (ii a1))]) hx hb dX12_isAlone_22 rfl hl (by decide) rfl (fun ls hl => ?_)
    refine lv_iload_n hx hb dX12_isAlone_23 rfl (lv_at hl 0 rfl) ?_
    refine lv_aload_n hx hb dX12_isAlone_24 rfl (lv_at hl 2 rfl) ?_
    refine va_get (D := G) (ci := 11) (v := .int (ii (τ 5 0))) (C := RX12) (T := TX12) (N := 52) hx hb hts in_X12 hown hK hP 0 (aM_0 _ _ _ _ _) rfl 5 (by decide) (hts _ q1270) (fun _ h9 => h9) rfl dX12_isAlone_25 ?_
    refine li_icmp_ge (tgt := 67) hx hb ⟨by decide, by decide⟩ ⟨by omega, by omega⟩ dX12_isAlone_28 (by decide) (fun c28 => ?_) (fun c28 => ?_)
    · refine lv_iload_n hx hb dX12_isAlone_67 rfl (lv_at hl 1 rfl) ?_
      exact eRz hQ hx hb hr hlk dX12_isAlone_68 (by omega) (⟨y12_0, rfl, by unfold aloneW; omega⟩)
    · refine lv_iload_n hx hb dX12_isAlone_31 rfl (lv_at hl 1 rfl) ?_
      have J32 : ∀ (y32_0 : Int) (_ : ((y12_0 = 0) ∧ y32_0 = 0) ∨ ((¬ y12_0 = 0) ∧ (0 = a1) ∧ y32_0 = 1) ∨ ((¬ y12_0 = 0) ∧ (¬ 0 = a1) ∧ (¬ (ρ 27 0) = (τ 0 0 - 1)) ∧ y32_0 = 0) ∨ ((¬ y12_0 = 0) ∧ (¬ 0 = a1) ∧ ((ρ 27 0) = (τ 0 0 - 1)) ∧ y32_0 = 1)) (ls : Array Slot), lv_has ls 4 [(3, .int (ii 0)), (2, .int (ii y12_0)), (0, .ref (am 0)), (1, .int (ii a1))] → W p l e (rm4 0 0 0 0) s m args below meth c s.heap [] 0 0 Q (F0 m 60 ls [.int (ii y32_0)]) := by
        intro y32_0 hj32 ls hl
        refine lv_istore_n (lv' := [(2, .int (ii y32_0)), (3, .int (ii 0)), (0, .ref (am 0)), (1, .int (ii a1))]) hx hb dX12_isAlone_60 rfl hl (by decide) rfl (fun ls hl => ?_)
        refine li_iinc (a := 0) (lv' := [(3, .int (ii 1)), (2, .int (ii y32_0)), (0, .ref (am 0)), (1, .int (ii a1))]) hx hb dX12_isAlone_61 hl (k := 1) rfl (by decide) rfl (fun ls hl => ?_)
        refine lv_goto (tgt := 23) hx hb dX12_isAlone_64 (by decide) ?_
        refine lv_iload_n hx hb dX12_isAlone_23 rfl (lv_at hl 0 rfl) ?_
        refine lv_aload_n hx hb dX12_isAlone_24 rfl (lv_at hl 2 rfl) ?_
        refine va_get (D := G) (ci := 11) (v := .int (ii (τ 5 0))) (C := RX12) (T := TX12) (N := 52) hx hb hts in_X12 hown hK hP 0 (aM_0 _ _ _ _ _) rfl 5 (by decide) (hts _ q1270) (fun _ h9 => h9) rfl dX12_isAlone_25 ?_
        refine li_icmp_ge (tgt := 67) hx hb ⟨by decide, by decide⟩ ⟨by omega, by omega⟩ dX12_isAlone_28 (by decide) (fun c28 => ?_) (fun c28 => ?_)
        · refine lv_iload_n hx hb dX12_isAlone_67 rfl (lv_at hl 1 rfl) ?_
          exact eRz hQ hx hb hr hlk dX12_isAlone_68 (by omega) (⟨y32_0, rfl, by unfold aloneW; omega⟩)
        · refine lv_iload_n hx hb dX12_isAlone_31 rfl (lv_at hl 1 rfl) ?_
          have J32_1 : ∀ (y32_1_0 : Int) (_ : ((y32_0 = 0) ∧ y32_1_0 = 0) ∨ ((¬ y32_0 = 0) ∧ (1 = a1) ∧ y32_1_0 = 1) ∨ ((¬ y32_0 = 0) ∧ (¬ 1 = a1) ∧ (¬ (ρ 27 1) = (τ 0 0 - 1)) ∧ y32_1_0 = 0) ∨ ((¬ y32_0 = 0) ∧ (¬ 1 = a1) ∧ ((ρ 27 1) = (τ 0 0 - 1)) ∧ y32_1_0 = 1)) (ls : Array Slot), lv_has ls 4 [(3, .int (ii 1)), (2, .int (ii y32_0)), (0, .ref (am 0)), (1, .int (ii a1))] → W p l e (rm4 0 0 0 0) s m args below meth c s.heap [] 0 0 Q (F0 m 60 ls [.int (ii y32_1_0)]) := by
            intro y32_1_0 hj32_1 ls hl
            refine lv_istore_n (lv' := [(2, .int (ii y32_1_0)), (3, .int (ii 1)), (0, .ref (am 0)), (1, .int (ii a1))]) hx hb dX12_isAlone_60 rfl hl (by decide) rfl (fun ls hl => ?_)
            refine li_iinc (a := 1) (lv' := [(3, .int (ii 2)), (2, .int (ii y32_1_0)), (0, .ref (am 0)), (1, .int (ii a1))]) hx hb dX12_isAlone_61 hl (k := 1) rfl (by decide) rfl (fun ls hl => ?_)
            refine lv_goto (tgt := 23) hx hb dX12_isAlone_64 (by decide) ?_
            refine lv_iload_n hx hb dX12_isAlone_23 rfl (lv_at hl 0 rfl) ?_
            refine lv_aload_n hx hb dX12_isAlone_24 rfl (lv_at hl 2 rfl) ?_
            refine va_get (D := G) (ci := 11) (v := .int (ii (τ 5 0))) (C := RX12) (T := TX12) (N := 52) hx hb hts in_X12 hown hK hP 0 (aM_0 _ _ _ _ _) rfl 5 (by decide) (hts _ q1270) (fun _ h9 => h9) rfl dX12_isAlone_25 ?_
            refine li_icmp_ge (tgt := 67) hx hb ⟨by decide, by decide⟩ ⟨by omega, by omega⟩ dX12_isAlone_28 (by decide) (fun c28 => ?_) (fun c28 => ?_)
            · refine lv_iload_n hx hb dX12_isAlone_67 rfl (lv_at hl 1 rfl) ?_
              exact eRz hQ hx hb hr hlk dX12_isAlone_68 (by omega) (⟨y32_1_0, rfl, by unfold aloneW; omega⟩)
            · refine lv_iload_n hx hb dX12_isAlone_31 rfl (lv_at hl 1 rfl) ?_
              have J32_2 : ∀ (y32_2_0 : Int) (_ : ((y32_1_0 = 0) ∧ y32_2_0 = 0) ∨ ((¬ y32_1_0 = 0) ∧ (2 = a1) ∧ y32_2_0 = 1) ∨ ((¬ y32_1_0 = 0) ∧ (¬ 2 = a1) ∧ (¬ (ρ 27 2) = (τ 0 0 - 1)) ∧ y32_2_0 = 0) ∨ ((¬ y32_1_0 = 0) ∧ (¬ 2 = a1) ∧ ((ρ 27 2) = (τ 0 0 - 1)) ∧ y32_2_0 = 1)) (ls : Array Slot), lv_has ls 4 [(3, .int (ii 2)), (2, .int (ii y32_1_0)), (0, .ref (am 0)), (1, .int (ii a1))] → W p l e (rm4 0 0 0 0) s m args below meth c s.heap [] 0 0 Q (F0 m 60 ls [.int (ii y32_2_0)]) := by
                intro y32_2_0 hj32_2 ls hl
                refine lv_istore_n (lv' := [(2, .int (ii y32_2_0)), (3, .int (ii 2)), (0, .ref (am 0)), (1, .int (ii a1))]) hx hb dX12_isAlone_60 rfl hl (by decide) rfl (fun ls hl => ?_)
                refine li_iinc (a := 2) (lv' := [(3, .int (ii 3)), (2, .int (ii y32_2_0)), (0, .ref (am 0)), (1, .int (ii a1))]) hx hb dX12_isAlone_61 hl (k := 1) rfl (by decide) rfl (fun ls hl => ?_)
                refine lv_goto (tgt := 23) hx hb dX12_isAlone_64 (by decide) ?_
                refine lv_iload_n hx hb dX12_isAlone_23 rfl (lv_at hl 0 rfl) ?_
                refine lv_aload_n hx hb dX12_isAlone_24 rfl (lv_at hl 2 rfl) ?_
                refine va_get (D := G) (ci := 11) (v := .int (ii (τ 5 0))) (C := RX12) (T := TX12) (N := 52) hx hb hts in_X12 hown hK hP 0 (aM_0 _ _ _ _ _) rfl 5 (by decide) (hts _ q1270) (fun _ h9 => h9) rfl dX12_isAlone_25 ?_
                refine li_icmp_ge (tgt := 67) hx hb ⟨by decide, by decide⟩ ⟨by omega, by omega⟩ dX12_isAlone_28 (by decide) (fun c28 => ?_) (fun c28 => ?_)
                · refine lv_iload_n hx hb dX12_isAlone_67 rfl (lv_at hl 1 rfl) ?_
                  exact eRz hQ hx hb hr hlk dX12_isAlone_68 (by omega) (⟨y32_2_0, rfl, by unfold aloneW; omega⟩)
                · exfalso
                  omega
              refine li_if_eq (tgt := 59) hx hb ⟨by omega, by omega⟩ dX12_isAlone_32 (by decide) (fun c32 => ?_) (fun c32 => ?_)
              · refine li_iconst hx hb dX12_isAlone_59 ?_
                exact J32_2 0 (.inl (⟨c32, rfl⟩)) ls (lv_sub hl [0, 1, 2, 3] rfl)
              · refine lv_iload_n hx hb dX12_isAlone_35 rfl (lv_at hl 0 rfl) ?_
                refine lv_iload_n hx hb dX12_isAlone_36 rfl (lv_at hl 3 rfl) ?_
                refine li_icmp_eq (tgt := 55) hx hb ⟨by decide, by decide⟩ ⟨by omega, by omega⟩ dX12_isAlone_37 (by decide) (fun c37 => ?_) (fun c37 => ?_)
                · refine li_iconst hx hb dX12_isAlone_55 ?_
                  refine lv_goto (tgt := 60) hx hb dX12_isAlone_56 (by decide) ?_
                  exact J32_2 1 (.inr (.inl (⟨c32, c37, rfl⟩))) ls (lv_sub hl [0, 1, 2, 3] rfl)
                · refine lv_aload_n hx hb dX12_isAlone_40 rfl (lv_at hl 2 rfl) ?_
                  refine va_get (D := G) (ci := 11) (v := .ref (am 16)) (C := RX12) (T := TX12) (N := 52) hx hb hts in_X12 hown hK hP 0 (aM_0 _ _ _ _ _) rfl 27 (by decide) (hts _ q1292) (fun _ h9 => h9) rfl dX12_isAlone_41 ?_
                  refine lv_iload_n hx hb dX12_isAlone_44 rfl (lv_at hl 0 rfl) ?_
                  refine li_iald (g := (ρ 27)) hx hb hK hP 16 0 (aM_16 _ _ _ _ _) rfl (by decide) (by decide) (by decide) dX12_isAlone_45 ?_
                  have r46 := hs0 2
                  refine lv_aload_n hx hb dX12_isAlone_46 rfl (lv_at hl 2 rfl) ?_
                  refine va_get (D := G) (ci := 11) (v := .int (ii (τ 0 0))) (C := RX12) (T := TX12) (N := 52) hx hb hts in_X12 hown hK hP 0 (aM_0 _ _ _ _ _) rfl 0 (by decide) (hts _ q1265) (fun _ h9 => h9) rfl dX12_isAlone_47 ?_
                  refine li_iconst hx hb dX12_isAlone_50 ?_
                  refine li_sub hx hb dX12_isAlone_51 ?_
                  refine li_icmp_ne (tgt := 59) hx hb (rgi r46.1 r46.2) ⟨by omega, by omega⟩ dX12_isAlone_52 (by decide) (fun c52 => ?_) (fun c52 => ?_)
                  · refine li_iconst hx hb dX12_isAlone_59 ?_
                    exact J32_2 0 (.inr (.inr (.inl (⟨c32, c37, c52, rfl⟩)))) ls (lv_sub hl [0, 1, 2, 3] rfl)
                  · refine li_iconst hx hb dX12_isAlone_55 ?_
                    refine lv_goto (tgt := 60) hx hb dX12_isAlone_56 (by decide) ?_
                    exact J32_2 1 (.inr (.inr (.inr (⟨c32, c37, c52, rfl⟩)))) ls (lv_sub hl [0, 1, 2, 3] rfl)
          refine li_if_eq (tgt := 59) hx hb ⟨by omega, by omega⟩ dX12_isAlone_32 (by decide) (fun c32 => ?_) (fun c32 => ?_)
          · refine li_iconst hx hb dX12_isAlone_59 ?_
            exact J32_1 0 (.inl (⟨c32, rfl⟩)) ls (lv_sub hl [0, 1, 2, 3] rfl)
          · refine lv_iload_n hx hb dX12_isAlone_35 rfl (lv_at hl 0 rfl) ?_
            refine lv_iload_n hx hb dX12_isAlone_36 rfl (lv_at hl 3 rfl) ?_
            refine li_icmp_eq (tgt := 55) hx hb ⟨by decide, by decide⟩ ⟨by omega, by omega⟩ dX12_isAlone_37 (by decide) (fun c37 => ?_) (fun c37 => ?_)
            · refine li_iconst hx hb dX12_isAlone_55 ?_
              refine lv_goto (tgt := 60) hx hb dX12_isAlone_56 (by decide) ?_
              exact J32_1 1 (.inr (.inl (⟨c32, c37, rfl⟩))) ls (lv_sub hl [0, 1, 2, 3] rfl)
            · refine lv_aload_n hx hb dX12_isAlone_40 rfl (lv_at hl 2 rfl) ?_
              refine va_get (D := G) (ci := 11) (v := .ref (am 16)) (C := RX12) (T := TX12) (N := 52) hx hb hts in_X12 hown hK hP 0 (aM_0 _ _ _ _ _) rfl 27 (by decide) (hts _ q1292) (fun _ h9 => h9) rfl dX12_isAlone_41 ?_
              refine lv_iload_n hx hb dX12_isAlone_44 rfl (lv_at hl 0 rfl) ?_
              refine li_iald (g := (ρ 27)) hx hb hK hP 16 0 (aM_16 _ _ _ _ _) rfl (by decide) (by decide) (by decide) dX12_isAlone_45 ?_
              have r46 := hs0 1
              refine lv_aload_n hx hb dX12_isAlone_46 rfl (lv_at hl 2 rfl) ?_
              refine va_get (D := G) (ci := 11) (v := .int (ii (τ 0 0))) (C := RX12) (T := TX12) (N := 52) hx hb hts in_X12 hown hK hP 0 (aM_0 _ _ _ _ _) rfl 0 (by decide) (hts _ q1265) (fun _ h9 => h9) rfl dX12_isAlone_47 ?_
              refine li_iconst hx hb dX12_isAlone_50 ?_
              refine li_sub hx hb dX12_isAlone_51 ?_
              refine li_icmp_ne (tgt := 59) hx hb (rgi r46.1 r46.2) ⟨by omega, by omega⟩ dX12_isAlone_52 (by decide) (fun c52 => ?_) (fun c52 => ?_)
              · refine li_iconst hx hb dX12_isAlone_59 ?_
                exact J32_1 0 (.inr (.inr (.inl (⟨c32, c37, c52, rfl⟩)))) ls (lv_sub hl [0, 1, 2, 3] rfl)
              · refine li_iconst hx hb dX12_isAlone_55 ?_
                refine lv_goto (tgt := 60) hx hb dX12_isAlone_56 (by decide) ?_
                exact J32_1 1 (.inr (.inr (.inr (⟨c32, c37, c52, rfl⟩)))) ls (lv_sub hl [0, 1, 2, 3] rfl)
      refine li_if_eq (tgt := 59) hx hb ⟨by omega, by omega⟩ dX12_isAlone_32 (by decide) (fun c32 => ?_) (fun c32 => ?_)
      · refine li_iconst hx hb dX12_isAlone_59 ?_
        exact J32 0 (.inl (⟨c32, rfl⟩)) ls (lv_sub hl [0, 1, 2, 3] rfl)
      · refine lv_iload_n hx hb dX12_isAlone_35 rfl (lv_at hl 0 rfl) ?_
        refine lv_iload_n hx hb dX12_isAlone_36 rfl (lv_at hl 3 rfl) ?_
        refine li_icmp_eq (tgt := 55) hx hb ⟨by decide, by decide⟩ ⟨by omega, by omega⟩ dX12_isAlone_37 (by decide) (fun c37 => ?_) (fun c37 => ?_)
        · refine li_iconst hx hb dX12_isAlone_55 ?_
          refine lv_goto (tgt := 60) hx hb dX12_isAlone_56 (by decide) ?_
          exact J32 1 (.inr (.inl (⟨c32, c37, rfl⟩))) ls (lv_sub hl [0, 1, 2, 3] rfl)
        · refine lv_aload_n hx hb dX12_isAlone_40 rfl (lv_at hl 2 rfl) ?_
          refine va_get (D := G) (ci := 11) (v := .ref (am 16)) (C := RX12) (T := TX12) (N := 52) hx hb hts in_X12 hown hK hP 0 (aM_0 _ _ _ _ _) rfl 27 (by decide) (hts _ q1292) (fun _ h9 => h9) rfl dX12_isAlone_41 ?_
          refine lv_iload_n hx hb dX12_isAlone_44 rfl (lv_at hl 0 rfl) ?_
          refine li_iald (g := (ρ 27)) hx hb hK hP 16 0 (aM_16 _ _ _ _ _) rfl (by decide) (by decide) (by decide) dX12_isAlone_45 ?_
          have r46 := hs0 0
          refine lv_aload_n hx hb dX12_isAlone_46 rfl (lv_at hl 2 rfl) ?_
          refine va_get (D := G) (ci := 11) (v := .int (ii (τ 0 0))) (C := RX12) (T := TX12) (N := 52) hx hb hts in_X12 hown hK hP 0 (aM_0 _ _ _ _ _) rfl 0 (by decide) (hts _ q1265) (fun _ h9 => h9) rfl dX12_isAlone_47 ?_
          refine li_iconst hx hb dX12_isAlone_50 ?_
          refine li_sub hx hb dX12_isAlone_51 ?_
          refine li_icmp_ne (tgt := 59) hx hb (rgi r46.1 r46.2) ⟨by omega, by omega⟩ dX12_isAlone_52 (by decide) (fun c52 => ?_) (fun c52 => ?_)
          · refine li_iconst hx hb dX12_isAlone_59 ?_
            exact J32 0 (.inr (.inr (.inl (⟨c32, c37, c52, rfl⟩)))) ls (lv_sub hl [0, 1, 2, 3] rfl)
          · refine li_iconst hx hb dX12_isAlone_55 ?_
            refine lv_goto (tgt := 60) hx hb dX12_isAlone_56 (by decide) ?_
            exact J32 1 (.inr (.inr (.inr (⟨c32, c37, c52, rfl⟩)))) ls (lv_sub hl [0, 1, 2, 3] rfl)
  refine li_icmp_eq (tgt := 19) hx hb (rgi r6.1 r6.2) ⟨by omega, by omega⟩ dX12_isAlone_12 (by decide) (fun c12 => ?_) (fun c12 => ?_)
  · refine li_iconst hx hb dX12_isAlone_19 ?_
    exact J12 0 (.inl (⟨c12, rfl⟩)) ls (lv_sub hl [0, 1] rfl)
  · refine li_iconst hx hb dX12_isAlone_15 ?_
    refine lv_goto (tgt := 20) hx hb dX12_isAlone_16 (by decide) ?_
    exact J12 1 (.inr (⟨c12, rfl⟩)) ls (lv_sub hl [0, 1] rfl)
set_option maxHeartbeats 4000000 in
theorem m_mayBeLastM (l : Launch) (G : va_G) (am : Nat → Nat) (ty : Nat → ClassId) (τ ρ : mem) (cs : va_W) (a1 : Int) (F : mem) (hF : okF F) (hSm : Sim F τ) (hSt : wfS (ρ 27) (ρ 28)) (hCL : LL (cand F) (ρ 29) (ρ 30 0) 70000) (hnm : 0 ≤ (ρ 30 0) ∧ (ρ 30 0) ≤ 2400) (hSo : Sought (EF F) (cdv (F 6) (F 7)) (ρ 31) (ρ 32) (ρ 33 0)) (ha : 0 ≤ a1 ∧ a1 < F 9 0) : cM l yX12_mayBeLast (ws_ yX12_mayBeLast cX12_mayBeLast 7 (some .boolean)) (rm4 3 0 0 81) G ty (wM am ty τ ρ ++ cs) [.ref (am 0), .int (ii a1)] 0 0 (fun r W' => ∃ (z : Int) (wT : Int → Int) (qT : Int → Int) (qu : Int → Int) (sn : Int → Int), r = some (.int (ii z)) ∧ W' = wM am ty τ (up (up (up (up ρ 27 wT) 28 qT) 34 qu) 40 sn) ++ cs ∧ (wfS wT qT) ∧ ((z = 1 ∧ (lastB F (ρ 31) a1)) ∨ (z = 0 ∧ (¬ lastB F (ρ 31) a1)))) := by
  refine cM.of (by decide) (Nat.le_of_ble_eq_true rfl) ?_
  intro p e s m args below meth c A Q H locs hQ hx hb hr hml hown hlk hname hts hK hP hD hS hA hX ls hl
  have hl : lv_has ls 7 [(0, .ref (am 0)), (1, .int (ii a1))] := hl
  obtain ⟨hW, hWS, hlg⟩ := id hF
  obtain ⟨hw0, hw1, hw2, hw3, hw4, hw5, h8a, h8b, h9a, h9b, h10a, h10b⟩ := id hW
  obtain ⟨mL, mP, mR, mC, mK, mM, mA, mB, mD⟩ := id hSm
  obtain ⟨ha0_, ha1_⟩ := id ha
  have hn1 := hSo.n1
  have hn2 := hSo.toMet.n2
  have hp2 := p2_b3 (n := a1) (by omega) (by omega)
  refine li_iconst hx hb dX12_mayBeLast_0 ?_
  refine lv_istore_n (lv' := [(2, .int (ii 0)), (0, .ref (am 0)), (1, .int (ii a1))]) hx hb dX12_mayBeLast_1 rfl hl (by decide) rfl (fun ls hl => ?_)
  have X2 : ∀ (i1 : Int) (s0 : Int → Int) (_ : ∀ c, inSt c → s0 c = 0) (H : Heap) (locs : List Loc) (_ : va_P G gcl (wM am ty τ (up ρ 40 s0) ++ cs) H) (_ : va_D A (wM am ty τ (up ρ 40 s0) ++ cs)) (_ : va_S A s.heap H locs) (ls : Array Slot), lv_has ls 7 [(0, .ref (am 0)), (1, .int (ii a1))] → W p l e (rm4 3 0 0 81) s m args below meth c H locs 0 0 Q (F0 m 22 ls []) := by
    intro i1 s0 hsa H locs hP hD hS ls hl
    refine li_iconst hx hb dX12_mayBeLast_22 ?_
    refine lv_istore_n (lv' := [(2, .int (ii 0)), (0, .ref (am 0)), (1, .int (ii a1))]) hx hb dX12_mayBeLast_23 rfl hl (by decide) rfl (fun ls hl => ?_)
    refine li_iconst hx hb dX12_mayBeLast_24 ?_
    refine lv_istore_n (lv' := [(3, .int (ii 0)), (2, .int (ii 0)), (0, .ref (am 0)), (1, .int (ii a1))]) hx hb dX12_mayBeLast_25 rfl hl (by decide) rfl (fun ls hl => ?_)
    have X26 : ∀ (k1 : Int) (ma : Int) (wT : Int → Int) (qT : Int → Int) (wt : Int → Int) (sn : Int → Int) (_ : wfS wT qT) (_ : dfsF F a1 (ρ 31) sn wt ma (fun _ => False)) (H : Heap) (locs : List Loc) (_ : va_P G gcl (wM am ty τ (up (up (up (up ρ 27 wT) 28 qT) 34 wt) 40 sn) ++ cs) H) (_ : va_D A (wM am ty τ (up (up (up (up ρ 27 wT) 28 qT) 34 wt) 40 sn) ++ cs)) (_ : va_S A s.heap H locs) (ls : Array Slot), lv_has ls 7 [(2, .int (ii ma)), (0, .ref (am 0)), (1, .int (ii a1))] → W p l e (rm4 3 0 0 81) s m args below meth c H locs 0 0 Q (F0 m 85 ls []) := by
      intro k1 ma wT qT wt sn hSt hDF H locs hP hD hS ls hl
      have L85 : ∀ (n : Nat) (ma : Int) (wT : Int → Int) (qT : Int → Int) (wt : Int → Int) (sn : Int → Int) (_ : wfS wT qT) (_ : dfsF F a1 (ρ 31) sn wt ma (fun _ => False)) (_ : (2 * (4500 - cn (fun c => sn c = 1) 4500) + ma).toNat < n) (H : Heap) (locs : List Loc) (_ : va_P G gcl (wM am ty τ (up (up (up (up ρ 27 wT) 28 qT) 34 wt) 40 sn) ++ cs) H) (_ : va_D A (wM am ty τ (up (up (up (up ρ 27 wT) 28 qT) 34 wt) 40 sn) ++ cs)) (_ : va_S A s.heap H locs) (ls : Array Slot), lv_has ls 7 [(2, .int (ii ma)), (0, .ref (am 0)), (1, .int (ii a1))] → W p l e (rm4 3 0 0 81) s m args below meth c H locs 0 0 Q (F0 m 85 ls []) := by
        intro n
        induction n with
        | zero =>
          intro ma wT qT wt sn hSt hDF hm
          exact absurd hm (Nat.not_lt_zero _)
        | succ n ih =>
          intro ma wT qT wt sn hSt hDF hm H locs hP hD hS ls hl
          have hmx := hDF.2.2.1
          have hcx := cn_le (P := fun c => sn c = 1) (m := 4500) (by decide)
          have hmy := hDF.2.1
          refine lv_iload_n hx hb dX12_mayBeLast_85 rfl (lv_at hl 0 rfl) ?_
          refine li_if_le (tgt := 222) hx hb ⟨by omega, by omega⟩ dX12_mayBeLast_86 (by decide) (fun c86 => ?_) (fun c86 => ?_)
          · refine li_iconst hx hb dX12_mayBeLast_222 ?_
            exact eMz hQ hx hb hr hlk hP hD hS (Nat.le_of_ble_eq_true rfl) (Nat.le_of_ble_eq_true rfl) dX12_mayBeLast_223 (.inl rfl) (⟨0, wT, qT, wt, sn, rfl, rfl, hSt, .inr ⟨rfl, dfs_e hDF (by omega) ha h9b⟩⟩)
          · obtain ⟨hic, hsc0, hDp⟩ := dfs_pop hDF c86
            obtain ⟨hic0, hic1⟩ := id hic
            have hmb1 := hDF.2.1
            have hmb2 := hDF.2.2.1
            have hcn0 := cn_le (P := fun c => sn c = 1) (m := 4500) (by decide)
            refine li_iinc (a := ma) (lv' := [(2, .int (ii (ma + (-1)))), (0, .ref (am 0)), (1, .int (ii a1))]) hx hb dX12_mayBeLast_89 hl (k := 0) rfl (by decide) rfl (fun ls hl => ?_)
            refine lv_aload_n hx hb dX12_mayBeLast_92 rfl (lv_at hl 1 rfl) ?_
            refine va_get (D := G) (ci := 11) (v := .ref (am 21)) (C := RX12) (T := TX12) (N := 52) hx hb hts in_X12 hown hK hP 0 (aM_0 _ _ _ _ _) rfl 34 (by decide) (hts _ q1299) (fun _ h9 => h9) rfl dX12_mayBeLast_93 ?_
            refine lv_iload_n hx hb dX12_mayBeLast_96 rfl (lv_at hl 0 rfl) ?_
            refine li_iald (g := wt) hx hb hK hP 21 0 (aM_21 _ _ _ _ _) rfl (by omega) (by omega) (by decide) dX12_mayBeLast_97 ?_
            refine lv_istore_n (lv' := [(3, .int (ii (wt (ma + (-1))))), (2, .int (ii (ma + (-1)))), (0, .ref (am 0)), (1, .int (ii a1))]) hx hb dX12_mayBeLast_98 rfl hl (by decide) rfl (fun ls hl => ?_)
            refine li_iconst hx hb dX12_mayBeLast_99 ?_
            refine lv_istore (lv' := [(4, .int (ii 0)), (3, .int (ii (wt (ma + (-1))))), (2, .int (ii (ma + (-1)))), (0, .ref (am 0)), (1, .int (ii a1))]) hx hb dX12_mayBeLast_100 hl (by decide) rfl (fun ls hl => ?_)
            have X102 : ∀ (k1 : Int) (mb : Int) (wU : Int → Int) (qU : Int → Int) (wv : Int → Int) (sm : Int → Int) (_ : wfS wU qU) (_ : dfsF F a1 (ρ 31) sm wv mb (fun _ => False)) (_ : 0 ≤ 2 * (4500 - cn (fun c => sm c = 1) 4500) + mb) (_ : 2 * (4500 - cn (fun c => sm c = 1) 4500) + mb ≤ 2 * (4500 - cn (fun c => sn c = 1) 4500) + (ma - 1)) (H : Heap) (locs : List Loc) (_ : va_P G gcl (wM am ty τ (up (up (up (up ρ 27 wU) 28 qU) 34 wv) 40 sm) ++ cs) H) (_ : va_D A (wM am ty τ (up (up (up (up ρ 27 wU) 28 qU) 34 wv) 40 sm) ++ cs)) (_ : va_S A s.heap H locs) (ls : Array Slot), lv_has ls 7 [(2, .int (ii mb)), (0, .ref (am 0)), (1, .int (ii a1))] → W p l e (rm4 3 0 0 81) s m args below meth c H locs 0 0 Q (F0 m 219 ls []) := by
              intro k1 mb wU qU wv sm hSt hDF hsm2 hphi H locs hP hD hS ls hl
              refine lv_goto (tgt := 85) hx hb dX12_mayBeLast_219 (by decide) ?_
              exact ih mb wU qU wv sm (hSt) (hDF) (by omega) H locs hP hD hS ls (lv_sub hl [0, 1, 2] rfl)
            have L102 : ∀ (n : Nat) (k1 : Int) (mb : Int) (wU : Int → Int) (qU : Int → Int) (wv : Int → Int) (sm : Int → Int) (_ : wfS wU qU) (_ : 0 ≤ k1) (_ : k1 ≤ ρ 30 0) (_ : dfsF F a1 (ρ 31) sm wv mb (fun c => c = (wt (ma + (-1))))) (_ : seenI (cand F) (fun m => leg F (wt (ma + (-1))) m → setOk a1 m → sm (nx (wt (ma + (-1))) m) = 1) k1) (_ : sm (wt (ma + (-1))) = 1) (_ : 2 * (4500 - cn (fun c => sm c = 1) 4500) + mb ≤ 2 * (4500 - cn (fun c => sn c = 1) 4500) + (ma - 1)) (_ : (ρ 30 0 - k1).toNat < n) (H : Heap) (locs : List Loc) (_ : va_P G gcl (wM am ty τ (up (up (up (up ρ 27 wU) 28 qU) 34 wv) 40 sm) ++ cs) H) (_ : va_D A (wM am ty τ (up (up (up (up ρ 27 wU) 28 qU) 34 wv) 40 sm) ++ cs)) (_ : va_S A s.heap H locs) (ls : Array Slot), lv_has ls 7 [(4, .int (ii k1)), (3, .int (ii (wt (ma + (-1))))), (2, .int (ii mb)), (0, .ref (am 0)), (1, .int (ii a1))] → W p l e (rm4 3 0 0 81) s m args below meth c H locs 0 0 Q (F0 m 102 ls []) := by
              intro n
              induction n with
              | zero =>
                intro k1 mb wU qU wv sm hSt hk0 hk1 hDb hse hsc hphi hm
                exact absurd hm (Nat.not_lt_zero _)
              | succ n ih =>
                intro k1 mb wU qU wv sm hSt hk0 hk1 hDb hse hsc hphi hm H locs hP hD hS ls hl
                refine lv_iload hx hb dX12_mayBeLast_102 (lv_at hl 0 rfl) ?_
                refine lv_aload_n hx hb dX12_mayBeLast_104 rfl (lv_at hl 3 rfl) ?_
                refine va_get (D := G) (ci := 11) (v := .int (ii (ρ 30 0))) (C := RX12) (T := TX12) (N := 52) hx hb hts in_X12 hown hK hP 0 (aM_0 _ _ _ _ _) rfl 30 (by decide) (hts _ q1295) (fun _ h9 => h9) rfl dX12_mayBeLast_105 ?_
                refine li_icmp_ge (tgt := 219) hx hb ⟨by omega, by omega⟩ ⟨by omega, by omega⟩ dX12_mayBeLast_108 (by decide) (fun c108 => ?_) (fun c108 => ?_)
                · exact X102 k1 mb wU qU wv sm (hSt) (dfs_fin hDb (fun d ⟨m, h1, h2, h3⟩ => by rw [h3]; exact (seenI_all hse hCL cand_b (by omega)) m (leg_cand hW h1) h1 h2)) (by have := cn_le (P := fun c => sm c = 1) (m := 4500) (by decide); have := hDb.2.1; omega) (by omega) H locs hP hD hS ls (lv_sub hl [2, 3, 4] rfl)
                · obtain ⟨ha0, ha1, hcd, hcn⟩ := LL_at hCL (by decide) hk0 c108
                  have hdd := isT_m hcd.1
                  have hm00 := hcd.1.1
                  have hm01 := hcd.1.2.1
                  have hvb := mvV_b hW hcd.1
                  refine lv_aload_n hx hb dX12_mayBeLast_111 rfl (lv_at hl 3 rfl) ?_
                  refine va_get (D := G) (ci := 11) (v := .ref (am 18)) (C := RX12) (T := TX12) (N := 52) hx hb hts in_X12 hown hK hP 0 (aM_0 _ _ _ _ _) rfl 29 (by decide) (hts _ q1294) (fun _ h9 => h9) rfl dX12_mayBeLast_112 ?_
                  refine lv_iload hx hb dX12_mayBeLast_115 (lv_at hl 0 rfl) ?_
                  refine li_iald (g := (ρ 29)) hx hb hK hP 18 0 (aM_18 _ _ _ _ _) rfl (by omega) (by omega) (by decide) dX12_mayBeLast_117 ?_
                  refine li_sipush hx hb dX12_mayBeLast_118 (by decide) ?_
                  refine li_div hx hb (by omega) (by omega) (by omega) (by omega) dX12_mayBeLast_121 ?_
                  refine li_bipush hx hb dX12_mayBeLast_122 (by decide) ?_
                  refine li_rem hx hb (by omega) (by omega) (by omega) (by omega) dX12_mayBeLast_124 ?_
                  refine lv_istore (lv' := [(5, .int (ii (((ρ 29 k1) / 1000) % 10))), (4, .int (ii k1)), (3, .int (ii (wt (ma + (-1))))), (2, .int (ii mb)), (0, .ref (am 0)), (1, .int (ii a1))]) hx hb dX12_mayBeLast_125 hl (by decide) rfl (fun ls hl => ?_)
                  refine lv_aload_n hx hb dX12_mayBeLast_127 rfl (lv_at hl 4 rfl) ?_
                  refine lv_iload_n hx hb dX12_mayBeLast_128 rfl (lv_at hl 2 rfl) ?_
                  refine kM (va_runV (As := [.int (ii (wt (ma + (-1))))]) (rest := []) ⟨hx, hb, hml, hown, hts⟩ ((m_openM l G am ty τ (up (up (up (up ρ 27 wU) 28 qU) 34 wv) 40 sm) cs (wt (ma + (-1))) (show inSt (wt (ma + (-1))) from hic)) H.size) (cwV 1 hts (lw_V q1518 q1520 qs47 q87 q1521) rfl rfl rfl (by decide +kernel) ⟨Nat.le_of_ble_eq_true rfl, Nat.le_of_ble_eq_true rfl⟩) (pvM (r := (RX12, TX12, 52)) hK hP hD hX 0 (aM_0 _ _ _ _ _) rfl) rfl rfl hl.1 rfl (lv_room (Nat.le_of_ble_eq_true rfl)) dX12_mayBeLast_129 ⟨Nat.le_of_ble_eq_true rfl, Nat.le_of_ble_eq_true rfl⟩) hD hS hA (fun v ws1 H locs hv hP hD hS => ?_)
                  obtain ⟨rfl, rfl, hal129⟩ := hv
                  have hP : va_P G gcl (wM am ty τ (up (up (up (up ρ 34 wv) 40 sm) 27 (dcw (wt (ma + (-1))) wU)) 28 (dcq (wt (ma + (-1))) qU)) ++ cs) H := hP
                  have hD : va_D A (wM am ty τ (up (up (up (up ρ 34 wv) 40 sm) 27 (dcw (wt (ma + (-1))) wU)) 28 (dcq (wt (ma + (-1))) qU)) ++ cs) := hD
                  have hal129 : alike (dcw (wt (ma + (-1))) wU) (dcq (wt (ma + (-1))) qU) (stW (wt (ma + (-1)))) (stQ (wt (ma + (-1)))) := hal129
                  have hS2 : wfS (dcw (wt (ma + (-1))) wU) (dcq (wt (ma + (-1))) qU) := ⟨dcw_b hSt.1, dcq_b hSt.2⟩
                  refine lv_iload hx hb dX12_mayBeLast_132 (lv_at hl 0 rfl) ?_
                  refine li_iconst hx hb dX12_mayBeLast_134 ?_
                  refine lv_iload_n hx hb dX12_mayBeLast_135 rfl (lv_at hl 5 rfl) ?_
                  refine lv_ishl hx hb dX12_mayBeLast_136 ?_
                  refine li_topx (z := p2 a1) (ii_shl1 (by omega) (by omega)) ?_
                  refine li_iconst hx hb dX12_mayBeLast_137 ?_
                  refine lv_ixor hx hb dX12_mayBeLast_138 ?_
                  refine li_topx (z := -1 - p2 a1) (ii_xorm (by omega) (by omega)) ?_
                  refine lv_iand hx hb dX12_mayBeLast_139 ?_
                  refine li_topx (z := offb (ρ 29 k1 / 1000 % 10) a1) (ii_offb (by omega) (by omega) (by omega) (by omega)) ?_
                  refine li_if_ne (tgt := 213) hx hb (offb_rg (by omega) (by omega) (by omega) (by omega)) dX12_mayBeLast_140 (by decide) (fun c140 => ?_) (fun c140 => ?_)
                  · refine li_iinc (a := k1) (lv' := [(4, .int (ii (k1 + 1))), (5, .int (ii (((ρ 29 k1) / 1000) % 10))), (3, .int (ii (wt (ma + (-1))))), (2, .int (ii mb)), (0, .ref (am 0)), (1, .int (ii a1))]) hx hb dX12_mayBeLast_213 hl (k := 1) rfl (by decide) rfl (fun ls hl => ?_)
                    refine lv_goto (tgt := 102) hx hb dX12_mayBeLast_216 (by decide) ?_
                    exact ih (k1 + 1) mb (dcw (wt (ma + (-1))) wU) (dcq (wt (ma + (-1))) qU) wv sm (hS2) (by omega) (by omega) (hDb) (seenI_s hse cand_n hcd hcn (fun _ q => absurd ((offb_0 (s := ρ 29 k1 / 1000 % 10) (a := a1) (by omega) (by omega) ha0_ (by omega)).mpr (q.resolve_left (by omega))) c140)) (hsc) (hphi) (by omega) H locs hP hD hS ls (lv_sub hl [0, 2, 3, 4, 5] rfl)
                  · refine lv_aload_n hx hb dX12_mayBeLast_143 rfl (lv_at hl 4 rfl) ?_
                    refine lv_aload_n hx hb dX12_mayBeLast_144 rfl (lv_at hl 4 rfl) ?_
                    refine va_get (D := G) (ci := 11) (v := .ref (am 18)) (C := RX12) (T := TX12) (N := 52) hx hb hts in_X12 hown hK hP 0 (aM_0 _ _ _ _ _) rfl 29 (by decide) (hts _ q1294) (fun _ h9 => h9) rfl dX12_mayBeLast_145 ?_
                    refine lv_iload hx hb dX12_mayBeLast_148 (lv_at hl 1 rfl) ?_
                    refine li_iald (g := (ρ 29)) hx hb hK hP 18 0 (aM_18 _ _ _ _ _) rfl (by omega) (by omega) (by decide) dX12_mayBeLast_150 ?_
                    refine kR (va_runV (As := [.int (ii (ρ 29 k1))]) (rest := []) ⟨hx, hb, hml, hown, hts⟩ (m_minutesOfM l G am ty τ (up (up (up (up ρ 34 wv) 40 sm) 27 (dcw (wt (ma + (-1))) wU)) 28 (dcq (wt (ma + (-1))) qU)) cs (ρ 29 k1) _ (show okF F from hF) (show Sim F τ from hSm) (show wfS (dcw (wt (ma + (-1))) wU) (dcq (wt (ma + (-1))) qU) from hS2) (show isT (ρ 29 k1) from hcd.1)) (cwV 1 hts (lw_V q1522 q1524 qs48 q87 q1525) rfl rfl rfl (by decide +kernel) ⟨Nat.le_of_ble_eq_true rfl, Nat.le_of_ble_eq_true rfl⟩) (pvR (r := (RX12, TX12, 52)) hK hP hD hX 0 (aM_0 _ _ _ _ _) rfl) rfl rfl hl.1 rfl (lv_room (Nat.le_of_ble_eq_true rfl)) dX12_mayBeLast_151 ⟨Nat.le_of_ble_eq_true rfl, Nat.le_of_ble_eq_true rfl⟩) (fun v hv => ?_)
                    obtain ⟨z151, rfl, hz151⟩ := hv
                    have hz151 : (mvOk F (dcw (wt (ma + (-1))) wU) (dcq (wt (ma + (-1))) qU) (ρ 29 k1) ∧ z151 = mvV F (ρ 29 k1)) ∨ (¬ mvOk F (dcw (wt (ma + (-1))) wU) (dcq (wt (ma + (-1))) qU) (ρ 29 k1) ∧ z151 = -1) := hz151
                    have hzr151 : -1 ≤ z151 ∧ z151 ≤ 312 := mz_b hW (hcd.1) hz151
                    refine li_if_lt (tgt := 213) hx hb (rg4 ⟨Int.le_trans (by decide) hzr151.1, Int.le_trans hzr151.2 (by decide)⟩) dX12_mayBeLast_154 (by decide) (fun c154 => ?_) (fun c154 => ?_)
                    · refine li_iinc (a := k1) (lv' := [(4, .int (ii (k1 + 1))), (5, .int (ii (((ρ 29 k1) / 1000) % 10))), (3, .int (ii (wt (ma + (-1))))), (2, .int (ii mb)), (0, .ref (am 0)), (1, .int (ii a1))]) hx hb dX12_mayBeLast_213 hl (k := 1) rfl (by decide) rfl (fun ls hl => ?_)
                      refine lv_goto (tgt := 102) hx hb dX12_mayBeLast_216 (by decide) ?_
                      exact ih (k1 + 1) mb (dcw (wt (ma + (-1))) wU) (dcq (wt (ma + (-1))) qU) wv sm (hS2) (by omega) (by omega) (hDb) (seenI_s hse cand_n hcd hcn (fun q => absurd q (fun q => (hz151.resolve_left (fun r => by have := r.2; omega)).1 (((congrFun (lgl_al hal129) _).mpr q).2)))) (hsc) (hphi) (by omega) H locs hP hD hS ls (lv_sub hl [0, 2, 3, 4, 5] rfl)
                    · obtain ⟨hok, hval⟩ := hz151.resolve_right (fun q => by omega)
                      have hleg : leg F (wt (ma + (-1))) (ρ 29 k1) := (congrFun (lgl_al hal129) _).mp ⟨hcd.1, hok⟩
                      have hnx := nx_in (c := (wt (ma + (-1)))) hleg.1
                      obtain ⟨hnx0, hnx1⟩ := id hnx
                      have hset := (offb_0 (s := ρ 29 k1 / 1000 % 10) (a := a1) (by omega) (by omega) ha0_ (by omega)).mp c140
                      have hsk : setOk a1 (ρ 29 k1) := .inr hset
                      have hSn := nx_wf hcd.1 hS2
                      have hq01 := hDb.1 _ hnx
                      have hmc := hDb.2.1
                      have hmd := hDb.2.2.1
                      have hcm := cn_le (P := fun c => sm c = 1) (m := 4500) (by decide)
                      refine lv_aload_n hx hb dX12_mayBeLast_157 rfl (lv_at hl 4 rfl) ?_
                      refine lv_aload_n hx hb dX12_mayBeLast_158 rfl (lv_at hl 4 rfl) ?_
                      refine va_get (D := G) (ci := 11) (v := .ref (am 18)) (C := RX12) (T := TX12) (N := 52) hx hb hts in_X12 hown hK hP 0 (aM_0 _ _ _ _ _) rfl 29 (by decide) (hts _ q1294) (fun _ h9 => h9) rfl dX12_mayBeLast_159 ?_
                      refine lv_iload hx hb dX12_mayBeLast_162 (lv_at hl 1 rfl) ?_
                      refine li_iald (g := (ρ 29)) hx hb hK hP 18 0 (aM_18 _ _ _ _ _) rfl (by omega) (by omega) (by decide) dX12_mayBeLast_164 ?_
                      refine li_iconst hx hb dX12_mayBeLast_165 ?_
                      refine kM (va_runV (As := [.int (ii (ρ 29 k1)), .int (ii 0)]) (rest := []) ⟨hx, hb, hml, hown, hts⟩ ((m_makeM0 l G am ty τ (up (up (up (up ρ 34 wv) 40 sm) 27 (dcw (wt (ma + (-1))) wU)) 28 (dcq (wt (ma + (-1))) qU)) cs (ρ 29 k1) _ (show okF F from hF) (show Sim F τ from hSm) (show wfS (dcw (wt (ma + (-1))) wU) (dcq (wt (ma + (-1))) qU) from hS2) (show isT (ρ 29 k1) from hcd.1) (show (ρ 29 k1) / 1000 % 10 < p2 (F 9 0) from cand_p2 h9a h9b hcd) (show (ρ 29 k1) / 10000 = 3 → (ρ 29 k1) / 100 % 10 = 0 from cand_r3 hcd)) H.size) (cwV 2 hts (lw_V q1550 q1552 qs53 q87 q1553) rfl rfl rfl (by decide +kernel) ⟨Nat.le_of_ble_eq_true rfl, Nat.le_of_ble_eq_true rfl⟩) (pvM (r := (RX12, TX12, 52)) hK hP hD hX 0 (aM_0 _ _ _ _ _) rfl) rfl rfl hl.1 rfl (lv_room (Nat.le_of_ble_eq_true rfl)) dX12_mayBeLast_166 ⟨Nat.le_of_ble_eq_true rfl, Nat.le_of_ble_eq_true rfl⟩) hD hS hA (fun v ws1 H locs hv hP hD hS => ?_)
                      obtain ⟨rfl, rfl⟩ := hv
                      have hP : va_P G gcl (wM am ty τ (up (up (up (up ρ 34 wv) 40 sm) 27 (mvw ((ρ 29 k1) / 1000 % 10) ((ρ 29 k1) % 10) (dcw (wt (ma + (-1))) wU))) 28 ((mvq ((ρ 29 k1) / 10000) ((ρ 29 k1) / 100 % 10) ((ρ 29 k1) % 10) (dcq (wt (ma + (-1))) qU)))) ++ cs) H := hP
                      have hD : va_D A (wM am ty τ (up (up (up (up ρ 34 wv) 40 sm) 27 (mvw ((ρ 29 k1) / 1000 % 10) ((ρ 29 k1) % 10) (dcw (wt (ma + (-1))) wU))) 28 ((mvq ((ρ 29 k1) / 10000) ((ρ 29 k1) / 100 % 10) ((ρ 29 k1) % 10) (dcq (wt (ma + (-1))) qU)))) ++ cs) := hD
                      refine lv_aload_n hx hb dX12_mayBeLast_169 rfl (lv_at hl 4 rfl) ?_
                      refine kR (va_runV (As := []) (rest := []) ⟨hx, hb, hml, hown, hts⟩ (m_closedM l G am ty τ (up (up (up (up ρ 34 wv) 40 sm) 27 (mvw ((ρ 29 k1) / 1000 % 10) ((ρ 29 k1) % 10) (dcw (wt (ma + (-1))) wU))) 28 ((mvq ((ρ 29 k1) / 10000) ((ρ 29 k1) / 100 % 10) ((ρ 29 k1) % 10) (dcq (wt (ma + (-1))) qU)))) cs (show wfS (mvw ((ρ 29 k1) / 1000 % 10) ((ρ 29 k1) % 10) (dcw (wt (ma + (-1))) wU)) ((mvq ((ρ 29 k1) / 10000) ((ρ 29 k1) / 100 % 10) ((ρ 29 k1) % 10) (dcq (wt (ma + (-1))) qU))) from nx_wf hcd.1 hS2)) (cwV 0 hts (lw_V q1599 q1601 qs61 q87 q1602) rfl rfl rfl (by decide +kernel) ⟨Nat.le_of_ble_eq_true rfl, Nat.le_of_ble_eq_true rfl⟩) (pvR (r := (RX12, TX12, 52)) hK hP hD hX 0 (aM_0 _ _ _ _ _) rfl) rfl rfl hl.1 rfl (lv_room (Nat.le_of_ble_eq_true rfl)) dX12_mayBeLast_170 ⟨Nat.le_of_ble_eq_true rfl, Nat.le_of_ble_eq_true rfl⟩) (fun v hv => ?_)
                      have hv := hv
                      subst hv
                      refine li_topx (z := nx (wt (ma + (-1))) (ρ 29 k1)) (congrArg ii (nxS_al _ hal129)) ?_
                      refine lv_istore (lv' := [(6, .int (ii (nx (wt (ma + (-1))) (ρ 29 k1)))), (5, .int (ii (((ρ 29 k1) / 1000) % 10))), (4, .int (ii k1)), (3, .int (ii (wt (ma + (-1))))), (2, .int (ii mb)), (0, .ref (am 0)), (1, .int (ii a1))]) hx hb dX12_mayBeLast_173 hl (by decide) rfl (fun ls hl => ?_)
                      refine lv_aload_n hx hb dX12_mayBeLast_175 rfl (lv_at hl 5 rfl) ?_
                      refine kR (va_runV (As := []) (rest := []) ⟨hx, hb, hml, hown, hts⟩ (m_isDownM l G am ty τ (up (up (up (up ρ 34 wv) 40 sm) 27 (mvw ((ρ 29 k1) / 1000 % 10) ((ρ 29 k1) % 10) (dcw (wt (ma + (-1))) wU))) 28 ((mvq ((ρ 29 k1) / 10000) ((ρ 29 k1) / 100 % 10) ((ρ 29 k1) % 10) (dcq (wt (ma + (-1))) qU)))) cs _ (show okF F from hF) (show Sim F τ from hSm) (show wfS (mvw ((ρ 29 k1) / 1000 % 10) ((ρ 29 k1) % 10) (dcw (wt (ma + (-1))) wU)) ((mvq ((ρ 29 k1) / 10000) ((ρ 29 k1) / 100 % 10) ((ρ 29 k1) % 10) (dcq (wt (ma + (-1))) qU))) from hSn)) (cwV 0 hts (lw_V q1570 q1572 qs56 q87 q1573) rfl rfl rfl (by decide +kernel) ⟨Nat.le_of_ble_eq_true rfl, Nat.le_of_ble_eq_true rfl⟩) (pvR (r := (RX12, TX12, 52)) hK hP hD hX 0 (aM_0 _ _ _ _ _) rfl) rfl rfl hl.1 rfl (lv_room (Nat.le_of_ble_eq_true rfl)) dX12_mayBeLast_176 ⟨Nat.le_of_ble_eq_true rfl, Nat.le_of_ble_eq_true rfl⟩) (fun v hv => ?_)
                      obtain ⟨z176, rfl, ⟨rfl, hb176⟩ | ⟨rfl, hb176⟩⟩ := hv
                      · have hb176 : dnW F (mvw ((ρ 29 k1) / 1000 % 10) ((ρ 29 k1) % 10) (dcw (wt (ma + (-1))) wU)) := hb176
                        refine li_if_eq (tgt := 184) hx hb ⟨by decide, by decide⟩ dX12_mayBeLast_179 (by decide) (fun c179 => ?_) (fun c179 => ?_)
                        · exact absurd c179 (by decide)
                        · refine li_iconst hx hb dX12_mayBeLast_182 ?_
                          exact eMz hQ hx hb hr hlk hP hD hS (Nat.le_of_ble_eq_true rfl) (Nat.le_of_ble_eq_true rfl) dX12_mayBeLast_183 (.inr rfl) (⟨1, (mvw ((ρ 29 k1) / 1000 % 10) ((ρ 29 k1) % 10) (dcw (wt (ma + (-1))) wU)), ((mvq ((ρ 29 k1) / 10000) ((ρ 29 k1) / 100 % 10) ((ρ 29 k1) % 10) (dcq (wt (ma + (-1))) qU))), wv, sm, rfl, rfl, hSn, .inl ⟨rfl, dfs_yes hDb hic hsc hleg hsk ((dnW_nx hal129 hcd.1 hS2).mp hb176)⟩⟩)
                      · have hb176 : ¬ dnW F (mvw ((ρ 29 k1) / 1000 % 10) ((ρ 29 k1) % 10) (dcw (wt (ma + (-1))) wU)) := hb176
                        refine li_if_eq (tgt := 184) hx hb ⟨by decide, by decide⟩ dX12_mayBeLast_179 (by decide) (fun c179 => ?_) (fun c179 => ?_)
                        · refine lv_aload_n hx hb dX12_mayBeLast_184 rfl (lv_at hl 5 rfl) ?_
                          refine va_get (D := G) (ci := 11) (v := .ref (am 25)) (C := RX12) (T := TX12) (N := 52) hx hb hts in_X12 hown hK hP 0 (aM_0 _ _ _ _ _) rfl 40 (by decide) (hts _ q1305) (fun _ h9 => h9) rfl dX12_mayBeLast_185 ?_
                          refine lv_iload hx hb dX12_mayBeLast_188 (lv_at hl 0 rfl) ?_
                          refine li_zald (g := sm) hx hb hK hP 25 1 (aM_25 _ _ _ _ _) rfl (by omega) (by omega) (by decide) dX12_mayBeLast_190 ?_
                          refine li_if_ne (tgt := 213) hx hb ⟨by omega, by omega⟩ dX12_mayBeLast_191 (by decide) (fun c191 => ?_) (fun c191 => ?_)
                          · refine li_iinc (a := k1) (lv' := [(4, .int (ii (k1 + 1))), (6, .int (ii (nx (wt (ma + (-1))) (ρ 29 k1)))), (5, .int (ii (((ρ 29 k1) / 1000) % 10))), (3, .int (ii (wt (ma + (-1))))), (2, .int (ii mb)), (0, .ref (am 0)), (1, .int (ii a1))]) hx hb dX12_mayBeLast_213 hl (k := 2) rfl (by decide) rfl (fun ls hl => ?_)
                            refine lv_goto (tgt := 102) hx hb dX12_mayBeLast_216 (by decide) ?_
                            exact ih (k1 + 1) mb (mvw ((ρ 29 k1) / 1000 % 10) ((ρ 29 k1) % 10) (dcw (wt (ma + (-1))) wU)) ((mvq ((ρ 29 k1) / 10000) ((ρ 29 k1) / 100 % 10) ((ρ 29 k1) % 10) (dcq (wt (ma + (-1))) qU))) wv sm (hSn) (by omega) (by omega) (hDb) (seenI_s hse cand_n hcd hcn (fun _ _ => by omega)) (hsc) (hphi) (by omega) H locs hP hD hS ls (lv_sub hl [0, 3, 4, 5, 6] rfl)
                          · have hroom : mb < 4500 := by have := cn_room (P := fun c => sm c = 1) hnx0 hnx1 (by omega); omega
                            refine lv_aload_n hx hb dX12_mayBeLast_194 rfl (lv_at hl 5 rfl) ?_
                            refine va_get (D := G) (ci := 11) (v := .ref (am 25)) (C := RX12) (T := TX12) (N := 52) hx hb hts in_X12 hown hK hP 0 (aM_0 _ _ _ _ _) rfl 40 (by decide) (hts _ q1305) (fun _ h9 => h9) rfl dX12_mayBeLast_195 ?_
                            refine lv_iload hx hb dX12_mayBeLast_198 (lv_at hl 0 rfl) ?_
                            refine li_iconst hx hb dX12_mayBeLast_200 ?_
                            refine li_zast (g := sm) (W2 := wM am ty τ (up (up (up (up ρ 34 wv) 27 (mvw ((ρ 29 k1) / 1000 % 10) ((ρ 29 k1) % 10) (dcw (wt (ma + (-1))) wU))) 28 ((mvq ((ρ 29 k1) / 10000) ((ρ 29 k1) / 100 % 10) ((ρ 29 k1) % 10) (dcq (wt (ma + (-1))) qU)))) 40 (ug sm (nx (wt (ma + (-1))) (ρ 29 k1)) 1)) ++ cs) hx hb hK hP hD hS 25 1 (aM_25 _ _ _ _ _) rfl (by omega) (by omega) (by decide) (by omega) rfl dX12_mayBeLast_201 (fun H locs hP hD hS => ?_)
                            refine lv_aload_n hx hb dX12_mayBeLast_202 rfl (lv_at hl 5 rfl) ?_
                            refine va_get (D := G) (ci := 11) (v := .ref (am 21)) (C := RX12) (T := TX12) (N := 52) hx hb hts in_X12 hown hK hP 0 (aM_0 _ _ _ _ _) rfl 34 (by decide) (hts _ q1299) (fun _ h9 => h9) rfl dX12_mayBeLast_203 ?_
                            refine lv_iload_n hx hb dX12_mayBeLast_206 rfl (lv_at hl 4 rfl) ?_
                            refine lv_iload hx hb dX12_mayBeLast_207 (lv_at hl 0 rfl) ?_
                            refine li_iast (g := wv) (W2 := wM am ty τ (up (up (up (up ρ 27 (mvw ((ρ 29 k1) / 1000 % 10) ((ρ 29 k1) % 10) (dcw (wt (ma + (-1))) wU))) 28 ((mvq ((ρ 29 k1) / 10000) ((ρ 29 k1) / 100 % 10) ((ρ 29 k1) % 10) (dcq (wt (ma + (-1))) qU)))) 40 (ug sm (nx (wt (ma + (-1))) (ρ 29 k1)) 1)) 34 (ug wv mb (nx (wt (ma + (-1))) (ρ 29 k1)))) ++ cs) hx hb hK hP hD hS 21 0 (aM_21 _ _ _ _ _) rfl (by omega) (by omega) (by decide) rfl dX12_mayBeLast_209 (fun H locs hP hD hS => ?_)
                            refine li_iinc (a := mb) (lv' := [(2, .int (ii (mb + 1))), (6, .int (ii (nx (wt (ma + (-1))) (ρ 29 k1)))), (5, .int (ii (((ρ 29 k1) / 1000) % 10))), (4, .int (ii k1)), (3, .int (ii (wt (ma + (-1))))), (0, .ref (am 0)), (1, .int (ii a1))]) hx hb dX12_mayBeLast_210 hl (k := 4) rfl (by decide) rfl (fun ls hl => ?_)
                            refine li_iinc (a := k1) (lv' := [(4, .int (ii (k1 + 1))), (2, .int (ii (mb + 1))), (6, .int (ii (nx (wt (ma + (-1))) (ρ 29 k1)))), (5, .int (ii (((ρ 29 k1) / 1000) % 10))), (3, .int (ii (wt (ma + (-1))))), (0, .ref (am 0)), (1, .int (ii a1))]) hx hb dX12_mayBeLast_213 hl (k := 3) rfl (by decide) rfl (fun ls hl => ?_)
                            refine lv_goto (tgt := 102) hx hb dX12_mayBeLast_216 (by decide) ?_
                            exact ih (k1 + 1) (mb + 1) (mvw ((ρ 29 k1) / 1000 % 10) ((ρ 29 k1) % 10) (dcw (wt (ma + (-1))) wU)) ((mvq ((ρ 29 k1) / 10000) ((ρ 29 k1) / 100 % 10) ((ρ 29 k1) % 10) (dcq (wt (ma + (-1))) qU))) (ug wv mb (nx (wt (ma + (-1))) (ρ 29 k1))) (ug sm (nx (wt (ma + (-1))) (ρ 29 k1)) 1) (hSn) (by omega) (by omega) (dfs_push hDb hic hsc ha hnx (by omega) hleg hsk (fun q => hb176 ((dnW_nx hal129 hcd.1 hS2).mpr q)) h9b) (seenI_s (seenI_w hse (fun m q x y => ug_1 (q x y))) cand_n hcd hcn (fun _ _ => ug_s _ _ _)) (ug_1 hsc) (by have := cn_ug1 (g := sm) hnx (by omega); omega) (by omega) H locs hP hD hS ls (lv_sub hl [0, 4, 1, 5, 6] rfl)
                        · exact absurd c179 (by decide)
            exact L102 _ 0 (ma + (-1)) wT qT wt sn (hSt) (by omega) (by omega) (hDp) (seenI_0 _ cand_n) (hsc0) (by omega) (Nat.lt_succ_self _) H locs hP hD hS ls (lv_sub hl [0, 1, 2, 3, 4] rfl)
      exact L85 _ ma wT qT wt sn (hSt) (hDF) (Nat.lt_succ_self _) H locs hP hD hS ls (lv_sub hl [0, 1, 2] rfl)
    have L26 : ∀ (n : Nat) (k1 : Int) (ma : Int) (wT : Int → Int) (qT : Int → Int) (wt : Int → Int) (sn : Int → Int) (_ : wfS wT qT) (_ : 0 ≤ k1) (_ : k1 ≤ ρ 33 0) (_ : dfsI F a1 (ρ 31) (ρ 32) k1 sn wt ma) (_ : (ρ 33 0 - k1).toNat < n) (H : Heap) (locs : List Loc) (_ : va_P G gcl (wM am ty τ (up (up (up (up ρ 27 wT) 28 qT) 34 wt) 40 sn) ++ cs) H) (_ : va_D A (wM am ty τ (up (up (up (up ρ 27 wT) 28 qT) 34 wt) 40 sn) ++ cs)) (_ : va_S A s.heap H locs) (ls : Array Slot), lv_has ls 7 [(3, .int (ii k1)), (2, .int (ii ma)), (0, .ref (am 0)), (1, .int (ii a1))] → W p l e (rm4 3 0 0 81) s m args below meth c H locs 0 0 Q (F0 m 26 ls []) := by
      intro n
      induction n with
      | zero =>
        intro k1 ma wT qT wt sn hSt hk0 hk1 hDI hm
        exact absurd hm (Nat.not_lt_zero _)
      | succ n ih =>
        intro k1 ma wT qT wt sn hSt hk0 hk1 hDI hm H locs hP hD hS ls hl
        refine lv_iload_n hx hb dX12_mayBeLast_26 rfl (lv_at hl 0 rfl) ?_
        refine lv_aload_n hx hb dX12_mayBeLast_27 rfl (lv_at hl 2 rfl) ?_
        refine va_get (D := G) (ci := 11) (v := .int (ii (ρ 33 0))) (C := RX12) (T := TX12) (N := 52) hx hb hts in_X12 hown hK hP 0 (aM_0 _ _ _ _ _) rfl 33 (by decide) (hts _ q1298) (fun _ h9 => h9) rfl dX12_mayBeLast_28 ?_
        refine li_icmp_ge (tgt := 85) hx hb ⟨by omega, by omega⟩ ⟨by omega, by omega⟩ dX12_mayBeLast_31 (by decide) (fun c31 => ?_) (fun c31 => ?_)
        · exact X26 k1 ma wT qT wt sn (hSt) (dfsI_e hDI hSo (by omega)) H locs hP hD hS ls (lv_sub hl [1, 2, 3] rfl)
        · have hmk := (hSo.mt k1 hk0 c31).1
          have hmq := (hSo.mt k1 hk0 c31).2
          obtain ⟨hmk0, hmk1⟩ := id hmk
          refine lv_aload_n hx hb dX12_mayBeLast_34 rfl (lv_at hl 2 rfl) ?_
          refine lv_aload_n hx hb dX12_mayBeLast_35 rfl (lv_at hl 2 rfl) ?_
          refine va_get (D := G) (ci := 11) (v := .ref (am 20)) (C := RX12) (T := TX12) (N := 52) hx hb hts in_X12 hown hK hP 0 (aM_0 _ _ _ _ _) rfl 32 (by decide) (hts _ q1297) (fun _ h9 => h9) rfl dX12_mayBeLast_36 ?_
          refine lv_iload_n hx hb dX12_mayBeLast_39 rfl (lv_at hl 0 rfl) ?_
          refine li_iald (g := (ρ 32)) hx hb hK hP 20 0 (aM_20 _ _ _ _ _) rfl (by omega) (by omega) (by decide) dX12_mayBeLast_40 ?_
          refine kM (va_runV (As := [.int (ii (ρ 32 k1))]) (rest := []) ⟨hx, hb, hml, hown, hts⟩ ((m_openM l G am ty τ (up (up (up (up ρ 27 wT) 28 qT) 34 wt) 40 sn) cs (ρ 32 k1) (show inSt (ρ 32 k1) from hmk)) H.size) (cwV 1 hts (lw_V q1518 q1520 qs47 q87 q1521) rfl rfl rfl (by decide +kernel) ⟨Nat.le_of_ble_eq_true rfl, Nat.le_of_ble_eq_true rfl⟩) (pvM (r := (RX12, TX12, 52)) hK hP hD hX 0 (aM_0 _ _ _ _ _) rfl) rfl rfl hl.1 rfl (lv_room (Nat.le_of_ble_eq_true rfl)) dX12_mayBeLast_41 ⟨Nat.le_of_ble_eq_true rfl, Nat.le_of_ble_eq_true rfl⟩) hD hS hA (fun v ws1 H locs hv hP hD hS => ?_)
          obtain ⟨rfl, rfl, hal41⟩ := hv
          have hP : va_P G gcl (wM am ty τ (up (up (up (up ρ 34 wt) 40 sn) 27 (dcw (ρ 32 k1) wT)) 28 (dcq (ρ 32 k1) qT)) ++ cs) H := hP
          have hD : va_D A (wM am ty τ (up (up (up (up ρ 34 wt) 40 sn) 27 (dcw (ρ 32 k1) wT)) 28 (dcq (ρ 32 k1) qT)) ++ cs) := hD
          have hal41 : alike (dcw (ρ 32 k1) wT) (dcq (ρ 32 k1) qT) (stW (ρ 32 k1)) (stQ (ρ 32 k1)) := hal41
          have hS2 : wfS (dcw (ρ 32 k1) wT) (dcq (ρ 32 k1) qT) := ⟨dcw_b hSt.1, dcq_b hSt.2⟩
          refine lv_aload_n hx hb dX12_mayBeLast_44 rfl (lv_at hl 2 rfl) ?_
          refine lv_iload_n hx hb dX12_mayBeLast_45 rfl (lv_at hl 3 rfl) ?_
          refine kR (va_runV (As := [.int (ii a1)]) (rest := []) ⟨hx, hb, hml, hown, hts⟩ (m_isAloneM l G am ty τ (up (up (up (up ρ 34 wt) 40 sn) 27 (dcw (ρ 32 k1) wT)) 28 (dcq (ρ 32 k1) qT)) cs a1 _ (show okF F from hF) (show Sim F τ from hSm) (show wfS (dcw (ρ 32 k1) wT) (dcq (ρ 32 k1) qT) from hS2) (show 0 ≤ a1 ∧ a1 < F 9 0 from ha)) (cwV 1 hts (lw_V q1640 q1642 qs67 q87 q1643) rfl rfl rfl (by decide +kernel) ⟨Nat.le_of_ble_eq_true rfl, Nat.le_of_ble_eq_true rfl⟩) (pvR (r := (RX12, TX12, 52)) hK hP hD hX 0 (aM_0 _ _ _ _ _) rfl) rfl rfl hl.1 rfl (lv_room (Nat.le_of_ble_eq_true rfl)) dX12_mayBeLast_46 ⟨Nat.le_of_ble_eq_true rfl, Nat.le_of_ble_eq_true rfl⟩) (fun v hv => ?_)
          obtain ⟨z46, rfl, ⟨rfl, hb46⟩ | ⟨rfl, hb46⟩⟩ := hv
          · have hb46 : aloneW F a1 (dcw (ρ 32 k1) wT) := hb46
            refine li_if_eq (tgt := 79) hx hb ⟨by decide, by decide⟩ dX12_mayBeLast_49 (by decide) (fun c49 => ?_) (fun c49 => ?_)
            · exact absurd c49 (by decide)
            · have hal46 := (aloneW_al hal41).mp hb46
              have hmr := hDI.2.2.2.1
              have hmr0 := hDI.2.1
              refine lv_aload_n hx hb dX12_mayBeLast_52 rfl (lv_at hl 2 rfl) ?_
              refine va_get (D := G) (ci := 11) (v := .ref (am 25)) (C := RX12) (T := TX12) (N := 52) hx hb hts in_X12 hown hK hP 0 (aM_0 _ _ _ _ _) rfl 40 (by decide) (hts _ q1305) (fun _ h9 => h9) rfl dX12_mayBeLast_53 ?_
              refine lv_aload_n hx hb dX12_mayBeLast_56 rfl (lv_at hl 2 rfl) ?_
              refine va_get (D := G) (ci := 11) (v := .ref (am 20)) (C := RX12) (T := TX12) (N := 52) hx hb hts in_X12 hown hK hP 0 (aM_0 _ _ _ _ _) rfl 32 (by decide) (hts _ q1297) (fun _ h9 => h9) rfl dX12_mayBeLast_57 ?_
              refine lv_iload_n hx hb dX12_mayBeLast_60 rfl (lv_at hl 0 rfl) ?_
              refine li_iald (g := (ρ 32)) hx hb hK hP 20 0 (aM_20 _ _ _ _ _) rfl (by omega) (by omega) (by decide) dX12_mayBeLast_61 ?_
              refine li_iconst hx hb dX12_mayBeLast_62 ?_
              refine li_zast (g := sn) (W2 := wM am ty τ (up (up (up (up ρ 34 wt) 27 (dcw (ρ 32 k1) wT)) 28 (dcq (ρ 32 k1) qT)) 40 (ug sn (ρ 32 k1) 1)) ++ cs) hx hb hK hP hD hS 25 1 (aM_25 _ _ _ _ _) rfl (by omega) (by omega) (by decide) (by omega) rfl dX12_mayBeLast_63 (fun H locs hP hD hS => ?_)
              refine lv_aload_n hx hb dX12_mayBeLast_64 rfl (lv_at hl 2 rfl) ?_
              refine va_get (D := G) (ci := 11) (v := .ref (am 21)) (C := RX12) (T := TX12) (N := 52) hx hb hts in_X12 hown hK hP 0 (aM_0 _ _ _ _ _) rfl 34 (by decide) (hts _ q1299) (fun _ h9 => h9) rfl dX12_mayBeLast_65 ?_
              refine lv_iload_n hx hb dX12_mayBeLast_68 rfl (lv_at hl 1 rfl) ?_
              refine lv_aload_n hx hb dX12_mayBeLast_69 rfl (lv_at hl 2 rfl) ?_
              refine va_get (D := G) (ci := 11) (v := .ref (am 20)) (C := RX12) (T := TX12) (N := 52) hx hb hts in_X12 hown hK hP 0 (aM_0 _ _ _ _ _) rfl 32 (by decide) (hts _ q1297) (fun _ h9 => h9) rfl dX12_mayBeLast_70 ?_
              refine lv_iload_n hx hb dX12_mayBeLast_73 rfl (lv_at hl 0 rfl) ?_
              refine li_iald (g := (ρ 32)) hx hb hK hP 20 0 (aM_20 _ _ _ _ _) rfl (by omega) (by omega) (by decide) dX12_mayBeLast_74 ?_
              refine li_iast (g := wt) (W2 := wM am ty τ (up (up (up (up ρ 27 (dcw (ρ 32 k1) wT)) 28 (dcq (ρ 32 k1) qT)) 40 (ug sn (ρ 32 k1) 1)) 34 (ug wt ma (ρ 32 k1))) ++ cs) hx hb hK hP hD hS 21 0 (aM_21 _ _ _ _ _) rfl (by omega) (by omega) (by decide) rfl dX12_mayBeLast_75 (fun H locs hP hD hS => ?_)
              refine li_iinc (a := ma) (lv' := [(2, .int (ii (ma + 1))), (3, .int (ii k1)), (0, .ref (am 0)), (1, .int (ii a1))]) hx hb dX12_mayBeLast_76 hl (k := 1) rfl (by decide) rfl (fun ls hl => ?_)
              refine li_iinc (a := k1) (lv' := [(3, .int (ii (k1 + 1))), (2, .int (ii (ma + 1))), (0, .ref (am 0)), (1, .int (ii a1))]) hx hb dX12_mayBeLast_79 hl (k := 1) rfl (by decide) rfl (fun ls hl => ?_)
              refine lv_goto (tgt := 26) hx hb dX12_mayBeLast_82 (by decide) ?_
              exact ih (k1 + 1) (ma + 1) (dcw (ρ 32 k1) wT) (dcq (ρ 32 k1) qT) (ug wt ma (ρ 32 k1)) (ug sn (ρ 32 k1) 1) (hS2) (by omega) (by omega) (dfsI_s hDI hSo hk0 c31 hal46) (by omega) H locs hP hD hS ls (lv_sub hl [0, 1, 2, 3] rfl)
          · have hb46 : ¬ aloneW F a1 (dcw (ρ 32 k1) wT) := hb46
            refine li_if_eq (tgt := 79) hx hb ⟨by decide, by decide⟩ dX12_mayBeLast_49 (by decide) (fun c49 => ?_) (fun c49 => ?_)
            · refine li_iinc (a := k1) (lv' := [(3, .int (ii (k1 + 1))), (2, .int (ii ma)), (0, .ref (am 0)), (1, .int (ii a1))]) hx hb dX12_mayBeLast_79 hl (k := 0) rfl (by decide) rfl (fun ls hl => ?_)
              refine lv_goto (tgt := 26) hx hb dX12_mayBeLast_82 (by decide) ?_
              exact ih (k1 + 1) ma (dcw (ρ 32 k1) wT) (dcq (ρ 32 k1) qT) wt sn (hS2) (by omega) (by omega) (dfsI_n hDI hk0 (fun q => hb46 ((aloneW_al hal41).mpr q))) (by omega) H locs hP hD hS ls (lv_sub hl [0, 1, 2, 3] rfl)
            · exact absurd c49 (by decide)
    exact L26 _ 0 0 (ρ 27) (ρ 28) (ρ 34) s0 (hSt) (by omega) (by omega) (dfsI_0 hsa) (Nat.lt_succ_self _) H locs hP hD hS ls (lv_sub hl [0, 1, 2, 3] rfl)
  have L2 : ∀ (n : Nat) (i1 : Int) (s0 : Int → Int) (_ : 0 ≤ i1) (_ : i1 ≤ 4500) (_ : ∀ c, 0 ≤ c → c < i1 → s0 c = 0) (_ : (4500 - i1).toNat < n) (H : Heap) (locs : List Loc) (_ : va_P G gcl (wM am ty τ (up ρ 40 s0) ++ cs) H) (_ : va_D A (wM am ty τ (up ρ 40 s0) ++ cs)) (_ : va_S A s.heap H locs) (ls : Array Slot), lv_has ls 7 [(2, .int (ii i1)), (0, .ref (am 0)), (1, .int (ii a1))] → W p l e (rm4 3 0 0 81) s m args below meth c H locs 0 0 Q (F0 m 2 ls []) := by
    intro n
    induction n with
    | zero =>
      intro i1 s0 hi0 hi1 hsa hm
      exact absurd hm (Nat.not_lt_zero _)
    | succ n ih =>
      intro i1 s0 hi0 hi1 hsa hm H locs hP hD hS ls hl
      refine lv_iload_n hx hb dX12_mayBeLast_2 rfl (lv_at hl 0 rfl) ?_
      refine li_sipush hx hb dX12_mayBeLast_3 (by decide) ?_
      refine li_icmp_ge (tgt := 22) hx hb ⟨by omega, by omega⟩ ⟨by decide, by decide⟩ dX12_mayBeLast_6 (by decide) (fun c6 => ?_) (fun c6 => ?_)
      · exact X2 i1 s0 (fun c h => hsa c h.1 (Int.lt_of_lt_of_le h.2 c6)) H locs hP hD hS ls (lv_sub hl [1, 2] rfl)
      · refine lv_aload_n hx hb dX12_mayBeLast_9 rfl (lv_at hl 1 rfl) ?_
        refine va_get (D := G) (ci := 11) (v := .ref (am 25)) (C := RX12) (T := TX12) (N := 52) hx hb hts in_X12 hown hK hP 0 (aM_0 _ _ _ _ _) rfl 40 (by decide) (hts _ q1305) (fun _ h9 => h9) rfl dX12_mayBeLast_10 ?_
        refine lv_iload_n hx hb dX12_mayBeLast_13 rfl (lv_at hl 0 rfl) ?_
        refine li_iconst hx hb dX12_mayBeLast_14 ?_
        refine li_zast (g := s0) (W2 := wM am ty τ (up ρ 40 (ug s0 i1 0)) ++ cs) hx hb hK hP hD hS 25 1 (aM_25 _ _ _ _ _) rfl (by omega) (by omega) (by decide) (by omega) rfl dX12_mayBeLast_15 (fun H locs hP hD hS => ?_)
        refine li_iinc (a := i1) (lv' := [(2, .int (ii (i1 + 1))), (0, .ref (am 0)), (1, .int (ii a1))]) hx hb dX12_mayBeLast_16 hl (k := 0) rfl (by decide) rfl (fun ls hl => ?_)
        refine lv_goto (tgt := 2) hx hb dX12_mayBeLast_19 (by decide) ?_
        exact ih (i1 + 1) (ug s0 i1 0) (by omega) (by omega) (ini_s hsa) (by omega) H locs hP hD hS ls (lv_sub hl [0, 1, 2] rfl)
  exact L2 _ 0 (ρ 40) (by omega) (by omega) (fun c a b => by omega) (Nat.lt_succ_self _) H locs hP hD hS ls (lv_sub hl [0, 1, 2] rfl)
set_option maxHeartbeats 4000000 in
theorem m_lastM (l : Launch) (G : va_G) (am : Nat → Nat) (ty : Nat → ClassId) (τ ρ : mem) (cs : va_W)  (F : mem) (hF : okF F) (hSm : Sim F τ) (hSt : wfS (ρ 27) (ρ 28)) (hZ : zerF F) (hci : CIx F (ρ 36 0) (ρ 37 0) (ρ 31) (ρ 32) (ρ 33 0) (ρ 29) (ρ 30 0) (ρ 39)) : cM l yX12_last (ws_ yX12_last cX12_last 3 (some .int)) (rm4 5 0 0 130) G ty (wM am ty τ ρ ++ cs) [.ref (am 0)] 0 0 (fun r W' => ∃ (z : Int) (wT : Int → Int) (qT : Int → Int) (gm : Int → Int) (nm : Int) (la : Int → Int) (me : Int → Int) (n8 : Int) (qu : Int → Int) (qd : Int → Int) (is : Int) (il : Int) (sn : Int → Int), r = some (.int (ii z)) ∧ W' = wM am ty τ (up (up (up (up (up (up (up (up (up (up (up (up (up ρ 14 (sc (0))) 27 wT) 28 qT) 29 gm) 30 (sc (nm))) 31 la) 32 me) 33 (sc (n8))) 34 qu) 35 qd) 36 (sc (is))) 37 (sc (il))) 40 sn) ++ cs ∧ (wfS wT qT) ∧ (CIx F is il la me n8 gm nm (ρ 39)) ∧ (IsLast F (cdv (F 6) (F 7)) z)) := by
  refine cM.of (by decide) (Nat.le_of_ble_eq_true rfl) ?_
  intro p e s m args below meth c A Q H locs hQ hx hb hr hml hown hlk hname hts hK hP hD hS hA hX ls hl
  have hl : lv_has ls 3 [(0, .ref (am 0))] := hl
  obtain ⟨hW, hWS, hlg⟩ := id hF
  obtain ⟨hw0, hw1, hw2, hw3, hw4, hw5, h8a, h8b, h9a, h9b, h10a, h10b⟩ := id hW
  obtain ⟨mL, mP, mR, mC, mK, mM, mA, mB, mD⟩ := id hSm
  refine lv_aload_n hx hb dX12_last_0 rfl (lv_at hl 0 rfl) ?_
  refine li_iconst hx hb dX12_last_1 ?_
  refine va_put (D := G) (ci := 11) (v := .int (ii 0)) (ty := .int) (C := RX12) (T := TX12) (N := 52) hx hb hts in_X12 tyX12 tyX12_ok nmX12 hown hK hP hD hS 0 (aM_0 _ _ _ _ _) rfl 14 (by decide) (hts _ q1279) (fun _ h9 => h9) rfl (tyX12_ok 14 (by decide)) rfl rfl (Nat.le_of_ble_eq_true rfl) dX12_last_2 (fun H locs hP hD hS => ?_)
  have hP : va_P G gcl (wM am ty τ (up ρ 14 (sc (0))) ++ cs) H := hP
  have hD : va_D A (wM am ty τ (up ρ 14 (sc (0))) ++ cs) := hD
  refine lv_aload_n hx hb dX12_last_5 rfl (lv_at hl 0 rfl) ?_
  refine kM (va_runV (As := []) (rest := []) ⟨hx, hb, hml, hown, hts⟩ ((m_seekNowM l G am ty τ (up ρ 14 (sc (0))) cs _ (show okF F from hF) (show Sim F τ from hSm) (show wfS (ρ 27) (ρ 28) from hSt) (show zerF F from hZ) (show CIx F (ρ 36 0) (ρ 37 0) (ρ 31) (ρ 32) (ρ 33 0) (ρ 29) (ρ 30 0) (ρ 39) from hci)) H.size) (cwV 0 hts (lw_V q1590 q1592 qs59 q87 q1593) rfl rfl rfl (by decide +kernel) ⟨Nat.le_of_ble_eq_true rfl, Nat.le_of_ble_eq_true rfl⟩) (pvM (r := (RX12, TX12, 52)) hK hP hD hX 0 (aM_0 _ _ _ _ _) rfl) rfl rfl hl.1 rfl (lv_room (Nat.le_of_ble_eq_true rfl)) dX12_last_6 ⟨Nat.le_of_ble_eq_true rfl, Nat.le_of_ble_eq_true rfl⟩) hD hS hA (fun v ws1 H locs hv hP hD hS => ?_)
  obtain ⟨wT6, qT6, gm6, nm6, la6, me6, n86, qu6, qd6, is6, il6, rfl, rfl, hSt6, hSo6, hCL6, hnm6, hci6, hi16, hil6⟩ := hv
  have hP : va_P G gcl (wM am ty τ (up (up (up (up (up (up (up (up (up (up (up (up ρ 14 (sc (0))) 27 wT6) 28 qT6) 29 gm6) 30 (sc (nm6))) 31 la6) 32 me6) 33 (sc (n86))) 34 qu6) 35 qd6) 36 (sc (is6))) 37 (sc (il6))) ++ cs) H := hP
  have hD : va_D A (wM am ty τ (up (up (up (up (up (up (up (up (up (up (up (up ρ 14 (sc (0))) 27 wT6) 28 qT6) 29 gm6) 30 (sc (nm6))) 31 la6) 32 me6) 33 (sc (n86))) 34 qu6) 35 qd6) 36 (sc (is6))) 37 (sc (il6))) ++ cs) := hD
  have hSt6 : wfS wT6 qT6 := hSt6
  have hSo6 : Sought (EF F) (cdv (F 6) (F 7)) la6 me6 n86 := hSo6
  have hCL6 : LL (cand F) gm6 nm6 70000 := hCL6
  have hnm6 : 0 ≤ nm6 ∧ nm6 ≤ 2400 := hnm6
  have hci6 : CIx F is6 il6 la6 me6 n86 gm6 nm6 (ρ 39) := hci6
  have hi16 : is6 = 1 := hi16
  have hil6 : il6 = 0 ∨ il6 = 1 := hil6
  refine li_iconst hx hb dX12_last_9 ?_
  refine lv_istore_n (lv' := [(1, .int (ii 0)), (0, .ref (am 0))]) hx hb dX12_last_10 rfl hl (by decide) rfl (fun ls hl => ?_)
  refine li_iconst hx hb dX12_last_11 ?_
  refine lv_istore_n (lv' := [(2, .int (ii 0)), (1, .int (ii 0)), (0, .ref (am 0))]) hx hb dX12_last_12 rfl hl (by decide) rfl (fun ls hl => ?_)
  have L13 : ∀ (n : Nat) (p1 : Int) (s1 : Int) (wT : Int → Int) (qT : Int → Int) (wt : Int → Int) (sn : Int → Int) (_ : wfS wT qT) (_ : 0 ≤ p1) (_ : p1 ≤ F 9 0) (_ : lastR (lastB F la6) p1 s1) (_ : (F 9 0 - p1).toNat < n) (H : Heap) (locs : List Loc) (_ : va_P G gcl (wM am ty τ (up (up (up (up (up (up (up (up (up (up (up (up (up ρ 14 (sc (0))) 29 gm6) 30 (sc (nm6))) 31 la6) 32 me6) 33 (sc (n86))) 35 qd6) 36 (sc (is6))) 37 (sc (il6))) 27 wT) 28 qT) 34 wt) 40 sn) ++ cs) H) (_ : va_D A (wM am ty τ (up (up (up (up (up (up (up (up (up (up (up (up (up ρ 14 (sc (0))) 29 gm6) 30 (sc (nm6))) 31 la6) 32 me6) 33 (sc (n86))) 35 qd6) 36 (sc (is6))) 37 (sc (il6))) 27 wT) 28 qT) 34 wt) 40 sn) ++ cs)) (_ : va_S A s.heap H locs) (ls : Array Slot), lv_has ls 3 [(2, .int (ii p1)), (1, .int (ii s1)), (0, .ref (am 0))] → W p l e (rm4 5 0 0 130) s m args below meth c H locs 0 0 Q (F0 m 13 ls []) := by
    intro n
    induction n with
    | zero =>
      intro p1 s1 wT qT wt sn hSt hp0 hp1 hlr hm
      exact absurd hm (Nat.not_lt_zero _)
    | succ n ih =>
      intro p1 s1 wT qT wt sn hSt hp0 hp1 hlr hm H locs hP hD hS ls hl
      refine lv_iload_n hx hb dX12_last_13 rfl (lv_at hl 0 rfl) ?_
      refine lv_aload_n hx hb dX12_last_14 rfl (lv_at hl 2 rfl) ?_
      refine va_get (D := G) (ci := 11) (v := .int (ii (τ 5 0))) (C := RX12) (T := TX12) (N := 52) hx hb hts in_X12 hown hK hP 0 (aM_0 _ _ _ _ _) rfl 5 (by decide) (hts _ q1270) (fun _ h9 => h9) rfl dX12_last_15 ?_
      refine li_icmp_ge (tgt := 45) hx hb ⟨by omega, by omega⟩ ⟨by omega, by omega⟩ dX12_last_18 (by decide) (fun c18 => ?_) (fun c18 => ?_)
      · refine lv_iload_n hx hb dX12_last_45 rfl (lv_at hl 1 rfl) ?_
        exact eMi hQ hx hb hr hlk hP hD hS (Nat.le_of_ble_eq_true rfl) (Nat.le_of_ble_eq_true rfl) dX12_last_46 (⟨s1, wT, qT, gm6, nm6, la6, me6, n86, wt, qd6, is6, il6, sn, rfl, rfl, hSt, hci6, ⟨_, _, _, hSo6, by rw [show F 9 0 = p1 by omega]; exact hlr⟩⟩)
      · have hs8 := hlr.1
        have hs9 := hlr.2.1
        refine lv_iload_n hx hb dX12_last_21 rfl (lv_at hl 1 rfl) ?_
        refine lv_aload_n hx hb dX12_last_22 rfl (lv_at hl 2 rfl) ?_
        refine lv_iload_n hx hb dX12_last_23 rfl (lv_at hl 0 rfl) ?_
        refine kM (va_runV (As := [.int (ii p1)]) (rest := [.int (ii s1)]) ⟨hx, hb, hml, hown, hts⟩ ((m_mayBeLastM l G am ty τ (up (up (up (up (up (up (up (up (up (up (up (up (up ρ 14 (sc (0))) 29 gm6) 30 (sc (nm6))) 31 la6) 32 me6) 33 (sc (n86))) 35 qd6) 36 (sc (is6))) 37 (sc (il6))) 27 wT) 28 qT) 34 wt) 40 sn) cs p1 _ (show okF F from hF) (show Sim F τ from hSm) (show wfS wT qT from hSt) (show LL (cand F) gm6 nm6 70000 from hCL6) (show 0 ≤ nm6 ∧ nm6 ≤ 2400 from hnm6) (show Sought (EF F) (cdv (F 6) (F 7)) la6 me6 n86 from hSo6) (show 0 ≤ p1 ∧ p1 < F 9 0 from ⟨hp0, by omega⟩)) H.size) (cwV 1 hts (lw_V q1636 q1638 qs66 q87 q1639) rfl rfl rfl (by decide +kernel) ⟨Nat.le_of_ble_eq_true rfl, Nat.le_of_ble_eq_true rfl⟩) (pvM (r := (RX12, TX12, 52)) hK hP hD hX 0 (aM_0 _ _ _ _ _) rfl) rfl rfl hl.1 rfl (lv_room (Nat.le_of_ble_eq_true rfl)) dX12_last_24 ⟨Nat.le_of_ble_eq_true rfl, Nat.le_of_ble_eq_true rfl⟩) hD hS hA (fun v ws1 H locs hv hP hD hS => ?_)
        obtain ⟨z24, wT24, qT24, qu24, sn24, rfl, rfl, hSt24, ⟨rfl, hb24⟩ | ⟨rfl, hb24⟩⟩ := hv
        · have hP : va_P G gcl (wM am ty τ (up (up (up (up (up (up (up (up (up (up (up (up (up ρ 14 (sc (0))) 29 gm6) 30 (sc (nm6))) 31 la6) 32 me6) 33 (sc (n86))) 35 qd6) 36 (sc (is6))) 37 (sc (il6))) 27 wT24) 28 qT24) 34 qu24) 40 sn24) ++ cs) H := hP
          have hD : va_D A (wM am ty τ (up (up (up (up (up (up (up (up (up (up (up (up (up ρ 14 (sc (0))) 29 gm6) 30 (sc (nm6))) 31 la6) 32 me6) 33 (sc (n86))) 35 qd6) 36 (sc (is6))) 37 (sc (il6))) 27 wT24) 28 qT24) 34 qu24) 40 sn24) ++ cs) := hD
          have hSt24 : wfS wT24 qT24 := hSt24
          have hb24 : lastB F la6 p1 := hb24
          refine li_if_eq (tgt := 36) hx hb ⟨by decide, by decide⟩ dX12_last_27 (by decide) (fun c27 => ?_) (fun c27 => ?_)
          · exact absurd c27 (by decide)
          · refine li_iconst hx hb dX12_last_30 ?_
            refine lv_iload_n hx hb dX12_last_31 rfl (lv_at hl 0 rfl) ?_
            refine lv_ishl hx hb dX12_last_32 ?_
            refine li_topx (z := p2 p1) (ii_shl1 hp0 (by omega)) ?_
            refine lv_goto (tgt := 37) hx hb dX12_last_33 (by decide) ?_
            refine lv_ior hx hb dX12_last_37 ?_
            refine li_topx (z := orv s1 p1) (ii_orp hs8 hs9 hp0 (by omega)) ?_
            refine lv_istore_n (lv' := [(1, .int (ii (orv s1 p1))), (2, .int (ii p1)), (0, .ref (am 0))]) hx hb dX12_last_38 rfl hl (by decide) rfl (fun ls hl => ?_)
            refine li_iinc (a := p1) (lv' := [(2, .int (ii (p1 + 1))), (1, .int (ii (orv s1 p1))), (0, .ref (am 0))]) hx hb dX12_last_39 hl (k := 1) rfl (by decide) rfl (fun ls hl => ?_)
            refine lv_goto (tgt := 13) hx hb dX12_last_42 (by decide) ?_
            exact ih (p1 + 1) (orv s1 p1) wT24 qT24 qu24 sn24 (hSt24) (by omega) (by omega) (lastR_t hlr hb24 hp0 (by omega)) (by omega) H locs hP hD hS ls (lv_sub hl [0, 1, 2] rfl)
        · have hP : va_P G gcl (wM am ty τ (up (up (up (up (up (up (up (up (up (up (up (up (up ρ 14 (sc (0))) 29 gm6) 30 (sc (nm6))) 31 la6) 32 me6) 33 (sc (n86))) 35 qd6) 36 (sc (is6))) 37 (sc (il6))) 27 wT24) 28 qT24) 34 qu24) 40 sn24) ++ cs) H := hP
          have hD : va_D A (wM am ty τ (up (up (up (up (up (up (up (up (up (up (up (up (up ρ 14 (sc (0))) 29 gm6) 30 (sc (nm6))) 31 la6) 32 me6) 33 (sc (n86))) 35 qd6) 36 (sc (is6))) 37 (sc (il6))) 27 wT24) 28 qT24) 34 qu24) 40 sn24) ++ cs) := hD
          have hSt24 : wfS wT24 qT24 := hSt24
          have hb24 : ¬ lastB F la6 p1 := hb24
          refine li_if_eq (tgt := 36) hx hb ⟨by decide, by decide⟩ dX12_last_27 (by decide) (fun c27 => ?_) (fun c27 => ?_)
          · refine li_iconst hx hb dX12_last_36 ?_
            refine lv_ior hx hb dX12_last_37 ?_
            refine li_topx (z := s1) (ii_or0 hs8 hs9) ?_
            refine lv_istore_n (lv' := [(1, .int (ii s1)), (2, .int (ii p1)), (0, .ref (am 0))]) hx hb dX12_last_38 rfl hl (by decide) rfl (fun ls hl => ?_)
            refine li_iinc (a := p1) (lv' := [(2, .int (ii (p1 + 1))), (1, .int (ii s1)), (0, .ref (am 0))]) hx hb dX12_last_39 hl (k := 1) rfl (by decide) rfl (fun ls hl => ?_)
            refine lv_goto (tgt := 13) hx hb dX12_last_42 (by decide) ?_
            exact ih (p1 + 1) s1 wT24 qT24 qu24 sn24 (hSt24) (by omega) (by omega) (lastR_f hlr hb24) (by omega) H locs hP hD hS ls (lv_sub hl [0, 1, 2] rfl)
          · exact absurd c27 (by decide)
  exact L13 _ 0 0 wT6 qT6 qu6 (ρ 40) (hSt6) (by omega) (h9a) (lastR_0 _) (Nat.lt_succ_self _) H locs hP hD hS ls (lv_sub hl [0, 1, 2] rfl)
